/-! Canecrush -/
set_option maxRecDepth 100000
def RX1 : String := "Canecrush"
def TX1 : u_T := fun k => match k with
  | 0 => ("Canecrush", "works", "LCanecrush$Works;", true)
  | 1 => ("Canecrush", "paid", "[I", true)
  | 2 => ("Canecrush", "green", "I", false)
  | 3 => ("Canecrush", "brown", "I", false)
  | 4 => ("Canecrush", "molasses", "I", false)
  | 5 => ("Canecrush", "crystal", "I", false)
  | 6 => ("Canecrush", "spirit", "I", false)
  | 7 => ("Canecrush", "slops", "I", false)
  | 8 => ("Canecrush", "left", "I", false)
  | _ => ("Canecrush", "sum", "J", false)
def tyX1 : Nat → FieldType := fun k => match k with
  | 0 => .object "Canecrush$Works"
  | 1 => .array .int
  | 2 => .int
  | 3 => .int
  | 4 => .int
  | 5 => .int
  | 6 => .int
  | 7 => .int
  | 8 => .int
  | _ => .long
abbrev wsX10 : List Cond := u_ws RX1 TX1 10
theorem nmX1 : ∀ a, a < 10 → ∀ b, b < 10 → a ≠ b → (TX1 a).2.1 ≠ (TX1 b).2.1 := by decide +kernel
theorem tyX1_ok : ∀ k, k < 10 → parseFieldDescriptor (TX1 k).2.2.1 = some (tyX1 k) := by decide +kernel
abbrev cX1_init : ByteArray := prog_1_method_7_code
def yX1_init : MethodName := ⟨RX1, "<init>", "()V"⟩
def dkwX1_init_0 : List UInt8 := [42, 183, 0, 28, 42, 187, 0, 31, 89, 183, 0, 33, 181, 0, 34, 42, 7, 188, 10, 181, 0, 38, 177]
abbrev dktX1_init_0 : List UInt8 := dkwX1_init_0 ++ []
theorem dksX1_init_0 : cX1_init.data.toList.drop 0 = dktX1_init_0 := by decide +kernel
theorem dX1_init_0 : decode cX1_init 0 = .ok (.aload_n 0, 1) := dk_42 (dk_at dksX1_init_0 0 rfl rfl)
theorem dX1_init_1 : decode cX1_init 1 = .ok (.invokespecial 28, 3) := dk_183 0 28 (dk_at dksX1_init_0 1 rfl rfl)
theorem dX1_init_4 : decode cX1_init 4 = .ok (.aload_n 0, 1) := dk_42 (dk_at dksX1_init_0 4 rfl rfl)
theorem dX1_init_5 : decode cX1_init 5 = .ok (.new 31, 3) := dk_187 0 31 (dk_at dksX1_init_0 5 rfl rfl)
theorem dX1_init_8 : decode cX1_init 8 = .ok (.dup, 1) := dk_89 (dk_at dksX1_init_0 8 rfl rfl)
theorem dX1_init_9 : decode cX1_init 9 = .ok (.invokespecial 33, 3) := dk_183 0 33 (dk_at dksX1_init_0 9 rfl rfl)
theorem dX1_init_12 : decode cX1_init 12 = .ok (.putfield 34, 3) := dk_181 0 34 (dk_at dksX1_init_0 12 rfl rfl)
theorem dX1_init_15 : decode cX1_init 15 = .ok (.aload_n 0, 1) := dk_42 (dk_at dksX1_init_0 15 rfl rfl)
theorem dX1_init_16 : decode cX1_init 16 = .ok (.iconst 4, 1) := dk_7 (dk_at dksX1_init_0 16 rfl rfl)
theorem dX1_init_17 : decode cX1_init 17 = .ok (.newarray .int, 2) := dk_188_10 (dk_at dksX1_init_0 17 rfl rfl)
theorem dX1_init_19 : decode cX1_init 19 = .ok (.putfield 38, 3) := dk_181 0 38 (dk_at dksX1_init_0 19 rfl rfl)
theorem dX1_init_22 : decode cX1_init 22 = .ok (.return_, 1) := dk_177 (dk_at dksX1_init_0 22 rfl rfl)
abbrev cX1_meanSweet : ByteArray := prog_1_method_36_code
def yX1_meanSweet : MethodName := ⟨RX1, "meanSweet", "()D"⟩
def dkwX1_meanSweet_1 : List UInt8 := [167, 255, 236, 27, 154, 0, 7, 14, 167, 0, 14, 42, 180, 0, 34, 180, 1, 18, 138, 27, 135, 111, 175]
abbrev dktX1_meanSweet_1 : List UInt8 := dkwX1_meanSweet_1 ++ []
def dkwX1_meanSweet_0 : List UInt8 := [3, 60, 3, 61, 28, 7, 162, 0, 21, 27, 42, 180, 0, 34, 180, 0, 250, 28, 46, 96, 60, 132, 2, 1]
abbrev dktX1_meanSweet_0 : List UInt8 := dkwX1_meanSweet_0 ++ dktX1_meanSweet_1
theorem dksX1_meanSweet_0 : cX1_meanSweet.data.toList.drop 0 = dktX1_meanSweet_0 := by decide +kernel
theorem dksX1_meanSweet_1 : cX1_meanSweet.data.toList.drop 24 = dktX1_meanSweet_1 := dk_seg dksX1_meanSweet_0 24 rfl rfl
theorem dX1_meanSweet_0 : decode cX1_meanSweet 0 = .ok (.iconst 0, 1) := dk_3 (dk_at dksX1_meanSweet_0 0 rfl rfl)
theorem dX1_meanSweet_1 : decode cX1_meanSweet 1 = .ok (.istore_n 1, 1) := dk_60 (dk_at dksX1_meanSweet_0 1 rfl rfl)
theorem dX1_meanSweet_2 : decode cX1_meanSweet 2 = .ok (.iconst 0, 1) := dk_3 (dk_at dksX1_meanSweet_0 2 rfl rfl)
theorem dX1_meanSweet_3 : decode cX1_meanSweet 3 = .ok (.istore_n 2, 1) := dk_61 (dk_at dksX1_meanSweet_0 3 rfl rfl)
theorem dX1_meanSweet_4 : decode cX1_meanSweet 4 = .ok (.iload_n 2, 1) := dk_28 (dk_at dksX1_meanSweet_0 4 rfl rfl)
theorem dX1_meanSweet_5 : decode cX1_meanSweet 5 = .ok (.iconst 4, 1) := dk_7 (dk_at dksX1_meanSweet_0 5 rfl rfl)
theorem dX1_meanSweet_6 : decode cX1_meanSweet 6 = .ok (.if_icmp .ge 21, 3) := dk_162 0 21 (dk_at dksX1_meanSweet_0 6 rfl rfl)
theorem dX1_meanSweet_9 : decode cX1_meanSweet 9 = .ok (.iload_n 1, 1) := dk_27 (dk_at dksX1_meanSweet_0 9 rfl rfl)
theorem dX1_meanSweet_10 : decode cX1_meanSweet 10 = .ok (.aload_n 0, 1) := dk_42 (dk_at dksX1_meanSweet_0 10 rfl rfl)
theorem dX1_meanSweet_11 : decode cX1_meanSweet 11 = .ok (.getfield 34, 3) := dk_180 0 34 (dk_at dksX1_meanSweet_0 11 rfl rfl)
theorem dX1_meanSweet_14 : decode cX1_meanSweet 14 = .ok (.getfield 250, 3) := dk_180 0 250 (dk_at dksX1_meanSweet_0 14 rfl rfl)
theorem dX1_meanSweet_17 : decode cX1_meanSweet 17 = .ok (.iload_n 2, 1) := dk_28 (dk_at dksX1_meanSweet_0 17 rfl rfl)
theorem dX1_meanSweet_18 : decode cX1_meanSweet 18 = .ok (.iaload, 1) := dk_46 (dk_at dksX1_meanSweet_0 18 rfl rfl)
theorem dX1_meanSweet_19 : decode cX1_meanSweet 19 = .ok (.iadd, 1) := dk_96 (dk_at dksX1_meanSweet_0 19 rfl rfl)
theorem dX1_meanSweet_20 : decode cX1_meanSweet 20 = .ok (.istore_n 1, 1) := dk_60 (dk_at dksX1_meanSweet_0 20 rfl rfl)
theorem dX1_meanSweet_21 : decode cX1_meanSweet 21 = .ok (.iinc 2 1, 3) := dk_132 2 1 (dk_at dksX1_meanSweet_0 21 rfl rfl)
theorem dX1_meanSweet_24 : decode cX1_meanSweet 24 = .ok (.goto (-20), 3) := dk_167 255 236 (dk_at dksX1_meanSweet_1 0 rfl rfl)
theorem dX1_meanSweet_27 : decode cX1_meanSweet 27 = .ok (.iload_n 1, 1) := dk_27 (dk_at dksX1_meanSweet_1 3 rfl rfl)
theorem dX1_meanSweet_28 : decode cX1_meanSweet 28 = .ok (.ifCond .ne 7, 3) := dk_154 0 7 (dk_at dksX1_meanSweet_1 4 rfl rfl)
theorem dX1_meanSweet_31 : decode cX1_meanSweet 31 = .ok (.dconst 0, 1) := dk_14 (dk_at dksX1_meanSweet_1 7 rfl rfl)
theorem dX1_meanSweet_32 : decode cX1_meanSweet 32 = .ok (.goto 14, 3) := dk_167 0 14 (dk_at dksX1_meanSweet_1 8 rfl rfl)
theorem dX1_meanSweet_35 : decode cX1_meanSweet 35 = .ok (.aload_n 0, 1) := dk_42 (dk_at dksX1_meanSweet_1 11 rfl rfl)
theorem dX1_meanSweet_36 : decode cX1_meanSweet 36 = .ok (.getfield 34, 3) := dk_180 0 34 (dk_at dksX1_meanSweet_1 12 rfl rfl)
theorem dX1_meanSweet_39 : decode cX1_meanSweet 39 = .ok (.getfield 274, 3) := dk_180 1 18 (dk_at dksX1_meanSweet_1 15 rfl rfl)
theorem dX1_meanSweet_42 : decode cX1_meanSweet 42 = .ok (.l2d, 1) := dk_138 (dk_at dksX1_meanSweet_1 18 rfl rfl)
theorem dX1_meanSweet_43 : decode cX1_meanSweet 43 = .ok (.iload_n 1, 1) := dk_27 (dk_at dksX1_meanSweet_1 19 rfl rfl)
theorem dX1_meanSweet_44 : decode cX1_meanSweet 44 = .ok (.i2d, 1) := dk_135 (dk_at dksX1_meanSweet_1 20 rfl rfl)
theorem dX1_meanSweet_45 : decode cX1_meanSweet 45 = .ok (.ddiv, 1) := dk_111 (dk_at dksX1_meanSweet_1 21 rfl rfl)
theorem dX1_meanSweet_46 : decode cX1_meanSweet 46 = .ok (.dreturn, 1) := dk_175 (dk_at dksX1_meanSweet_1 22 rfl rfl)
abbrev cX1_digest : ByteArray := prog_1_method_47_code
def yX1_digest : MethodName := ⟨RX1, "digest", "()J"⟩
def dkwX1_digest_11 : List UInt8 := [182, 1, 33, 182, 1, 56, 42, 42, 16, 20, 182, 1, 36, 182, 1, 56, 42, 180, 1, 49, 173]
abbrev dktX1_digest_11 : List UInt8 := dkwX1_digest_11 ++ []
def dkwX1_digest_10 : List UInt8 := [42, 180, 0, 34, 180, 0, 109, 182, 0, 54, 4, 100, 16, 40, 182, 1, 30, 182, 1, 56, 42, 42, 16, 40]
abbrev dktX1_digest_10 : List UInt8 := dkwX1_digest_10 ++ dktX1_digest_11
def dkwX1_digest_9 : List UInt8 := [167, 255, 238, 132, 1, 1, 167, 255, 225, 42, 180, 0, 34, 180, 0, 109, 182, 0, 54, 158, 0, 25, 42, 42]
abbrev dktX1_digest_9 : List UInt8 := dkwX1_digest_9 ++ dktX1_digest_10
def dkwX1_digest_8 : List UInt8 := [162, 0, 32, 3, 61, 28, 6, 163, 0, 19, 42, 42, 27, 28, 182, 0, 253, 182, 1, 56, 132, 2, 1]
abbrev dktX1_digest_8 : List UInt8 := dkwX1_digest_8 ++ dktX1_digest_9
def dkwX1_digest_7 : List UInt8 := [182, 0, 244, 182, 1, 56, 132, 2, 1, 167, 255, 238, 132, 1, 1, 167, 255, 216, 3, 60, 27, 7]
abbrev dktX1_digest_7 : List UInt8 := dkwX1_digest_7 ++ dktX1_digest_8
def dkwX1_digest_6 : List UInt8 := [180, 0, 34, 180, 0, 72, 182, 0, 54, 162, 0, 32, 3, 61, 28, 6, 163, 0, 19, 42, 42, 27, 28]
abbrev dktX1_digest_6 : List UInt8 := dkwX1_digest_6 ++ dktX1_digest_7
def dkwX1_digest_5 : List UInt8 := [182, 0, 238, 182, 1, 56, 132, 2, 1, 167, 255, 237, 132, 1, 1, 167, 255, 215, 3, 60, 27, 42]
abbrev dktX1_digest_5 : List UInt8 := dkwX1_digest_5 ++ dktX1_digest_6
def dkwX1_digest_4 : List UInt8 := [180, 0, 34, 180, 0, 109, 182, 0, 54, 162, 0, 33, 3, 61, 28, 16, 6, 163, 0, 19, 42, 42, 27, 28]
abbrev dktX1_digest_4 : List UInt8 := dkwX1_digest_4 ++ dktX1_digest_5
def dkwX1_digest_3 : List UInt8 := [27, 16, 20, 16, 25, 5, 182, 1, 45, 182, 1, 56, 132, 1, 1, 167, 255, 201, 3, 60, 27, 42]
abbrev dktX1_digest_3 : List UInt8 := dkwX1_digest_3 ++ dktX1_digest_4
def dkwX1_digest_2 : List UInt8 := [28, 16, 11, 163, 0, 19, 42, 42, 27, 28, 182, 0, 218, 182, 1, 56, 132, 2, 1, 167, 255, 237, 42, 42]
abbrev dktX1_digest_2 : List UInt8 := dkwX1_digest_2 ++ dktX1_digest_3
def dkwX1_digest_1 : List UInt8 := [132, 1, 1, 167, 255, 238, 3, 60, 27, 42, 180, 0, 34, 180, 0, 50, 182, 0, 54, 162, 0, 47, 3, 61]
abbrev dktX1_digest_1 : List UInt8 := dkwX1_digest_1 ++ dktX1_digest_2
def dkwX1_digest_0 : List UInt8 := [42, 20, 1, 54, 181, 1, 49, 3, 60, 27, 16, 19, 163, 0, 18, 42, 42, 27, 182, 1, 15, 182, 1, 56]
abbrev dktX1_digest_0 : List UInt8 := dkwX1_digest_0 ++ dktX1_digest_1
theorem dksX1_digest_0 : cX1_digest.data.toList.drop 0 = dktX1_digest_0 := by decide +kernel
theorem dksX1_digest_1 : cX1_digest.data.toList.drop 24 = dktX1_digest_1 := dk_seg dksX1_digest_0 24 rfl rfl
theorem dksX1_digest_2 : cX1_digest.data.toList.drop 48 = dktX1_digest_2 := dk_seg dksX1_digest_1 24 rfl rfl
theorem dksX1_digest_3 : cX1_digest.data.toList.drop 72 = dktX1_digest_3 := dk_seg dksX1_digest_2 24 rfl rfl
theorem dksX1_digest_4 : cX1_digest.data.toList.drop 94 = dktX1_digest_4 := dk_seg dksX1_digest_3 22 rfl rfl
theorem dksX1_digest_5 : cX1_digest.data.toList.drop 118 = dktX1_digest_5 := dk_seg dksX1_digest_4 24 rfl rfl
theorem dksX1_digest_6 : cX1_digest.data.toList.drop 140 = dktX1_digest_6 := dk_seg dksX1_digest_5 22 rfl rfl
theorem dksX1_digest_7 : cX1_digest.data.toList.drop 163 = dktX1_digest_7 := dk_seg dksX1_digest_6 23 rfl rfl
theorem dksX1_digest_8 : cX1_digest.data.toList.drop 185 = dktX1_digest_8 := dk_seg dksX1_digest_7 22 rfl rfl
theorem dksX1_digest_9 : cX1_digest.data.toList.drop 208 = dktX1_digest_9 := dk_seg dksX1_digest_8 23 rfl rfl
theorem dksX1_digest_10 : cX1_digest.data.toList.drop 232 = dktX1_digest_10 := dk_seg dksX1_digest_9 24 rfl rfl
theorem dksX1_digest_11 : cX1_digest.data.toList.drop 256 = dktX1_digest_11 := dk_seg dksX1_digest_10 24 rfl rfl
theorem dX1_digest_0 : decode cX1_digest 0 = .ok (.aload_n 0, 1) := dk_42 (dk_at dksX1_digest_0 0 rfl rfl)
theorem dX1_digest_1 : decode cX1_digest 1 = .ok (.ldc2_w 310, 3) := dk_20 1 54 (dk_at dksX1_digest_0 1 rfl rfl)
theorem dX1_digest_4 : decode cX1_digest 4 = .ok (.putfield 305, 3) := dk_181 1 49 (dk_at dksX1_digest_0 4 rfl rfl)
theorem dX1_digest_7 : decode cX1_digest 7 = .ok (.iconst 0, 1) := dk_3 (dk_at dksX1_digest_0 7 rfl rfl)
theorem dX1_digest_8 : decode cX1_digest 8 = .ok (.istore_n 1, 1) := dk_60 (dk_at dksX1_digest_0 8 rfl rfl)
theorem dX1_digest_9 : decode cX1_digest 9 = .ok (.iload_n 1, 1) := dk_27 (dk_at dksX1_digest_0 9 rfl rfl)
theorem dX1_digest_10 : decode cX1_digest 10 = .ok (.bipush 19, 2) := dk_16 19 (dk_at dksX1_digest_0 10 rfl rfl)
theorem dX1_digest_12 : decode cX1_digest 12 = .ok (.if_icmp .gt 18, 3) := dk_163 0 18 (dk_at dksX1_digest_0 12 rfl rfl)
theorem dX1_digest_15 : decode cX1_digest 15 = .ok (.aload_n 0, 1) := dk_42 (dk_at dksX1_digest_0 15 rfl rfl)
theorem dX1_digest_16 : decode cX1_digest 16 = .ok (.aload_n 0, 1) := dk_42 (dk_at dksX1_digest_0 16 rfl rfl)
theorem dX1_digest_17 : decode cX1_digest 17 = .ok (.iload_n 1, 1) := dk_27 (dk_at dksX1_digest_0 17 rfl rfl)
theorem dX1_digest_18 : decode cX1_digest 18 = .ok (.invokevirtual 271, 3) := dk_182 1 15 (dk_at dksX1_digest_0 18 rfl rfl)
theorem dX1_digest_21 : decode cX1_digest 21 = .ok (.invokevirtual 312, 3) := dk_182 1 56 (dk_at dksX1_digest_0 21 rfl rfl)
theorem dX1_digest_24 : decode cX1_digest 24 = .ok (.iinc 1 1, 3) := dk_132 1 1 (dk_at dksX1_digest_1 0 rfl rfl)
theorem dX1_digest_27 : decode cX1_digest 27 = .ok (.goto (-18), 3) := dk_167 255 238 (dk_at dksX1_digest_1 3 rfl rfl)
theorem dX1_digest_30 : decode cX1_digest 30 = .ok (.iconst 0, 1) := dk_3 (dk_at dksX1_digest_1 6 rfl rfl)
theorem dX1_digest_31 : decode cX1_digest 31 = .ok (.istore_n 1, 1) := dk_60 (dk_at dksX1_digest_1 7 rfl rfl)
theorem dX1_digest_32 : decode cX1_digest 32 = .ok (.iload_n 1, 1) := dk_27 (dk_at dksX1_digest_1 8 rfl rfl)
theorem dX1_digest_33 : decode cX1_digest 33 = .ok (.aload_n 0, 1) := dk_42 (dk_at dksX1_digest_1 9 rfl rfl)
theorem dX1_digest_34 : decode cX1_digest 34 = .ok (.getfield 34, 3) := dk_180 0 34 (dk_at dksX1_digest_1 10 rfl rfl)
theorem dX1_digest_37 : decode cX1_digest 37 = .ok (.getfield 50, 3) := dk_180 0 50 (dk_at dksX1_digest_1 13 rfl rfl)
theorem dX1_digest_40 : decode cX1_digest 40 = .ok (.invokevirtual 54, 3) := dk_182 0 54 (dk_at dksX1_digest_1 16 rfl rfl)
theorem dX1_digest_43 : decode cX1_digest 43 = .ok (.if_icmp .ge 47, 3) := dk_162 0 47 (dk_at dksX1_digest_1 19 rfl rfl)
theorem dX1_digest_46 : decode cX1_digest 46 = .ok (.iconst 0, 1) := dk_3 (dk_at dksX1_digest_1 22 rfl rfl)
theorem dX1_digest_47 : decode cX1_digest 47 = .ok (.istore_n 2, 1) := dk_61 (dk_at dksX1_digest_1 23 rfl rfl)
theorem dX1_digest_48 : decode cX1_digest 48 = .ok (.iload_n 2, 1) := dk_28 (dk_at dksX1_digest_2 0 rfl rfl)
theorem dX1_digest_49 : decode cX1_digest 49 = .ok (.bipush 11, 2) := dk_16 11 (dk_at dksX1_digest_2 1 rfl rfl)
theorem dX1_digest_51 : decode cX1_digest 51 = .ok (.if_icmp .gt 19, 3) := dk_163 0 19 (dk_at dksX1_digest_2 3 rfl rfl)
theorem dX1_digest_54 : decode cX1_digest 54 = .ok (.aload_n 0, 1) := dk_42 (dk_at dksX1_digest_2 6 rfl rfl)
theorem dX1_digest_55 : decode cX1_digest 55 = .ok (.aload_n 0, 1) := dk_42 (dk_at dksX1_digest_2 7 rfl rfl)
theorem dX1_digest_56 : decode cX1_digest 56 = .ok (.iload_n 1, 1) := dk_27 (dk_at dksX1_digest_2 8 rfl rfl)
theorem dX1_digest_57 : decode cX1_digest 57 = .ok (.iload_n 2, 1) := dk_28 (dk_at dksX1_digest_2 9 rfl rfl)
theorem dX1_digest_58 : decode cX1_digest 58 = .ok (.invokevirtual 218, 3) := dk_182 0 218 (dk_at dksX1_digest_2 10 rfl rfl)
theorem dX1_digest_61 : decode cX1_digest 61 = .ok (.invokevirtual 312, 3) := dk_182 1 56 (dk_at dksX1_digest_2 13 rfl rfl)
theorem dX1_digest_64 : decode cX1_digest 64 = .ok (.iinc 2 1, 3) := dk_132 2 1 (dk_at dksX1_digest_2 16 rfl rfl)
theorem dX1_digest_67 : decode cX1_digest 67 = .ok (.goto (-19), 3) := dk_167 255 237 (dk_at dksX1_digest_2 19 rfl rfl)
theorem dX1_digest_70 : decode cX1_digest 70 = .ok (.aload_n 0, 1) := dk_42 (dk_at dksX1_digest_2 22 rfl rfl)
theorem dX1_digest_71 : decode cX1_digest 71 = .ok (.aload_n 0, 1) := dk_42 (dk_at dksX1_digest_2 23 rfl rfl)
theorem dX1_digest_72 : decode cX1_digest 72 = .ok (.iload_n 1, 1) := dk_27 (dk_at dksX1_digest_3 0 rfl rfl)
theorem dX1_digest_73 : decode cX1_digest 73 = .ok (.bipush 20, 2) := dk_16 20 (dk_at dksX1_digest_3 1 rfl rfl)
theorem dX1_digest_75 : decode cX1_digest 75 = .ok (.bipush 25, 2) := dk_16 25 (dk_at dksX1_digest_3 3 rfl rfl)
theorem dX1_digest_77 : decode cX1_digest 77 = .ok (.iconst 2, 1) := dk_5 (dk_at dksX1_digest_3 5 rfl rfl)
theorem dX1_digest_78 : decode cX1_digest 78 = .ok (.invokevirtual 301, 3) := dk_182 1 45 (dk_at dksX1_digest_3 6 rfl rfl)
theorem dX1_digest_81 : decode cX1_digest 81 = .ok (.invokevirtual 312, 3) := dk_182 1 56 (dk_at dksX1_digest_3 9 rfl rfl)
theorem dX1_digest_84 : decode cX1_digest 84 = .ok (.iinc 1 1, 3) := dk_132 1 1 (dk_at dksX1_digest_3 12 rfl rfl)
theorem dX1_digest_87 : decode cX1_digest 87 = .ok (.goto (-55), 3) := dk_167 255 201 (dk_at dksX1_digest_3 15 rfl rfl)
theorem dX1_digest_90 : decode cX1_digest 90 = .ok (.iconst 0, 1) := dk_3 (dk_at dksX1_digest_3 18 rfl rfl)
theorem dX1_digest_91 : decode cX1_digest 91 = .ok (.istore_n 1, 1) := dk_60 (dk_at dksX1_digest_3 19 rfl rfl)
theorem dX1_digest_92 : decode cX1_digest 92 = .ok (.iload_n 1, 1) := dk_27 (dk_at dksX1_digest_3 20 rfl rfl)
theorem dX1_digest_93 : decode cX1_digest 93 = .ok (.aload_n 0, 1) := dk_42 (dk_at dksX1_digest_3 21 rfl rfl)
theorem dX1_digest_94 : decode cX1_digest 94 = .ok (.getfield 34, 3) := dk_180 0 34 (dk_at dksX1_digest_4 0 rfl rfl)
theorem dX1_digest_97 : decode cX1_digest 97 = .ok (.getfield 109, 3) := dk_180 0 109 (dk_at dksX1_digest_4 3 rfl rfl)
theorem dX1_digest_100 : decode cX1_digest 100 = .ok (.invokevirtual 54, 3) := dk_182 0 54 (dk_at dksX1_digest_4 6 rfl rfl)
theorem dX1_digest_103 : decode cX1_digest 103 = .ok (.if_icmp .ge 33, 3) := dk_162 0 33 (dk_at dksX1_digest_4 9 rfl rfl)
theorem dX1_digest_106 : decode cX1_digest 106 = .ok (.iconst 0, 1) := dk_3 (dk_at dksX1_digest_4 12 rfl rfl)
theorem dX1_digest_107 : decode cX1_digest 107 = .ok (.istore_n 2, 1) := dk_61 (dk_at dksX1_digest_4 13 rfl rfl)
theorem dX1_digest_108 : decode cX1_digest 108 = .ok (.iload_n 2, 1) := dk_28 (dk_at dksX1_digest_4 14 rfl rfl)
theorem dX1_digest_109 : decode cX1_digest 109 = .ok (.bipush 6, 2) := dk_16 6 (dk_at dksX1_digest_4 15 rfl rfl)
theorem dX1_digest_111 : decode cX1_digest 111 = .ok (.if_icmp .gt 19, 3) := dk_163 0 19 (dk_at dksX1_digest_4 17 rfl rfl)
theorem dX1_digest_114 : decode cX1_digest 114 = .ok (.aload_n 0, 1) := dk_42 (dk_at dksX1_digest_4 20 rfl rfl)
theorem dX1_digest_115 : decode cX1_digest 115 = .ok (.aload_n 0, 1) := dk_42 (dk_at dksX1_digest_4 21 rfl rfl)
theorem dX1_digest_116 : decode cX1_digest 116 = .ok (.iload_n 1, 1) := dk_27 (dk_at dksX1_digest_4 22 rfl rfl)
theorem dX1_digest_117 : decode cX1_digest 117 = .ok (.iload_n 2, 1) := dk_28 (dk_at dksX1_digest_4 23 rfl rfl)
theorem dX1_digest_118 : decode cX1_digest 118 = .ok (.invokevirtual 238, 3) := dk_182 0 238 (dk_at dksX1_digest_5 0 rfl rfl)
theorem dX1_digest_121 : decode cX1_digest 121 = .ok (.invokevirtual 312, 3) := dk_182 1 56 (dk_at dksX1_digest_5 3 rfl rfl)
theorem dX1_digest_124 : decode cX1_digest 124 = .ok (.iinc 2 1, 3) := dk_132 2 1 (dk_at dksX1_digest_5 6 rfl rfl)
theorem dX1_digest_127 : decode cX1_digest 127 = .ok (.goto (-19), 3) := dk_167 255 237 (dk_at dksX1_digest_5 9 rfl rfl)
theorem dX1_digest_130 : decode cX1_digest 130 = .ok (.iinc 1 1, 3) := dk_132 1 1 (dk_at dksX1_digest_5 12 rfl rfl)
theorem dX1_digest_133 : decode cX1_digest 133 = .ok (.goto (-41), 3) := dk_167 255 215 (dk_at dksX1_digest_5 15 rfl rfl)
theorem dX1_digest_136 : decode cX1_digest 136 = .ok (.iconst 0, 1) := dk_3 (dk_at dksX1_digest_5 18 rfl rfl)
theorem dX1_digest_137 : decode cX1_digest 137 = .ok (.istore_n 1, 1) := dk_60 (dk_at dksX1_digest_5 19 rfl rfl)
theorem dX1_digest_138 : decode cX1_digest 138 = .ok (.iload_n 1, 1) := dk_27 (dk_at dksX1_digest_5 20 rfl rfl)
theorem dX1_digest_139 : decode cX1_digest 139 = .ok (.aload_n 0, 1) := dk_42 (dk_at dksX1_digest_5 21 rfl rfl)
theorem dX1_digest_140 : decode cX1_digest 140 = .ok (.getfield 34, 3) := dk_180 0 34 (dk_at dksX1_digest_6 0 rfl rfl)
theorem dX1_digest_143 : decode cX1_digest 143 = .ok (.getfield 72, 3) := dk_180 0 72 (dk_at dksX1_digest_6 3 rfl rfl)
theorem dX1_digest_146 : decode cX1_digest 146 = .ok (.invokevirtual 54, 3) := dk_182 0 54 (dk_at dksX1_digest_6 6 rfl rfl)
theorem dX1_digest_149 : decode cX1_digest 149 = .ok (.if_icmp .ge 32, 3) := dk_162 0 32 (dk_at dksX1_digest_6 9 rfl rfl)
theorem dX1_digest_152 : decode cX1_digest 152 = .ok (.iconst 0, 1) := dk_3 (dk_at dksX1_digest_6 12 rfl rfl)
theorem dX1_digest_153 : decode cX1_digest 153 = .ok (.istore_n 2, 1) := dk_61 (dk_at dksX1_digest_6 13 rfl rfl)
theorem dX1_digest_154 : decode cX1_digest 154 = .ok (.iload_n 2, 1) := dk_28 (dk_at dksX1_digest_6 14 rfl rfl)
theorem dX1_digest_155 : decode cX1_digest 155 = .ok (.iconst 3, 1) := dk_6 (dk_at dksX1_digest_6 15 rfl rfl)
theorem dX1_digest_156 : decode cX1_digest 156 = .ok (.if_icmp .gt 19, 3) := dk_163 0 19 (dk_at dksX1_digest_6 16 rfl rfl)
theorem dX1_digest_159 : decode cX1_digest 159 = .ok (.aload_n 0, 1) := dk_42 (dk_at dksX1_digest_6 19 rfl rfl)
theorem dX1_digest_160 : decode cX1_digest 160 = .ok (.aload_n 0, 1) := dk_42 (dk_at dksX1_digest_6 20 rfl rfl)
theorem dX1_digest_161 : decode cX1_digest 161 = .ok (.iload_n 1, 1) := dk_27 (dk_at dksX1_digest_6 21 rfl rfl)
theorem dX1_digest_162 : decode cX1_digest 162 = .ok (.iload_n 2, 1) := dk_28 (dk_at dksX1_digest_6 22 rfl rfl)
theorem dX1_digest_163 : decode cX1_digest 163 = .ok (.invokevirtual 244, 3) := dk_182 0 244 (dk_at dksX1_digest_7 0 rfl rfl)
theorem dX1_digest_166 : decode cX1_digest 166 = .ok (.invokevirtual 312, 3) := dk_182 1 56 (dk_at dksX1_digest_7 3 rfl rfl)
theorem dX1_digest_169 : decode cX1_digest 169 = .ok (.iinc 2 1, 3) := dk_132 2 1 (dk_at dksX1_digest_7 6 rfl rfl)
theorem dX1_digest_172 : decode cX1_digest 172 = .ok (.goto (-18), 3) := dk_167 255 238 (dk_at dksX1_digest_7 9 rfl rfl)
theorem dX1_digest_175 : decode cX1_digest 175 = .ok (.iinc 1 1, 3) := dk_132 1 1 (dk_at dksX1_digest_7 12 rfl rfl)
theorem dX1_digest_178 : decode cX1_digest 178 = .ok (.goto (-40), 3) := dk_167 255 216 (dk_at dksX1_digest_7 15 rfl rfl)
theorem dX1_digest_181 : decode cX1_digest 181 = .ok (.iconst 0, 1) := dk_3 (dk_at dksX1_digest_7 18 rfl rfl)
theorem dX1_digest_182 : decode cX1_digest 182 = .ok (.istore_n 1, 1) := dk_60 (dk_at dksX1_digest_7 19 rfl rfl)
theorem dX1_digest_183 : decode cX1_digest 183 = .ok (.iload_n 1, 1) := dk_27 (dk_at dksX1_digest_7 20 rfl rfl)
theorem dX1_digest_184 : decode cX1_digest 184 = .ok (.iconst 4, 1) := dk_7 (dk_at dksX1_digest_7 21 rfl rfl)
theorem dX1_digest_185 : decode cX1_digest 185 = .ok (.if_icmp .ge 32, 3) := dk_162 0 32 (dk_at dksX1_digest_8 0 rfl rfl)
theorem dX1_digest_188 : decode cX1_digest 188 = .ok (.iconst 0, 1) := dk_3 (dk_at dksX1_digest_8 3 rfl rfl)
theorem dX1_digest_189 : decode cX1_digest 189 = .ok (.istore_n 2, 1) := dk_61 (dk_at dksX1_digest_8 4 rfl rfl)
theorem dX1_digest_190 : decode cX1_digest 190 = .ok (.iload_n 2, 1) := dk_28 (dk_at dksX1_digest_8 5 rfl rfl)
theorem dX1_digest_191 : decode cX1_digest 191 = .ok (.iconst 3, 1) := dk_6 (dk_at dksX1_digest_8 6 rfl rfl)
theorem dX1_digest_192 : decode cX1_digest 192 = .ok (.if_icmp .gt 19, 3) := dk_163 0 19 (dk_at dksX1_digest_8 7 rfl rfl)
theorem dX1_digest_195 : decode cX1_digest 195 = .ok (.aload_n 0, 1) := dk_42 (dk_at dksX1_digest_8 10 rfl rfl)
theorem dX1_digest_196 : decode cX1_digest 196 = .ok (.aload_n 0, 1) := dk_42 (dk_at dksX1_digest_8 11 rfl rfl)
theorem dX1_digest_197 : decode cX1_digest 197 = .ok (.iload_n 1, 1) := dk_27 (dk_at dksX1_digest_8 12 rfl rfl)
theorem dX1_digest_198 : decode cX1_digest 198 = .ok (.iload_n 2, 1) := dk_28 (dk_at dksX1_digest_8 13 rfl rfl)
theorem dX1_digest_199 : decode cX1_digest 199 = .ok (.invokevirtual 253, 3) := dk_182 0 253 (dk_at dksX1_digest_8 14 rfl rfl)
theorem dX1_digest_202 : decode cX1_digest 202 = .ok (.invokevirtual 312, 3) := dk_182 1 56 (dk_at dksX1_digest_8 17 rfl rfl)
theorem dX1_digest_205 : decode cX1_digest 205 = .ok (.iinc 2 1, 3) := dk_132 2 1 (dk_at dksX1_digest_8 20 rfl rfl)
theorem dX1_digest_208 : decode cX1_digest 208 = .ok (.goto (-18), 3) := dk_167 255 238 (dk_at dksX1_digest_9 0 rfl rfl)
theorem dX1_digest_211 : decode cX1_digest 211 = .ok (.iinc 1 1, 3) := dk_132 1 1 (dk_at dksX1_digest_9 3 rfl rfl)
theorem dX1_digest_214 : decode cX1_digest 214 = .ok (.goto (-31), 3) := dk_167 255 225 (dk_at dksX1_digest_9 6 rfl rfl)
theorem dX1_digest_217 : decode cX1_digest 217 = .ok (.aload_n 0, 1) := dk_42 (dk_at dksX1_digest_9 9 rfl rfl)
theorem dX1_digest_218 : decode cX1_digest 218 = .ok (.getfield 34, 3) := dk_180 0 34 (dk_at dksX1_digest_9 10 rfl rfl)
theorem dX1_digest_221 : decode cX1_digest 221 = .ok (.getfield 109, 3) := dk_180 0 109 (dk_at dksX1_digest_9 13 rfl rfl)
theorem dX1_digest_224 : decode cX1_digest 224 = .ok (.invokevirtual 54, 3) := dk_182 0 54 (dk_at dksX1_digest_9 16 rfl rfl)
theorem dX1_digest_227 : decode cX1_digest 227 = .ok (.ifCond .le 25, 3) := dk_158 0 25 (dk_at dksX1_digest_9 19 rfl rfl)
theorem dX1_digest_230 : decode cX1_digest 230 = .ok (.aload_n 0, 1) := dk_42 (dk_at dksX1_digest_9 22 rfl rfl)
theorem dX1_digest_231 : decode cX1_digest 231 = .ok (.aload_n 0, 1) := dk_42 (dk_at dksX1_digest_9 23 rfl rfl)
theorem dX1_digest_232 : decode cX1_digest 232 = .ok (.aload_n 0, 1) := dk_42 (dk_at dksX1_digest_10 0 rfl rfl)
theorem dX1_digest_233 : decode cX1_digest 233 = .ok (.getfield 34, 3) := dk_180 0 34 (dk_at dksX1_digest_10 1 rfl rfl)
theorem dX1_digest_236 : decode cX1_digest 236 = .ok (.getfield 109, 3) := dk_180 0 109 (dk_at dksX1_digest_10 4 rfl rfl)
theorem dX1_digest_239 : decode cX1_digest 239 = .ok (.invokevirtual 54, 3) := dk_182 0 54 (dk_at dksX1_digest_10 7 rfl rfl)
theorem dX1_digest_242 : decode cX1_digest 242 = .ok (.iconst 1, 1) := dk_4 (dk_at dksX1_digest_10 10 rfl rfl)
theorem dX1_digest_243 : decode cX1_digest 243 = .ok (.isub, 1) := dk_100 (dk_at dksX1_digest_10 11 rfl rfl)
theorem dX1_digest_244 : decode cX1_digest 244 = .ok (.bipush 40, 2) := dk_16 40 (dk_at dksX1_digest_10 12 rfl rfl)
theorem dX1_digest_246 : decode cX1_digest 246 = .ok (.invokevirtual 286, 3) := dk_182 1 30 (dk_at dksX1_digest_10 14 rfl rfl)
theorem dX1_digest_249 : decode cX1_digest 249 = .ok (.invokevirtual 312, 3) := dk_182 1 56 (dk_at dksX1_digest_10 17 rfl rfl)
theorem dX1_digest_252 : decode cX1_digest 252 = .ok (.aload_n 0, 1) := dk_42 (dk_at dksX1_digest_10 20 rfl rfl)
theorem dX1_digest_253 : decode cX1_digest 253 = .ok (.aload_n 0, 1) := dk_42 (dk_at dksX1_digest_10 21 rfl rfl)
theorem dX1_digest_254 : decode cX1_digest 254 = .ok (.bipush 40, 2) := dk_16 40 (dk_at dksX1_digest_10 22 rfl rfl)
theorem dX1_digest_256 : decode cX1_digest 256 = .ok (.invokevirtual 289, 3) := dk_182 1 33 (dk_at dksX1_digest_11 0 rfl rfl)
theorem dX1_digest_259 : decode cX1_digest 259 = .ok (.invokevirtual 312, 3) := dk_182 1 56 (dk_at dksX1_digest_11 3 rfl rfl)
theorem dX1_digest_262 : decode cX1_digest 262 = .ok (.aload_n 0, 1) := dk_42 (dk_at dksX1_digest_11 6 rfl rfl)
theorem dX1_digest_263 : decode cX1_digest 263 = .ok (.aload_n 0, 1) := dk_42 (dk_at dksX1_digest_11 7 rfl rfl)
theorem dX1_digest_264 : decode cX1_digest 264 = .ok (.bipush 20, 2) := dk_16 20 (dk_at dksX1_digest_11 8 rfl rfl)
theorem dX1_digest_266 : decode cX1_digest 266 = .ok (.invokevirtual 292, 3) := dk_182 1 36 (dk_at dksX1_digest_11 10 rfl rfl)
theorem dX1_digest_269 : decode cX1_digest 269 = .ok (.invokevirtual 312, 3) := dk_182 1 56 (dk_at dksX1_digest_11 13 rfl rfl)
theorem dX1_digest_272 : decode cX1_digest 272 = .ok (.aload_n 0, 1) := dk_42 (dk_at dksX1_digest_11 16 rfl rfl)
theorem dX1_digest_273 : decode cX1_digest 273 = .ok (.getfield 305, 3) := dk_180 1 49 (dk_at dksX1_digest_11 17 rfl rfl)
theorem dX1_digest_276 : decode cX1_digest 276 = .ok (.lreturn, 1) := dk_173 (dk_at dksX1_digest_11 20 rfl rfl)
abbrev cX1_manyNow : ByteArray := prog_1_method_34_code
def yX1_manyNow : MethodName := ⟨RX1, "manyNow", "(I)I"⟩
def dkwX1_manyNow_8 : List UInt8 := [180, 1, 12, 172, 42, 180, 0, 123, 172]
abbrev dktX1_manyNow_8 : List UInt8 := dkwX1_manyNow_8 ++ []
def dkwX1_manyNow_7 : List UInt8 := [180, 0, 182, 172, 42, 180, 0, 34, 180, 1, 9, 172, 42, 180, 0, 34, 180, 0, 185, 172, 42, 180, 0, 34]
abbrev dktX1_manyNow_7 : List UInt8 := dkwX1_manyNow_7 ++ dktX1_manyNow_8
def dkwX1_manyNow_6 : List UInt8 := [180, 0, 173, 172, 42, 180, 0, 170, 172, 42, 180, 0, 176, 172, 42, 180, 0, 179, 172, 42, 180, 0, 34]
abbrev dktX1_manyNow_6 : List UInt8 := dkwX1_manyNow_6 ++ dktX1_manyNow_7
def dkwX1_manyNow_5 : List UInt8 := [180, 1, 6, 172, 42, 180, 0, 34, 180, 0, 161, 172, 42, 180, 0, 164, 172, 42, 180, 0, 167, 172, 42]
abbrev dktX1_manyNow_5 : List UInt8 := dkwX1_manyNow_5 ++ dktX1_manyNow_6
def dkwX1_manyNow_4 : List UInt8 := [182, 1, 0, 172, 42, 180, 0, 34, 180, 0, 148, 172, 42, 180, 0, 34, 180, 1, 3, 172, 42, 180, 0, 34]
abbrev dktX1_manyNow_4 : List UInt8 := dkwX1_manyNow_4 ++ dktX1_manyNow_5
def dkwX1_manyNow_3 : List UInt8 := [180, 0, 72, 182, 0, 54, 172, 42, 180, 0, 34, 180, 0, 109, 182, 0, 54, 172, 42, 180, 0, 34]
abbrev dktX1_manyNow_3 : List UInt8 := dkwX1_manyNow_3 ++ dktX1_manyNow_4
def dkwX1_manyNow_2 : List UInt8 := [42, 180, 0, 34, 180, 0, 117, 172, 42, 180, 0, 34, 180, 0, 50, 182, 0, 54, 172, 42, 180, 0, 34]
abbrev dktX1_manyNow_2 : List UInt8 := dkwX1_manyNow_2 ++ dktX1_manyNow_3
def dkwX1_manyNow_1 : List UInt8 := [170, 0, 0, 0, 0, 0, 234, 0, 0, 0, 0, 0, 0, 0, 18, 0, 0, 0, 91, 0, 0, 0, 99, 0, 0, 0, 110, 0, 0, 0, 121, 0, 0, 0, 132, 0, 0, 0, 140, 0, 0, 0, 148, 0, 0, 0, 156, 0, 0, 0, 164, 0, 0, 0, 172, 0, 0, 0, 177, 0, 0, 0, 182, 0, 0, 0, 187, 0, 0, 0, 192, 0, 0, 0, 197, 0, 0, 0, 202, 0, 0, 0, 210, 0, 0, 0, 218, 0, 0, 0, 226]
abbrev dktX1_manyNow_1 : List UInt8 := dkwX1_manyNow_1 ++ dktX1_manyNow_2
def dkwX1_manyNow_0 : List UInt8 := [27]
abbrev dktX1_manyNow_0 : List UInt8 := dkwX1_manyNow_0 ++ dktX1_manyNow_1
theorem dksX1_manyNow_0 : cX1_manyNow.data.toList.drop 0 = dktX1_manyNow_0 := by decide +kernel
theorem dksX1_manyNow_1 : cX1_manyNow.data.toList.drop 1 = dktX1_manyNow_1 := dk_seg dksX1_manyNow_0 1 rfl rfl
theorem dksX1_manyNow_2 : cX1_manyNow.data.toList.drop 92 = dktX1_manyNow_2 := dk_seg dksX1_manyNow_1 91 rfl rfl
theorem dksX1_manyNow_3 : cX1_manyNow.data.toList.drop 115 = dktX1_manyNow_3 := dk_seg dksX1_manyNow_2 23 rfl rfl
theorem dksX1_manyNow_4 : cX1_manyNow.data.toList.drop 137 = dktX1_manyNow_4 := dk_seg dksX1_manyNow_3 22 rfl rfl
theorem dksX1_manyNow_5 : cX1_manyNow.data.toList.drop 161 = dktX1_manyNow_5 := dk_seg dksX1_manyNow_4 24 rfl rfl
theorem dksX1_manyNow_6 : cX1_manyNow.data.toList.drop 184 = dktX1_manyNow_6 := dk_seg dksX1_manyNow_5 23 rfl rfl
theorem dksX1_manyNow_7 : cX1_manyNow.data.toList.drop 207 = dktX1_manyNow_7 := dk_seg dksX1_manyNow_6 23 rfl rfl
theorem dksX1_manyNow_8 : cX1_manyNow.data.toList.drop 231 = dktX1_manyNow_8 := dk_seg dksX1_manyNow_7 24 rfl rfl
theorem dX1_manyNow_0 : decode cX1_manyNow 0 = .ok (.iload_n 1, 1) := dk_27 (dk_at dksX1_manyNow_0 0 rfl rfl)
theorem dX1_manyNow_1 : decode cX1_manyNow 1 = .ok (.tableswitch 234 0 18 #[91, 99, 110, 121, 132, 140, 148, 156, 164, 172, 177, 182, 187, 192, 197, 202, 210, 218, 226], 91) := by decide +kernel
theorem dX1_manyNow_92 : decode cX1_manyNow 92 = .ok (.aload_n 0, 1) := dk_42 (dk_at dksX1_manyNow_2 0 rfl rfl)
theorem dX1_manyNow_93 : decode cX1_manyNow 93 = .ok (.getfield 34, 3) := dk_180 0 34 (dk_at dksX1_manyNow_2 1 rfl rfl)
theorem dX1_manyNow_96 : decode cX1_manyNow 96 = .ok (.getfield 117, 3) := dk_180 0 117 (dk_at dksX1_manyNow_2 4 rfl rfl)
theorem dX1_manyNow_99 : decode cX1_manyNow 99 = .ok (.ireturn, 1) := dk_172 (dk_at dksX1_manyNow_2 7 rfl rfl)
theorem dX1_manyNow_100 : decode cX1_manyNow 100 = .ok (.aload_n 0, 1) := dk_42 (dk_at dksX1_manyNow_2 8 rfl rfl)
theorem dX1_manyNow_101 : decode cX1_manyNow 101 = .ok (.getfield 34, 3) := dk_180 0 34 (dk_at dksX1_manyNow_2 9 rfl rfl)
theorem dX1_manyNow_104 : decode cX1_manyNow 104 = .ok (.getfield 50, 3) := dk_180 0 50 (dk_at dksX1_manyNow_2 12 rfl rfl)
theorem dX1_manyNow_107 : decode cX1_manyNow 107 = .ok (.invokevirtual 54, 3) := dk_182 0 54 (dk_at dksX1_manyNow_2 15 rfl rfl)
theorem dX1_manyNow_110 : decode cX1_manyNow 110 = .ok (.ireturn, 1) := dk_172 (dk_at dksX1_manyNow_2 18 rfl rfl)
theorem dX1_manyNow_111 : decode cX1_manyNow 111 = .ok (.aload_n 0, 1) := dk_42 (dk_at dksX1_manyNow_2 19 rfl rfl)
theorem dX1_manyNow_112 : decode cX1_manyNow 112 = .ok (.getfield 34, 3) := dk_180 0 34 (dk_at dksX1_manyNow_2 20 rfl rfl)
theorem dX1_manyNow_115 : decode cX1_manyNow 115 = .ok (.getfield 72, 3) := dk_180 0 72 (dk_at dksX1_manyNow_3 0 rfl rfl)
theorem dX1_manyNow_118 : decode cX1_manyNow 118 = .ok (.invokevirtual 54, 3) := dk_182 0 54 (dk_at dksX1_manyNow_3 3 rfl rfl)
theorem dX1_manyNow_121 : decode cX1_manyNow 121 = .ok (.ireturn, 1) := dk_172 (dk_at dksX1_manyNow_3 6 rfl rfl)
theorem dX1_manyNow_122 : decode cX1_manyNow 122 = .ok (.aload_n 0, 1) := dk_42 (dk_at dksX1_manyNow_3 7 rfl rfl)
theorem dX1_manyNow_123 : decode cX1_manyNow 123 = .ok (.getfield 34, 3) := dk_180 0 34 (dk_at dksX1_manyNow_3 8 rfl rfl)
theorem dX1_manyNow_126 : decode cX1_manyNow 126 = .ok (.getfield 109, 3) := dk_180 0 109 (dk_at dksX1_manyNow_3 11 rfl rfl)
theorem dX1_manyNow_129 : decode cX1_manyNow 129 = .ok (.invokevirtual 54, 3) := dk_182 0 54 (dk_at dksX1_manyNow_3 14 rfl rfl)
theorem dX1_manyNow_132 : decode cX1_manyNow 132 = .ok (.ireturn, 1) := dk_172 (dk_at dksX1_manyNow_3 17 rfl rfl)
theorem dX1_manyNow_133 : decode cX1_manyNow 133 = .ok (.aload_n 0, 1) := dk_42 (dk_at dksX1_manyNow_3 18 rfl rfl)
theorem dX1_manyNow_134 : decode cX1_manyNow 134 = .ok (.getfield 34, 3) := dk_180 0 34 (dk_at dksX1_manyNow_3 19 rfl rfl)
theorem dX1_manyNow_137 : decode cX1_manyNow 137 = .ok (.invokevirtual 256, 3) := dk_182 1 0 (dk_at dksX1_manyNow_4 0 rfl rfl)
theorem dX1_manyNow_140 : decode cX1_manyNow 140 = .ok (.ireturn, 1) := dk_172 (dk_at dksX1_manyNow_4 3 rfl rfl)
theorem dX1_manyNow_141 : decode cX1_manyNow 141 = .ok (.aload_n 0, 1) := dk_42 (dk_at dksX1_manyNow_4 4 rfl rfl)
theorem dX1_manyNow_142 : decode cX1_manyNow 142 = .ok (.getfield 34, 3) := dk_180 0 34 (dk_at dksX1_manyNow_4 5 rfl rfl)
theorem dX1_manyNow_145 : decode cX1_manyNow 145 = .ok (.getfield 148, 3) := dk_180 0 148 (dk_at dksX1_manyNow_4 8 rfl rfl)
theorem dX1_manyNow_148 : decode cX1_manyNow 148 = .ok (.ireturn, 1) := dk_172 (dk_at dksX1_manyNow_4 11 rfl rfl)
theorem dX1_manyNow_149 : decode cX1_manyNow 149 = .ok (.aload_n 0, 1) := dk_42 (dk_at dksX1_manyNow_4 12 rfl rfl)
theorem dX1_manyNow_150 : decode cX1_manyNow 150 = .ok (.getfield 34, 3) := dk_180 0 34 (dk_at dksX1_manyNow_4 13 rfl rfl)
theorem dX1_manyNow_153 : decode cX1_manyNow 153 = .ok (.getfield 259, 3) := dk_180 1 3 (dk_at dksX1_manyNow_4 16 rfl rfl)
theorem dX1_manyNow_156 : decode cX1_manyNow 156 = .ok (.ireturn, 1) := dk_172 (dk_at dksX1_manyNow_4 19 rfl rfl)
theorem dX1_manyNow_157 : decode cX1_manyNow 157 = .ok (.aload_n 0, 1) := dk_42 (dk_at dksX1_manyNow_4 20 rfl rfl)
theorem dX1_manyNow_158 : decode cX1_manyNow 158 = .ok (.getfield 34, 3) := dk_180 0 34 (dk_at dksX1_manyNow_4 21 rfl rfl)
theorem dX1_manyNow_161 : decode cX1_manyNow 161 = .ok (.getfield 262, 3) := dk_180 1 6 (dk_at dksX1_manyNow_5 0 rfl rfl)
theorem dX1_manyNow_164 : decode cX1_manyNow 164 = .ok (.ireturn, 1) := dk_172 (dk_at dksX1_manyNow_5 3 rfl rfl)
theorem dX1_manyNow_165 : decode cX1_manyNow 165 = .ok (.aload_n 0, 1) := dk_42 (dk_at dksX1_manyNow_5 4 rfl rfl)
theorem dX1_manyNow_166 : decode cX1_manyNow 166 = .ok (.getfield 34, 3) := dk_180 0 34 (dk_at dksX1_manyNow_5 5 rfl rfl)
theorem dX1_manyNow_169 : decode cX1_manyNow 169 = .ok (.getfield 161, 3) := dk_180 0 161 (dk_at dksX1_manyNow_5 8 rfl rfl)
theorem dX1_manyNow_172 : decode cX1_manyNow 172 = .ok (.ireturn, 1) := dk_172 (dk_at dksX1_manyNow_5 11 rfl rfl)
theorem dX1_manyNow_173 : decode cX1_manyNow 173 = .ok (.aload_n 0, 1) := dk_42 (dk_at dksX1_manyNow_5 12 rfl rfl)
theorem dX1_manyNow_174 : decode cX1_manyNow 174 = .ok (.getfield 164, 3) := dk_180 0 164 (dk_at dksX1_manyNow_5 13 rfl rfl)
theorem dX1_manyNow_177 : decode cX1_manyNow 177 = .ok (.ireturn, 1) := dk_172 (dk_at dksX1_manyNow_5 16 rfl rfl)
theorem dX1_manyNow_178 : decode cX1_manyNow 178 = .ok (.aload_n 0, 1) := dk_42 (dk_at dksX1_manyNow_5 17 rfl rfl)
theorem dX1_manyNow_179 : decode cX1_manyNow 179 = .ok (.getfield 167, 3) := dk_180 0 167 (dk_at dksX1_manyNow_5 18 rfl rfl)
theorem dX1_manyNow_182 : decode cX1_manyNow 182 = .ok (.ireturn, 1) := dk_172 (dk_at dksX1_manyNow_5 21 rfl rfl)
theorem dX1_manyNow_183 : decode cX1_manyNow 183 = .ok (.aload_n 0, 1) := dk_42 (dk_at dksX1_manyNow_5 22 rfl rfl)
theorem dX1_manyNow_184 : decode cX1_manyNow 184 = .ok (.getfield 173, 3) := dk_180 0 173 (dk_at dksX1_manyNow_6 0 rfl rfl)
theorem dX1_manyNow_187 : decode cX1_manyNow 187 = .ok (.ireturn, 1) := dk_172 (dk_at dksX1_manyNow_6 3 rfl rfl)
theorem dX1_manyNow_188 : decode cX1_manyNow 188 = .ok (.aload_n 0, 1) := dk_42 (dk_at dksX1_manyNow_6 4 rfl rfl)
theorem dX1_manyNow_189 : decode cX1_manyNow 189 = .ok (.getfield 170, 3) := dk_180 0 170 (dk_at dksX1_manyNow_6 5 rfl rfl)
theorem dX1_manyNow_192 : decode cX1_manyNow 192 = .ok (.ireturn, 1) := dk_172 (dk_at dksX1_manyNow_6 8 rfl rfl)
theorem dX1_manyNow_193 : decode cX1_manyNow 193 = .ok (.aload_n 0, 1) := dk_42 (dk_at dksX1_manyNow_6 9 rfl rfl)
theorem dX1_manyNow_194 : decode cX1_manyNow 194 = .ok (.getfield 176, 3) := dk_180 0 176 (dk_at dksX1_manyNow_6 10 rfl rfl)
theorem dX1_manyNow_197 : decode cX1_manyNow 197 = .ok (.ireturn, 1) := dk_172 (dk_at dksX1_manyNow_6 13 rfl rfl)
theorem dX1_manyNow_198 : decode cX1_manyNow 198 = .ok (.aload_n 0, 1) := dk_42 (dk_at dksX1_manyNow_6 14 rfl rfl)
theorem dX1_manyNow_199 : decode cX1_manyNow 199 = .ok (.getfield 179, 3) := dk_180 0 179 (dk_at dksX1_manyNow_6 15 rfl rfl)
theorem dX1_manyNow_202 : decode cX1_manyNow 202 = .ok (.ireturn, 1) := dk_172 (dk_at dksX1_manyNow_6 18 rfl rfl)
theorem dX1_manyNow_203 : decode cX1_manyNow 203 = .ok (.aload_n 0, 1) := dk_42 (dk_at dksX1_manyNow_6 19 rfl rfl)
theorem dX1_manyNow_204 : decode cX1_manyNow 204 = .ok (.getfield 34, 3) := dk_180 0 34 (dk_at dksX1_manyNow_6 20 rfl rfl)
theorem dX1_manyNow_207 : decode cX1_manyNow 207 = .ok (.getfield 182, 3) := dk_180 0 182 (dk_at dksX1_manyNow_7 0 rfl rfl)
theorem dX1_manyNow_210 : decode cX1_manyNow 210 = .ok (.ireturn, 1) := dk_172 (dk_at dksX1_manyNow_7 3 rfl rfl)
theorem dX1_manyNow_211 : decode cX1_manyNow 211 = .ok (.aload_n 0, 1) := dk_42 (dk_at dksX1_manyNow_7 4 rfl rfl)
theorem dX1_manyNow_212 : decode cX1_manyNow 212 = .ok (.getfield 34, 3) := dk_180 0 34 (dk_at dksX1_manyNow_7 5 rfl rfl)
theorem dX1_manyNow_215 : decode cX1_manyNow 215 = .ok (.getfield 265, 3) := dk_180 1 9 (dk_at dksX1_manyNow_7 8 rfl rfl)
theorem dX1_manyNow_218 : decode cX1_manyNow 218 = .ok (.ireturn, 1) := dk_172 (dk_at dksX1_manyNow_7 11 rfl rfl)
theorem dX1_manyNow_219 : decode cX1_manyNow 219 = .ok (.aload_n 0, 1) := dk_42 (dk_at dksX1_manyNow_7 12 rfl rfl)
theorem dX1_manyNow_220 : decode cX1_manyNow 220 = .ok (.getfield 34, 3) := dk_180 0 34 (dk_at dksX1_manyNow_7 13 rfl rfl)
theorem dX1_manyNow_223 : decode cX1_manyNow 223 = .ok (.getfield 185, 3) := dk_180 0 185 (dk_at dksX1_manyNow_7 16 rfl rfl)
theorem dX1_manyNow_226 : decode cX1_manyNow 226 = .ok (.ireturn, 1) := dk_172 (dk_at dksX1_manyNow_7 19 rfl rfl)
theorem dX1_manyNow_227 : decode cX1_manyNow 227 = .ok (.aload_n 0, 1) := dk_42 (dk_at dksX1_manyNow_7 20 rfl rfl)
theorem dX1_manyNow_228 : decode cX1_manyNow 228 = .ok (.getfield 34, 3) := dk_180 0 34 (dk_at dksX1_manyNow_7 21 rfl rfl)
theorem dX1_manyNow_231 : decode cX1_manyNow 231 = .ok (.getfield 268, 3) := dk_180 1 12 (dk_at dksX1_manyNow_8 0 rfl rfl)
theorem dX1_manyNow_234 : decode cX1_manyNow 234 = .ok (.ireturn, 1) := dk_172 (dk_at dksX1_manyNow_8 3 rfl rfl)
theorem dX1_manyNow_235 : decode cX1_manyNow 235 = .ok (.aload_n 0, 1) := dk_42 (dk_at dksX1_manyNow_8 4 rfl rfl)
theorem dX1_manyNow_236 : decode cX1_manyNow 236 = .ok (.getfield 123, 3) := dk_180 0 123 (dk_at dksX1_manyNow_8 5 rfl rfl)
theorem dX1_manyNow_239 : decode cX1_manyNow 239 = .ok (.ireturn, 1) := dk_172 (dk_at dksX1_manyNow_8 8 rfl rfl)
abbrev cX1_add : ByteArray := prog_1_method_46_code
def yX1_add : MethodName := ⟨RX1, "add", "(I)V"⟩
def dkwX1_add_0 : List UInt8 := [42, 42, 180, 1, 49, 20, 1, 52, 105, 27, 133, 97, 181, 1, 49, 177]
abbrev dktX1_add_0 : List UInt8 := dkwX1_add_0 ++ []
theorem dksX1_add_0 : cX1_add.data.toList.drop 0 = dktX1_add_0 := by decide +kernel
theorem dX1_add_0 : decode cX1_add 0 = .ok (.aload_n 0, 1) := dk_42 (dk_at dksX1_add_0 0 rfl rfl)
theorem dX1_add_1 : decode cX1_add 1 = .ok (.aload_n 0, 1) := dk_42 (dk_at dksX1_add_0 1 rfl rfl)
theorem dX1_add_2 : decode cX1_add 2 = .ok (.getfield 305, 3) := dk_180 1 49 (dk_at dksX1_add_0 2 rfl rfl)
theorem dX1_add_5 : decode cX1_add 5 = .ok (.ldc2_w 308, 3) := dk_20 1 52 (dk_at dksX1_add_0 5 rfl rfl)
theorem dX1_add_8 : decode cX1_add 8 = .ok (.lmul, 1) := dk_105 (dk_at dksX1_add_0 8 rfl rfl)
theorem dX1_add_9 : decode cX1_add 9 = .ok (.iload_n 1, 1) := dk_27 (dk_at dksX1_add_0 9 rfl rfl)
theorem dX1_add_10 : decode cX1_add 10 = .ok (.i2l, 1) := dk_133 (dk_at dksX1_add_0 10 rfl rfl)
theorem dX1_add_11 : decode cX1_add 11 = .ok (.ladd, 1) := dk_97 (dk_at dksX1_add_0 11 rfl rfl)
theorem dX1_add_12 : decode cX1_add 12 = .ok (.putfield 305, 3) := dk_181 1 49 (dk_at dksX1_add_0 12 rfl rfl)
theorem dX1_add_15 : decode cX1_add 15 = .ok (.return_, 1) := dk_177 (dk_at dksX1_add_0 15 rfl rfl)
abbrev cX1_ofFieldNow : ByteArray := prog_1_method_25_code
def yX1_ofFieldNow : MethodName := ⟨RX1, "ofFieldNow", "(II)I"⟩
def dkwX1_ofFieldNow_5 : List UInt8 := [153, 0, 7, 4, 167, 0, 4, 3, 172, 42, 27, 182, 0, 215, 172]
abbrev dktX1_ofFieldNow_5 : List UInt8 := dkwX1_ofFieldNow_5 ++ []
def dkwX1_ofFieldNow_4 : List UInt8 := [167, 0, 4, 3, 172, 45, 180, 0, 212, 153, 0, 7, 4, 167, 0, 4, 3, 172, 45, 180, 0, 102]
abbrev dktX1_ofFieldNow_4 : List UInt8 := dkwX1_ofFieldNow_4 ++ dktX1_ofFieldNow_5
def dkwX1_ofFieldNow_3 : List UInt8 := [172, 45, 180, 0, 206, 172, 45, 180, 0, 209, 172, 45, 180, 0, 86, 172, 45, 180, 0, 106, 153, 0, 7, 4]
abbrev dktX1_ofFieldNow_3 : List UInt8 := dkwX1_ofFieldNow_3 ++ dktX1_ofFieldNow_4
def dkwX1_ofFieldNow_2 : List UInt8 := [45, 180, 0, 200, 172, 45, 180, 0, 203, 172, 45, 180, 0, 139, 172, 45, 180, 0, 99, 172, 45, 180, 0, 114]
abbrev dktX1_ofFieldNow_2 : List UInt8 := dkwX1_ofFieldNow_2 ++ dktX1_ofFieldNow_3
def dkwX1_ofFieldNow_1 : List UInt8 := [170, 0, 0, 0, 0, 0, 0, 139, 0, 0, 0, 0, 0, 0, 0, 10, 0, 0, 0, 60, 0, 0, 0, 65, 0, 0, 0, 70, 0, 0, 0, 75, 0, 0, 0, 80, 0, 0, 0, 85, 0, 0, 0, 90, 0, 0, 0, 95, 0, 0, 0, 100, 0, 0, 0, 113, 0, 0, 0, 126]
abbrev dktX1_ofFieldNow_1 : List UInt8 := dkwX1_ofFieldNow_1 ++ dktX1_ofFieldNow_2
def dkwX1_ofFieldNow_0 : List UInt8 := [42, 180, 0, 34, 180, 0, 50, 27, 182, 0, 78, 192, 0, 63, 78, 28]
abbrev dktX1_ofFieldNow_0 : List UInt8 := dkwX1_ofFieldNow_0 ++ dktX1_ofFieldNow_1
theorem dksX1_ofFieldNow_0 : cX1_ofFieldNow.data.toList.drop 0 = dktX1_ofFieldNow_0 := by decide +kernel
theorem dksX1_ofFieldNow_1 : cX1_ofFieldNow.data.toList.drop 16 = dktX1_ofFieldNow_1 := dk_seg dksX1_ofFieldNow_0 16 rfl rfl
theorem dksX1_ofFieldNow_2 : cX1_ofFieldNow.data.toList.drop 76 = dktX1_ofFieldNow_2 := dk_seg dksX1_ofFieldNow_1 60 rfl rfl
theorem dksX1_ofFieldNow_3 : cX1_ofFieldNow.data.toList.drop 100 = dktX1_ofFieldNow_3 := dk_seg dksX1_ofFieldNow_2 24 rfl rfl
theorem dksX1_ofFieldNow_4 : cX1_ofFieldNow.data.toList.drop 124 = dktX1_ofFieldNow_4 := dk_seg dksX1_ofFieldNow_3 24 rfl rfl
theorem dksX1_ofFieldNow_5 : cX1_ofFieldNow.data.toList.drop 146 = dktX1_ofFieldNow_5 := dk_seg dksX1_ofFieldNow_4 22 rfl rfl
theorem dX1_ofFieldNow_0 : decode cX1_ofFieldNow 0 = .ok (.aload_n 0, 1) := dk_42 (dk_at dksX1_ofFieldNow_0 0 rfl rfl)
theorem dX1_ofFieldNow_1 : decode cX1_ofFieldNow 1 = .ok (.getfield 34, 3) := dk_180 0 34 (dk_at dksX1_ofFieldNow_0 1 rfl rfl)
theorem dX1_ofFieldNow_4 : decode cX1_ofFieldNow 4 = .ok (.getfield 50, 3) := dk_180 0 50 (dk_at dksX1_ofFieldNow_0 4 rfl rfl)
theorem dX1_ofFieldNow_7 : decode cX1_ofFieldNow 7 = .ok (.iload_n 1, 1) := dk_27 (dk_at dksX1_ofFieldNow_0 7 rfl rfl)
theorem dX1_ofFieldNow_8 : decode cX1_ofFieldNow 8 = .ok (.invokevirtual 78, 3) := dk_182 0 78 (dk_at dksX1_ofFieldNow_0 8 rfl rfl)
theorem dX1_ofFieldNow_11 : decode cX1_ofFieldNow 11 = .ok (.checkcast 63, 3) := dk_192 0 63 (dk_at dksX1_ofFieldNow_0 11 rfl rfl)
theorem dX1_ofFieldNow_14 : decode cX1_ofFieldNow 14 = .ok (.astore_n 3, 1) := dk_78 (dk_at dksX1_ofFieldNow_0 14 rfl rfl)
theorem dX1_ofFieldNow_15 : decode cX1_ofFieldNow 15 = .ok (.iload_n 2, 1) := dk_28 (dk_at dksX1_ofFieldNow_0 15 rfl rfl)
theorem dX1_ofFieldNow_16 : decode cX1_ofFieldNow 16 = .ok (.tableswitch 139 0 10 #[60, 65, 70, 75, 80, 85, 90, 95, 100, 113, 126], 60) := by decide +kernel
theorem dX1_ofFieldNow_76 : decode cX1_ofFieldNow 76 = .ok (.aload_n 3, 1) := dk_45 (dk_at dksX1_ofFieldNow_2 0 rfl rfl)
theorem dX1_ofFieldNow_77 : decode cX1_ofFieldNow 77 = .ok (.getfield 200, 3) := dk_180 0 200 (dk_at dksX1_ofFieldNow_2 1 rfl rfl)
theorem dX1_ofFieldNow_80 : decode cX1_ofFieldNow 80 = .ok (.ireturn, 1) := dk_172 (dk_at dksX1_ofFieldNow_2 4 rfl rfl)
theorem dX1_ofFieldNow_81 : decode cX1_ofFieldNow 81 = .ok (.aload_n 3, 1) := dk_45 (dk_at dksX1_ofFieldNow_2 5 rfl rfl)
theorem dX1_ofFieldNow_82 : decode cX1_ofFieldNow 82 = .ok (.getfield 203, 3) := dk_180 0 203 (dk_at dksX1_ofFieldNow_2 6 rfl rfl)
theorem dX1_ofFieldNow_85 : decode cX1_ofFieldNow 85 = .ok (.ireturn, 1) := dk_172 (dk_at dksX1_ofFieldNow_2 9 rfl rfl)
theorem dX1_ofFieldNow_86 : decode cX1_ofFieldNow 86 = .ok (.aload_n 3, 1) := dk_45 (dk_at dksX1_ofFieldNow_2 10 rfl rfl)
theorem dX1_ofFieldNow_87 : decode cX1_ofFieldNow 87 = .ok (.getfield 139, 3) := dk_180 0 139 (dk_at dksX1_ofFieldNow_2 11 rfl rfl)
theorem dX1_ofFieldNow_90 : decode cX1_ofFieldNow 90 = .ok (.ireturn, 1) := dk_172 (dk_at dksX1_ofFieldNow_2 14 rfl rfl)
theorem dX1_ofFieldNow_91 : decode cX1_ofFieldNow 91 = .ok (.aload_n 3, 1) := dk_45 (dk_at dksX1_ofFieldNow_2 15 rfl rfl)
theorem dX1_ofFieldNow_92 : decode cX1_ofFieldNow 92 = .ok (.getfield 99, 3) := dk_180 0 99 (dk_at dksX1_ofFieldNow_2 16 rfl rfl)
theorem dX1_ofFieldNow_95 : decode cX1_ofFieldNow 95 = .ok (.ireturn, 1) := dk_172 (dk_at dksX1_ofFieldNow_2 19 rfl rfl)
theorem dX1_ofFieldNow_96 : decode cX1_ofFieldNow 96 = .ok (.aload_n 3, 1) := dk_45 (dk_at dksX1_ofFieldNow_2 20 rfl rfl)
theorem dX1_ofFieldNow_97 : decode cX1_ofFieldNow 97 = .ok (.getfield 114, 3) := dk_180 0 114 (dk_at dksX1_ofFieldNow_2 21 rfl rfl)
theorem dX1_ofFieldNow_100 : decode cX1_ofFieldNow 100 = .ok (.ireturn, 1) := dk_172 (dk_at dksX1_ofFieldNow_3 0 rfl rfl)
theorem dX1_ofFieldNow_101 : decode cX1_ofFieldNow 101 = .ok (.aload_n 3, 1) := dk_45 (dk_at dksX1_ofFieldNow_3 1 rfl rfl)
theorem dX1_ofFieldNow_102 : decode cX1_ofFieldNow 102 = .ok (.getfield 206, 3) := dk_180 0 206 (dk_at dksX1_ofFieldNow_3 2 rfl rfl)
theorem dX1_ofFieldNow_105 : decode cX1_ofFieldNow 105 = .ok (.ireturn, 1) := dk_172 (dk_at dksX1_ofFieldNow_3 5 rfl rfl)
theorem dX1_ofFieldNow_106 : decode cX1_ofFieldNow 106 = .ok (.aload_n 3, 1) := dk_45 (dk_at dksX1_ofFieldNow_3 6 rfl rfl)
theorem dX1_ofFieldNow_107 : decode cX1_ofFieldNow 107 = .ok (.getfield 209, 3) := dk_180 0 209 (dk_at dksX1_ofFieldNow_3 7 rfl rfl)
theorem dX1_ofFieldNow_110 : decode cX1_ofFieldNow 110 = .ok (.ireturn, 1) := dk_172 (dk_at dksX1_ofFieldNow_3 10 rfl rfl)
theorem dX1_ofFieldNow_111 : decode cX1_ofFieldNow 111 = .ok (.aload_n 3, 1) := dk_45 (dk_at dksX1_ofFieldNow_3 11 rfl rfl)
theorem dX1_ofFieldNow_112 : decode cX1_ofFieldNow 112 = .ok (.getfield 86, 3) := dk_180 0 86 (dk_at dksX1_ofFieldNow_3 12 rfl rfl)
theorem dX1_ofFieldNow_115 : decode cX1_ofFieldNow 115 = .ok (.ireturn, 1) := dk_172 (dk_at dksX1_ofFieldNow_3 15 rfl rfl)
theorem dX1_ofFieldNow_116 : decode cX1_ofFieldNow 116 = .ok (.aload_n 3, 1) := dk_45 (dk_at dksX1_ofFieldNow_3 16 rfl rfl)
theorem dX1_ofFieldNow_117 : decode cX1_ofFieldNow 117 = .ok (.getfield 106, 3) := dk_180 0 106 (dk_at dksX1_ofFieldNow_3 17 rfl rfl)
theorem dX1_ofFieldNow_120 : decode cX1_ofFieldNow 120 = .ok (.ifCond .eq 7, 3) := dk_153 0 7 (dk_at dksX1_ofFieldNow_3 20 rfl rfl)
theorem dX1_ofFieldNow_123 : decode cX1_ofFieldNow 123 = .ok (.iconst 1, 1) := dk_4 (dk_at dksX1_ofFieldNow_3 23 rfl rfl)
theorem dX1_ofFieldNow_124 : decode cX1_ofFieldNow 124 = .ok (.goto 4, 3) := dk_167 0 4 (dk_at dksX1_ofFieldNow_4 0 rfl rfl)
theorem dX1_ofFieldNow_127 : decode cX1_ofFieldNow 127 = .ok (.iconst 0, 1) := dk_3 (dk_at dksX1_ofFieldNow_4 3 rfl rfl)
theorem dX1_ofFieldNow_128 : decode cX1_ofFieldNow 128 = .ok (.ireturn, 1) := dk_172 (dk_at dksX1_ofFieldNow_4 4 rfl rfl)
theorem dX1_ofFieldNow_129 : decode cX1_ofFieldNow 129 = .ok (.aload_n 3, 1) := dk_45 (dk_at dksX1_ofFieldNow_4 5 rfl rfl)
theorem dX1_ofFieldNow_130 : decode cX1_ofFieldNow 130 = .ok (.getfield 212, 3) := dk_180 0 212 (dk_at dksX1_ofFieldNow_4 6 rfl rfl)
theorem dX1_ofFieldNow_133 : decode cX1_ofFieldNow 133 = .ok (.ifCond .eq 7, 3) := dk_153 0 7 (dk_at dksX1_ofFieldNow_4 9 rfl rfl)
theorem dX1_ofFieldNow_136 : decode cX1_ofFieldNow 136 = .ok (.iconst 1, 1) := dk_4 (dk_at dksX1_ofFieldNow_4 12 rfl rfl)
theorem dX1_ofFieldNow_137 : decode cX1_ofFieldNow 137 = .ok (.goto 4, 3) := dk_167 0 4 (dk_at dksX1_ofFieldNow_4 13 rfl rfl)
theorem dX1_ofFieldNow_140 : decode cX1_ofFieldNow 140 = .ok (.iconst 0, 1) := dk_3 (dk_at dksX1_ofFieldNow_4 16 rfl rfl)
theorem dX1_ofFieldNow_141 : decode cX1_ofFieldNow 141 = .ok (.ireturn, 1) := dk_172 (dk_at dksX1_ofFieldNow_4 17 rfl rfl)
theorem dX1_ofFieldNow_142 : decode cX1_ofFieldNow 142 = .ok (.aload_n 3, 1) := dk_45 (dk_at dksX1_ofFieldNow_4 18 rfl rfl)
theorem dX1_ofFieldNow_143 : decode cX1_ofFieldNow 143 = .ok (.getfield 102, 3) := dk_180 0 102 (dk_at dksX1_ofFieldNow_4 19 rfl rfl)
theorem dX1_ofFieldNow_146 : decode cX1_ofFieldNow 146 = .ok (.ifCond .eq 7, 3) := dk_153 0 7 (dk_at dksX1_ofFieldNow_5 0 rfl rfl)
theorem dX1_ofFieldNow_149 : decode cX1_ofFieldNow 149 = .ok (.iconst 1, 1) := dk_4 (dk_at dksX1_ofFieldNow_5 3 rfl rfl)
theorem dX1_ofFieldNow_150 : decode cX1_ofFieldNow 150 = .ok (.goto 4, 3) := dk_167 0 4 (dk_at dksX1_ofFieldNow_5 4 rfl rfl)
theorem dX1_ofFieldNow_153 : decode cX1_ofFieldNow 153 = .ok (.iconst 0, 1) := dk_3 (dk_at dksX1_ofFieldNow_5 7 rfl rfl)
theorem dX1_ofFieldNow_154 : decode cX1_ofFieldNow 154 = .ok (.ireturn, 1) := dk_172 (dk_at dksX1_ofFieldNow_5 8 rfl rfl)
theorem dX1_ofFieldNow_155 : decode cX1_ofFieldNow 155 = .ok (.aload_n 0, 1) := dk_42 (dk_at dksX1_ofFieldNow_5 9 rfl rfl)
theorem dX1_ofFieldNow_156 : decode cX1_ofFieldNow 156 = .ok (.iload_n 1, 1) := dk_27 (dk_at dksX1_ofFieldNow_5 10 rfl rfl)
theorem dX1_ofFieldNow_157 : decode cX1_ofFieldNow 157 = .ok (.invokevirtual 215, 3) := dk_182 0 215 (dk_at dksX1_ofFieldNow_5 11 rfl rfl)
theorem dX1_ofFieldNow_160 : decode cX1_ofFieldNow 160 = .ok (.ireturn, 1) := dk_172 (dk_at dksX1_ofFieldNow_5 14 rfl rfl)
abbrev cX1_lying : ByteArray := prog_1_method_24_code
def yX1_lying : MethodName := ⟨RX1, "lying", "(I)I"⟩
def dkwX1_lying_3 : List UInt8 := [167, 255, 190, 28, 172]
abbrev dktX1_lying_3 : List UInt8 := dkwX1_lying_3 ++ []
def dkwX1_lying_2 : List UInt8 := [182, 0, 78, 192, 0, 112, 180, 0, 199, 27, 160, 0, 7, 4, 167, 0, 4, 3, 96, 61, 132, 3, 1]
abbrev dktX1_lying_2 : List UInt8 := dkwX1_lying_2 ++ dktX1_lying_3
def dkwX1_lying_1 : List UInt8 := [180, 0, 109, 29, 182, 0, 78, 192, 0, 112, 180, 0, 198, 154, 0, 28, 42, 180, 0, 34, 180, 0, 109, 29]
abbrev dktX1_lying_1 : List UInt8 := dkwX1_lying_1 ++ dktX1_lying_2
def dkwX1_lying_0 : List UInt8 := [3, 61, 3, 62, 29, 42, 180, 0, 34, 180, 0, 109, 182, 0, 54, 162, 0, 58, 28, 42, 180, 0, 34]
abbrev dktX1_lying_0 : List UInt8 := dkwX1_lying_0 ++ dktX1_lying_1
theorem dksX1_lying_0 : cX1_lying.data.toList.drop 0 = dktX1_lying_0 := by decide +kernel
theorem dksX1_lying_1 : cX1_lying.data.toList.drop 23 = dktX1_lying_1 := dk_seg dksX1_lying_0 23 rfl rfl
theorem dksX1_lying_2 : cX1_lying.data.toList.drop 47 = dktX1_lying_2 := dk_seg dksX1_lying_1 24 rfl rfl
theorem dksX1_lying_3 : cX1_lying.data.toList.drop 70 = dktX1_lying_3 := dk_seg dksX1_lying_2 23 rfl rfl
theorem dX1_lying_0 : decode cX1_lying 0 = .ok (.iconst 0, 1) := dk_3 (dk_at dksX1_lying_0 0 rfl rfl)
theorem dX1_lying_1 : decode cX1_lying 1 = .ok (.istore_n 2, 1) := dk_61 (dk_at dksX1_lying_0 1 rfl rfl)
theorem dX1_lying_2 : decode cX1_lying 2 = .ok (.iconst 0, 1) := dk_3 (dk_at dksX1_lying_0 2 rfl rfl)
theorem dX1_lying_3 : decode cX1_lying 3 = .ok (.istore_n 3, 1) := dk_62 (dk_at dksX1_lying_0 3 rfl rfl)
theorem dX1_lying_4 : decode cX1_lying 4 = .ok (.iload_n 3, 1) := dk_29 (dk_at dksX1_lying_0 4 rfl rfl)
theorem dX1_lying_5 : decode cX1_lying 5 = .ok (.aload_n 0, 1) := dk_42 (dk_at dksX1_lying_0 5 rfl rfl)
theorem dX1_lying_6 : decode cX1_lying 6 = .ok (.getfield 34, 3) := dk_180 0 34 (dk_at dksX1_lying_0 6 rfl rfl)
theorem dX1_lying_9 : decode cX1_lying 9 = .ok (.getfield 109, 3) := dk_180 0 109 (dk_at dksX1_lying_0 9 rfl rfl)
theorem dX1_lying_12 : decode cX1_lying 12 = .ok (.invokevirtual 54, 3) := dk_182 0 54 (dk_at dksX1_lying_0 12 rfl rfl)
theorem dX1_lying_15 : decode cX1_lying 15 = .ok (.if_icmp .ge 58, 3) := dk_162 0 58 (dk_at dksX1_lying_0 15 rfl rfl)
theorem dX1_lying_18 : decode cX1_lying 18 = .ok (.iload_n 2, 1) := dk_28 (dk_at dksX1_lying_0 18 rfl rfl)
theorem dX1_lying_19 : decode cX1_lying 19 = .ok (.aload_n 0, 1) := dk_42 (dk_at dksX1_lying_0 19 rfl rfl)
theorem dX1_lying_20 : decode cX1_lying 20 = .ok (.getfield 34, 3) := dk_180 0 34 (dk_at dksX1_lying_0 20 rfl rfl)
theorem dX1_lying_23 : decode cX1_lying 23 = .ok (.getfield 109, 3) := dk_180 0 109 (dk_at dksX1_lying_1 0 rfl rfl)
theorem dX1_lying_26 : decode cX1_lying 26 = .ok (.iload_n 3, 1) := dk_29 (dk_at dksX1_lying_1 3 rfl rfl)
theorem dX1_lying_27 : decode cX1_lying 27 = .ok (.invokevirtual 78, 3) := dk_182 0 78 (dk_at dksX1_lying_1 4 rfl rfl)
theorem dX1_lying_30 : decode cX1_lying 30 = .ok (.checkcast 112, 3) := dk_192 0 112 (dk_at dksX1_lying_1 7 rfl rfl)
theorem dX1_lying_33 : decode cX1_lying 33 = .ok (.getfield 198, 3) := dk_180 0 198 (dk_at dksX1_lying_1 10 rfl rfl)
theorem dX1_lying_36 : decode cX1_lying 36 = .ok (.ifCond .ne 28, 3) := dk_154 0 28 (dk_at dksX1_lying_1 13 rfl rfl)
theorem dX1_lying_39 : decode cX1_lying 39 = .ok (.aload_n 0, 1) := dk_42 (dk_at dksX1_lying_1 16 rfl rfl)
theorem dX1_lying_40 : decode cX1_lying 40 = .ok (.getfield 34, 3) := dk_180 0 34 (dk_at dksX1_lying_1 17 rfl rfl)
theorem dX1_lying_43 : decode cX1_lying 43 = .ok (.getfield 109, 3) := dk_180 0 109 (dk_at dksX1_lying_1 20 rfl rfl)
theorem dX1_lying_46 : decode cX1_lying 46 = .ok (.iload_n 3, 1) := dk_29 (dk_at dksX1_lying_1 23 rfl rfl)
theorem dX1_lying_47 : decode cX1_lying 47 = .ok (.invokevirtual 78, 3) := dk_182 0 78 (dk_at dksX1_lying_2 0 rfl rfl)
theorem dX1_lying_50 : decode cX1_lying 50 = .ok (.checkcast 112, 3) := dk_192 0 112 (dk_at dksX1_lying_2 3 rfl rfl)
theorem dX1_lying_53 : decode cX1_lying 53 = .ok (.getfield 199, 3) := dk_180 0 199 (dk_at dksX1_lying_2 6 rfl rfl)
theorem dX1_lying_56 : decode cX1_lying 56 = .ok (.iload_n 1, 1) := dk_27 (dk_at dksX1_lying_2 9 rfl rfl)
theorem dX1_lying_57 : decode cX1_lying 57 = .ok (.if_icmp .ne 7, 3) := dk_160 0 7 (dk_at dksX1_lying_2 10 rfl rfl)
theorem dX1_lying_60 : decode cX1_lying 60 = .ok (.iconst 1, 1) := dk_4 (dk_at dksX1_lying_2 13 rfl rfl)
theorem dX1_lying_61 : decode cX1_lying 61 = .ok (.goto 4, 3) := dk_167 0 4 (dk_at dksX1_lying_2 14 rfl rfl)
theorem dX1_lying_64 : decode cX1_lying 64 = .ok (.iconst 0, 1) := dk_3 (dk_at dksX1_lying_2 17 rfl rfl)
theorem dX1_lying_65 : decode cX1_lying 65 = .ok (.iadd, 1) := dk_96 (dk_at dksX1_lying_2 18 rfl rfl)
theorem dX1_lying_66 : decode cX1_lying 66 = .ok (.istore_n 2, 1) := dk_61 (dk_at dksX1_lying_2 19 rfl rfl)
theorem dX1_lying_67 : decode cX1_lying 67 = .ok (.iinc 3 1, 3) := dk_132 3 1 (dk_at dksX1_lying_2 20 rfl rfl)
theorem dX1_lying_70 : decode cX1_lying 70 = .ok (.goto (-66), 3) := dk_167 255 190 (dk_at dksX1_lying_3 0 rfl rfl)
theorem dX1_lying_73 : decode cX1_lying 73 = .ok (.iload_n 2, 1) := dk_28 (dk_at dksX1_lying_3 3 rfl rfl)
theorem dX1_lying_74 : decode cX1_lying 74 = .ok (.ireturn, 1) := dk_172 (dk_at dksX1_lying_3 4 rfl rfl)
abbrev cX1_dayNow : ByteArray := prog_1_method_44_code
def yX1_dayNow : MethodName := ⟨RX1, "dayNow", "(IIII)I"⟩
def dkwX1_dayNow_6 : List UInt8 := [54, 7, 132, 9, 1, 167, 255, 203, 21, 7, 172]
abbrev dktX1_dayNow_6 : List UInt8 := dkwX1_dayNow_6 ++ []
def dkwX1_dayNow_5 : List UInt8 := [104, 21, 8, 163, 0, 6, 167, 0, 20, 25, 6, 180, 0, 99, 25, 6, 180, 0, 114, 104, 54, 8, 21, 9]
abbrev dktX1_dayNow_5 : List UInt8 := dkwX1_dayNow_5 ++ dktX1_dayNow_6
def dkwX1_dayNow_4 : List UInt8 := [21, 9, 28, 163, 0, 53, 25, 5, 29, 21, 4, 182, 1, 42, 25, 6, 180, 0, 99, 25, 6, 180, 0, 114]
abbrev dktX1_dayNow_4 : List UInt8 := dkwX1_dayNow_4 ++ dktX1_dayNow_5
def dkwX1_dayNow_3 : List UInt8 := [192, 0, 63, 58, 6, 3, 54, 7, 25, 6, 180, 0, 99, 25, 6, 180, 0, 114, 104, 54, 8, 4, 54, 9]
abbrev dktX1_dayNow_3 : List UInt8 := dkwX1_dayNow_3 ++ dktX1_dayNow_4
def dkwX1_dayNow_2 : List UInt8 := [182, 1, 39, 182, 0, 68, 87, 132, 6, 1, 167, 255, 211, 25, 5, 180, 0, 50, 27, 182, 0, 78]
abbrev dktX1_dayNow_2 : List UInt8 := dkwX1_dayNow_2 ++ dktX1_dayNow_3
def dkwX1_dayNow_1 : List UInt8 := [162, 0, 36, 25, 5, 180, 0, 50, 42, 180, 0, 34, 180, 0, 50, 21, 6, 182, 0, 78, 192, 0, 63]
abbrev dktX1_dayNow_1 : List UInt8 := dkwX1_dayNow_1 ++ dktX1_dayNow_2
def dkwX1_dayNow_0 : List UInt8 := [187, 0, 31, 89, 183, 0, 33, 58, 5, 3, 54, 6, 21, 6, 42, 180, 0, 34, 180, 0, 50, 182, 0, 54]
abbrev dktX1_dayNow_0 : List UInt8 := dkwX1_dayNow_0 ++ dktX1_dayNow_1
theorem dksX1_dayNow_0 : cX1_dayNow.data.toList.drop 0 = dktX1_dayNow_0 := by decide +kernel
theorem dksX1_dayNow_1 : cX1_dayNow.data.toList.drop 24 = dktX1_dayNow_1 := dk_seg dksX1_dayNow_0 24 rfl rfl
theorem dksX1_dayNow_2 : cX1_dayNow.data.toList.drop 47 = dktX1_dayNow_2 := dk_seg dksX1_dayNow_1 23 rfl rfl
theorem dksX1_dayNow_3 : cX1_dayNow.data.toList.drop 69 = dktX1_dayNow_3 := dk_seg dksX1_dayNow_2 22 rfl rfl
theorem dksX1_dayNow_4 : cX1_dayNow.data.toList.drop 93 = dktX1_dayNow_4 := dk_seg dksX1_dayNow_3 24 rfl rfl
theorem dksX1_dayNow_5 : cX1_dayNow.data.toList.drop 117 = dktX1_dayNow_5 := dk_seg dksX1_dayNow_4 24 rfl rfl
theorem dksX1_dayNow_6 : cX1_dayNow.data.toList.drop 141 = dktX1_dayNow_6 := dk_seg dksX1_dayNow_5 24 rfl rfl
theorem dX1_dayNow_0 : decode cX1_dayNow 0 = .ok (.new 31, 3) := dk_187 0 31 (dk_at dksX1_dayNow_0 0 rfl rfl)
theorem dX1_dayNow_3 : decode cX1_dayNow 3 = .ok (.dup, 1) := dk_89 (dk_at dksX1_dayNow_0 3 rfl rfl)
theorem dX1_dayNow_4 : decode cX1_dayNow 4 = .ok (.invokespecial 33, 3) := dk_183 0 33 (dk_at dksX1_dayNow_0 4 rfl rfl)
theorem dX1_dayNow_7 : decode cX1_dayNow 7 = .ok (.astore 5, 2) := dk_58 5 (dk_at dksX1_dayNow_0 7 rfl rfl)
theorem dX1_dayNow_9 : decode cX1_dayNow 9 = .ok (.iconst 0, 1) := dk_3 (dk_at dksX1_dayNow_0 9 rfl rfl)
theorem dX1_dayNow_10 : decode cX1_dayNow 10 = .ok (.istore 6, 2) := dk_54 6 (dk_at dksX1_dayNow_0 10 rfl rfl)
theorem dX1_dayNow_12 : decode cX1_dayNow 12 = .ok (.iload 6, 2) := dk_21 6 (dk_at dksX1_dayNow_0 12 rfl rfl)
theorem dX1_dayNow_14 : decode cX1_dayNow 14 = .ok (.aload_n 0, 1) := dk_42 (dk_at dksX1_dayNow_0 14 rfl rfl)
theorem dX1_dayNow_15 : decode cX1_dayNow 15 = .ok (.getfield 34, 3) := dk_180 0 34 (dk_at dksX1_dayNow_0 15 rfl rfl)
theorem dX1_dayNow_18 : decode cX1_dayNow 18 = .ok (.getfield 50, 3) := dk_180 0 50 (dk_at dksX1_dayNow_0 18 rfl rfl)
theorem dX1_dayNow_21 : decode cX1_dayNow 21 = .ok (.invokevirtual 54, 3) := dk_182 0 54 (dk_at dksX1_dayNow_0 21 rfl rfl)
theorem dX1_dayNow_24 : decode cX1_dayNow 24 = .ok (.if_icmp .ge 36, 3) := dk_162 0 36 (dk_at dksX1_dayNow_1 0 rfl rfl)
theorem dX1_dayNow_27 : decode cX1_dayNow 27 = .ok (.aload 5, 2) := dk_25 5 (dk_at dksX1_dayNow_1 3 rfl rfl)
theorem dX1_dayNow_29 : decode cX1_dayNow 29 = .ok (.getfield 50, 3) := dk_180 0 50 (dk_at dksX1_dayNow_1 5 rfl rfl)
theorem dX1_dayNow_32 : decode cX1_dayNow 32 = .ok (.aload_n 0, 1) := dk_42 (dk_at dksX1_dayNow_1 8 rfl rfl)
theorem dX1_dayNow_33 : decode cX1_dayNow 33 = .ok (.getfield 34, 3) := dk_180 0 34 (dk_at dksX1_dayNow_1 9 rfl rfl)
theorem dX1_dayNow_36 : decode cX1_dayNow 36 = .ok (.getfield 50, 3) := dk_180 0 50 (dk_at dksX1_dayNow_1 12 rfl rfl)
theorem dX1_dayNow_39 : decode cX1_dayNow 39 = .ok (.iload 6, 2) := dk_21 6 (dk_at dksX1_dayNow_1 15 rfl rfl)
theorem dX1_dayNow_41 : decode cX1_dayNow 41 = .ok (.invokevirtual 78, 3) := dk_182 0 78 (dk_at dksX1_dayNow_1 17 rfl rfl)
theorem dX1_dayNow_44 : decode cX1_dayNow 44 = .ok (.checkcast 63, 3) := dk_192 0 63 (dk_at dksX1_dayNow_1 20 rfl rfl)
theorem dX1_dayNow_47 : decode cX1_dayNow 47 = .ok (.invokevirtual 295, 3) := dk_182 1 39 (dk_at dksX1_dayNow_2 0 rfl rfl)
theorem dX1_dayNow_50 : decode cX1_dayNow 50 = .ok (.invokevirtual 68, 3) := dk_182 0 68 (dk_at dksX1_dayNow_2 3 rfl rfl)
theorem dX1_dayNow_53 : decode cX1_dayNow 53 = .ok (.pop, 1) := dk_87 (dk_at dksX1_dayNow_2 6 rfl rfl)
theorem dX1_dayNow_54 : decode cX1_dayNow 54 = .ok (.iinc 6 1, 3) := dk_132 6 1 (dk_at dksX1_dayNow_2 7 rfl rfl)
theorem dX1_dayNow_57 : decode cX1_dayNow 57 = .ok (.goto (-45), 3) := dk_167 255 211 (dk_at dksX1_dayNow_2 10 rfl rfl)
theorem dX1_dayNow_60 : decode cX1_dayNow 60 = .ok (.aload 5, 2) := dk_25 5 (dk_at dksX1_dayNow_2 13 rfl rfl)
theorem dX1_dayNow_62 : decode cX1_dayNow 62 = .ok (.getfield 50, 3) := dk_180 0 50 (dk_at dksX1_dayNow_2 15 rfl rfl)
theorem dX1_dayNow_65 : decode cX1_dayNow 65 = .ok (.iload_n 1, 1) := dk_27 (dk_at dksX1_dayNow_2 18 rfl rfl)
theorem dX1_dayNow_66 : decode cX1_dayNow 66 = .ok (.invokevirtual 78, 3) := dk_182 0 78 (dk_at dksX1_dayNow_2 19 rfl rfl)
theorem dX1_dayNow_69 : decode cX1_dayNow 69 = .ok (.checkcast 63, 3) := dk_192 0 63 (dk_at dksX1_dayNow_3 0 rfl rfl)
theorem dX1_dayNow_72 : decode cX1_dayNow 72 = .ok (.astore 6, 2) := dk_58 6 (dk_at dksX1_dayNow_3 3 rfl rfl)
theorem dX1_dayNow_74 : decode cX1_dayNow 74 = .ok (.iconst 0, 1) := dk_3 (dk_at dksX1_dayNow_3 5 rfl rfl)
theorem dX1_dayNow_75 : decode cX1_dayNow 75 = .ok (.istore 7, 2) := dk_54 7 (dk_at dksX1_dayNow_3 6 rfl rfl)
theorem dX1_dayNow_77 : decode cX1_dayNow 77 = .ok (.aload 6, 2) := dk_25 6 (dk_at dksX1_dayNow_3 8 rfl rfl)
theorem dX1_dayNow_79 : decode cX1_dayNow 79 = .ok (.getfield 99, 3) := dk_180 0 99 (dk_at dksX1_dayNow_3 10 rfl rfl)
theorem dX1_dayNow_82 : decode cX1_dayNow 82 = .ok (.aload 6, 2) := dk_25 6 (dk_at dksX1_dayNow_3 13 rfl rfl)
theorem dX1_dayNow_84 : decode cX1_dayNow 84 = .ok (.getfield 114, 3) := dk_180 0 114 (dk_at dksX1_dayNow_3 15 rfl rfl)
theorem dX1_dayNow_87 : decode cX1_dayNow 87 = .ok (.imul, 1) := dk_104 (dk_at dksX1_dayNow_3 18 rfl rfl)
theorem dX1_dayNow_88 : decode cX1_dayNow 88 = .ok (.istore 8, 2) := dk_54 8 (dk_at dksX1_dayNow_3 19 rfl rfl)
theorem dX1_dayNow_90 : decode cX1_dayNow 90 = .ok (.iconst 1, 1) := dk_4 (dk_at dksX1_dayNow_3 21 rfl rfl)
theorem dX1_dayNow_91 : decode cX1_dayNow 91 = .ok (.istore 9, 2) := dk_54 9 (dk_at dksX1_dayNow_3 22 rfl rfl)
theorem dX1_dayNow_93 : decode cX1_dayNow 93 = .ok (.iload 9, 2) := dk_21 9 (dk_at dksX1_dayNow_4 0 rfl rfl)
theorem dX1_dayNow_95 : decode cX1_dayNow 95 = .ok (.iload_n 2, 1) := dk_28 (dk_at dksX1_dayNow_4 2 rfl rfl)
theorem dX1_dayNow_96 : decode cX1_dayNow 96 = .ok (.if_icmp .gt 53, 3) := dk_163 0 53 (dk_at dksX1_dayNow_4 3 rfl rfl)
theorem dX1_dayNow_99 : decode cX1_dayNow 99 = .ok (.aload 5, 2) := dk_25 5 (dk_at dksX1_dayNow_4 6 rfl rfl)
theorem dX1_dayNow_101 : decode cX1_dayNow 101 = .ok (.iload_n 3, 1) := dk_29 (dk_at dksX1_dayNow_4 8 rfl rfl)
theorem dX1_dayNow_102 : decode cX1_dayNow 102 = .ok (.iload 4, 2) := dk_21 4 (dk_at dksX1_dayNow_4 9 rfl rfl)
theorem dX1_dayNow_104 : decode cX1_dayNow 104 = .ok (.invokevirtual 298, 3) := dk_182 1 42 (dk_at dksX1_dayNow_4 11 rfl rfl)
theorem dX1_dayNow_107 : decode cX1_dayNow 107 = .ok (.aload 6, 2) := dk_25 6 (dk_at dksX1_dayNow_4 14 rfl rfl)
theorem dX1_dayNow_109 : decode cX1_dayNow 109 = .ok (.getfield 99, 3) := dk_180 0 99 (dk_at dksX1_dayNow_4 16 rfl rfl)
theorem dX1_dayNow_112 : decode cX1_dayNow 112 = .ok (.aload 6, 2) := dk_25 6 (dk_at dksX1_dayNow_4 19 rfl rfl)
theorem dX1_dayNow_114 : decode cX1_dayNow 114 = .ok (.getfield 114, 3) := dk_180 0 114 (dk_at dksX1_dayNow_4 21 rfl rfl)
theorem dX1_dayNow_117 : decode cX1_dayNow 117 = .ok (.imul, 1) := dk_104 (dk_at dksX1_dayNow_5 0 rfl rfl)
theorem dX1_dayNow_118 : decode cX1_dayNow 118 = .ok (.iload 8, 2) := dk_21 8 (dk_at dksX1_dayNow_5 1 rfl rfl)
theorem dX1_dayNow_120 : decode cX1_dayNow 120 = .ok (.if_icmp .gt 6, 3) := dk_163 0 6 (dk_at dksX1_dayNow_5 3 rfl rfl)
theorem dX1_dayNow_123 : decode cX1_dayNow 123 = .ok (.goto 20, 3) := dk_167 0 20 (dk_at dksX1_dayNow_5 6 rfl rfl)
theorem dX1_dayNow_126 : decode cX1_dayNow 126 = .ok (.aload 6, 2) := dk_25 6 (dk_at dksX1_dayNow_5 9 rfl rfl)
theorem dX1_dayNow_128 : decode cX1_dayNow 128 = .ok (.getfield 99, 3) := dk_180 0 99 (dk_at dksX1_dayNow_5 11 rfl rfl)
theorem dX1_dayNow_131 : decode cX1_dayNow 131 = .ok (.aload 6, 2) := dk_25 6 (dk_at dksX1_dayNow_5 14 rfl rfl)
theorem dX1_dayNow_133 : decode cX1_dayNow 133 = .ok (.getfield 114, 3) := dk_180 0 114 (dk_at dksX1_dayNow_5 16 rfl rfl)
theorem dX1_dayNow_136 : decode cX1_dayNow 136 = .ok (.imul, 1) := dk_104 (dk_at dksX1_dayNow_5 19 rfl rfl)
theorem dX1_dayNow_137 : decode cX1_dayNow 137 = .ok (.istore 8, 2) := dk_54 8 (dk_at dksX1_dayNow_5 20 rfl rfl)
theorem dX1_dayNow_139 : decode cX1_dayNow 139 = .ok (.iload 9, 2) := dk_21 9 (dk_at dksX1_dayNow_5 22 rfl rfl)
theorem dX1_dayNow_141 : decode cX1_dayNow 141 = .ok (.istore 7, 2) := dk_54 7 (dk_at dksX1_dayNow_6 0 rfl rfl)
theorem dX1_dayNow_143 : decode cX1_dayNow 143 = .ok (.iinc 9 1, 3) := dk_132 9 1 (dk_at dksX1_dayNow_6 2 rfl rfl)
theorem dX1_dayNow_146 : decode cX1_dayNow 146 = .ok (.goto (-53), 3) := dk_167 255 203 (dk_at dksX1_dayNow_6 5 rfl rfl)
theorem dX1_dayNow_149 : decode cX1_dayNow 149 = .ok (.iload 7, 2) := dk_21 7 (dk_at dksX1_dayNow_6 8 rfl rfl)
theorem dX1_dayNow_151 : decode cX1_dayNow 151 = .ok (.ireturn, 1) := dk_172 (dk_at dksX1_dayNow_6 10 rfl rfl)
abbrev cX1_held : ByteArray := prog_1_method_5_code
def yX1_held : MethodName := ⟨RX1, "held", "(III)I"⟩
def dkwX1_held_0 : List UInt8 := [26, 27, 28, 184, 0, 13, 184, 0, 19, 172]
abbrev dktX1_held_0 : List UInt8 := dkwX1_held_0 ++ []
theorem dksX1_held_0 : cX1_held.data.toList.drop 0 = dktX1_held_0 := by decide +kernel
theorem dX1_held_0 : decode cX1_held 0 = .ok (.iload_n 0, 1) := dk_26 (dk_at dksX1_held_0 0 rfl rfl)
theorem dX1_held_1 : decode cX1_held 1 = .ok (.iload_n 1, 1) := dk_27 (dk_at dksX1_held_0 1 rfl rfl)
theorem dX1_held_2 : decode cX1_held 2 = .ok (.iload_n 2, 1) := dk_28 (dk_at dksX1_held_0 2 rfl rfl)
theorem dX1_held_3 : decode cX1_held 3 = .ok (.invokestatic 13, 3) := dk_184 0 13 (dk_at dksX1_held_0 3 rfl rfl)
theorem dX1_held_6 : decode cX1_held 6 = .ok (.invokestatic 19, 3) := dk_184 0 19 (dk_at dksX1_held_0 6 rfl rfl)
theorem dX1_held_9 : decode cX1_held 9 = .ok (.ireturn, 1) := dk_172 (dk_at dksX1_held_0 9 rfl rfl)
abbrev cX1_ofLoadNow : ByteArray := prog_1_method_27_code
def yX1_ofLoadNow : MethodName := ⟨RX1, "ofLoadNow", "(II)I"⟩
def dkwX1_ofLoadNow_3 : List UInt8 := [172, 45, 180, 0, 228, 172, 45, 180, 0, 231, 172]
abbrev dktX1_ofLoadNow_3 : List UInt8 := dkwX1_ofLoadNow_3 ++ []
def dkwX1_ofLoadNow_2 : List UInt8 := [45, 180, 0, 199, 172, 45, 180, 0, 221, 172, 45, 180, 0, 224, 172, 45, 180, 0, 225, 172, 45, 180, 0, 198]
abbrev dktX1_ofLoadNow_2 : List UInt8 := dkwX1_ofLoadNow_2 ++ dktX1_ofLoadNow_3
def dkwX1_ofLoadNow_1 : List UInt8 := [170, 0, 0, 0, 0, 0, 0, 70, 0, 0, 0, 0, 0, 0, 0, 5, 0, 0, 0, 40, 0, 0, 0, 45, 0, 0, 0, 50, 0, 0, 0, 55, 0, 0, 0, 60, 0, 0, 0, 65]
abbrev dktX1_ofLoadNow_1 : List UInt8 := dkwX1_ofLoadNow_1 ++ dktX1_ofLoadNow_2
def dkwX1_ofLoadNow_0 : List UInt8 := [42, 180, 0, 34, 180, 0, 109, 27, 182, 0, 78, 192, 0, 112, 78, 28]
abbrev dktX1_ofLoadNow_0 : List UInt8 := dkwX1_ofLoadNow_0 ++ dktX1_ofLoadNow_1
theorem dksX1_ofLoadNow_0 : cX1_ofLoadNow.data.toList.drop 0 = dktX1_ofLoadNow_0 := by decide +kernel
theorem dksX1_ofLoadNow_1 : cX1_ofLoadNow.data.toList.drop 16 = dktX1_ofLoadNow_1 := dk_seg dksX1_ofLoadNow_0 16 rfl rfl
theorem dksX1_ofLoadNow_2 : cX1_ofLoadNow.data.toList.drop 56 = dktX1_ofLoadNow_2 := dk_seg dksX1_ofLoadNow_1 40 rfl rfl
theorem dksX1_ofLoadNow_3 : cX1_ofLoadNow.data.toList.drop 80 = dktX1_ofLoadNow_3 := dk_seg dksX1_ofLoadNow_2 24 rfl rfl
theorem dX1_ofLoadNow_0 : decode cX1_ofLoadNow 0 = .ok (.aload_n 0, 1) := dk_42 (dk_at dksX1_ofLoadNow_0 0 rfl rfl)
theorem dX1_ofLoadNow_1 : decode cX1_ofLoadNow 1 = .ok (.getfield 34, 3) := dk_180 0 34 (dk_at dksX1_ofLoadNow_0 1 rfl rfl)
theorem dX1_ofLoadNow_4 : decode cX1_ofLoadNow 4 = .ok (.getfield 109, 3) := dk_180 0 109 (dk_at dksX1_ofLoadNow_0 4 rfl rfl)
theorem dX1_ofLoadNow_7 : decode cX1_ofLoadNow 7 = .ok (.iload_n 1, 1) := dk_27 (dk_at dksX1_ofLoadNow_0 7 rfl rfl)
theorem dX1_ofLoadNow_8 : decode cX1_ofLoadNow 8 = .ok (.invokevirtual 78, 3) := dk_182 0 78 (dk_at dksX1_ofLoadNow_0 8 rfl rfl)
theorem dX1_ofLoadNow_11 : decode cX1_ofLoadNow 11 = .ok (.checkcast 112, 3) := dk_192 0 112 (dk_at dksX1_ofLoadNow_0 11 rfl rfl)
theorem dX1_ofLoadNow_14 : decode cX1_ofLoadNow 14 = .ok (.astore_n 3, 1) := dk_78 (dk_at dksX1_ofLoadNow_0 14 rfl rfl)
theorem dX1_ofLoadNow_15 : decode cX1_ofLoadNow 15 = .ok (.iload_n 2, 1) := dk_28 (dk_at dksX1_ofLoadNow_0 15 rfl rfl)
theorem dX1_ofLoadNow_16 : decode cX1_ofLoadNow 16 = .ok (.tableswitch 70 0 5 #[40, 45, 50, 55, 60, 65], 40) := by decide +kernel
theorem dX1_ofLoadNow_56 : decode cX1_ofLoadNow 56 = .ok (.aload_n 3, 1) := dk_45 (dk_at dksX1_ofLoadNow_2 0 rfl rfl)
theorem dX1_ofLoadNow_57 : decode cX1_ofLoadNow 57 = .ok (.getfield 199, 3) := dk_180 0 199 (dk_at dksX1_ofLoadNow_2 1 rfl rfl)
theorem dX1_ofLoadNow_60 : decode cX1_ofLoadNow 60 = .ok (.ireturn, 1) := dk_172 (dk_at dksX1_ofLoadNow_2 4 rfl rfl)
theorem dX1_ofLoadNow_61 : decode cX1_ofLoadNow 61 = .ok (.aload_n 3, 1) := dk_45 (dk_at dksX1_ofLoadNow_2 5 rfl rfl)
theorem dX1_ofLoadNow_62 : decode cX1_ofLoadNow 62 = .ok (.getfield 221, 3) := dk_180 0 221 (dk_at dksX1_ofLoadNow_2 6 rfl rfl)
theorem dX1_ofLoadNow_65 : decode cX1_ofLoadNow 65 = .ok (.ireturn, 1) := dk_172 (dk_at dksX1_ofLoadNow_2 9 rfl rfl)
theorem dX1_ofLoadNow_66 : decode cX1_ofLoadNow 66 = .ok (.aload_n 3, 1) := dk_45 (dk_at dksX1_ofLoadNow_2 10 rfl rfl)
theorem dX1_ofLoadNow_67 : decode cX1_ofLoadNow 67 = .ok (.getfield 224, 3) := dk_180 0 224 (dk_at dksX1_ofLoadNow_2 11 rfl rfl)
theorem dX1_ofLoadNow_70 : decode cX1_ofLoadNow 70 = .ok (.ireturn, 1) := dk_172 (dk_at dksX1_ofLoadNow_2 14 rfl rfl)
theorem dX1_ofLoadNow_71 : decode cX1_ofLoadNow 71 = .ok (.aload_n 3, 1) := dk_45 (dk_at dksX1_ofLoadNow_2 15 rfl rfl)
theorem dX1_ofLoadNow_72 : decode cX1_ofLoadNow 72 = .ok (.getfield 225, 3) := dk_180 0 225 (dk_at dksX1_ofLoadNow_2 16 rfl rfl)
theorem dX1_ofLoadNow_75 : decode cX1_ofLoadNow 75 = .ok (.ireturn, 1) := dk_172 (dk_at dksX1_ofLoadNow_2 19 rfl rfl)
theorem dX1_ofLoadNow_76 : decode cX1_ofLoadNow 76 = .ok (.aload_n 3, 1) := dk_45 (dk_at dksX1_ofLoadNow_2 20 rfl rfl)
theorem dX1_ofLoadNow_77 : decode cX1_ofLoadNow 77 = .ok (.getfield 198, 3) := dk_180 0 198 (dk_at dksX1_ofLoadNow_2 21 rfl rfl)
theorem dX1_ofLoadNow_80 : decode cX1_ofLoadNow 80 = .ok (.ireturn, 1) := dk_172 (dk_at dksX1_ofLoadNow_3 0 rfl rfl)
theorem dX1_ofLoadNow_81 : decode cX1_ofLoadNow 81 = .ok (.aload_n 3, 1) := dk_45 (dk_at dksX1_ofLoadNow_3 1 rfl rfl)
theorem dX1_ofLoadNow_82 : decode cX1_ofLoadNow 82 = .ok (.getfield 228, 3) := dk_180 0 228 (dk_at dksX1_ofLoadNow_3 2 rfl rfl)
theorem dX1_ofLoadNow_85 : decode cX1_ofLoadNow 85 = .ok (.ireturn, 1) := dk_172 (dk_at dksX1_ofLoadNow_3 5 rfl rfl)
theorem dX1_ofLoadNow_86 : decode cX1_ofLoadNow 86 = .ok (.aload_n 3, 1) := dk_45 (dk_at dksX1_ofLoadNow_3 6 rfl rfl)
theorem dX1_ofLoadNow_87 : decode cX1_ofLoadNow 87 = .ok (.getfield 231, 3) := dk_180 0 231 (dk_at dksX1_ofLoadNow_3 7 rfl rfl)
theorem dX1_ofLoadNow_90 : decode cX1_ofLoadNow 90 = .ok (.ireturn, 1) := dk_172 (dk_at dksX1_ofLoadNow_3 10 rfl rfl)
abbrev cX1_ofTruckNow : ByteArray := prog_1_method_30_code
def yX1_ofTruckNow : MethodName := ⟨RX1, "ofTruckNow", "(II)I"⟩
def dkwX1_ofTruckNow_2 : List UInt8 := [167, 0, 7, 45, 180, 0, 142, 172]
abbrev dktX1_ofTruckNow_2 : List UInt8 := dkwX1_ofTruckNow_2 ++ []
def dkwX1_ofTruckNow_1 : List UInt8 := [167, 0, 31, 28, 4, 160, 0, 10, 45, 180, 0, 136, 167, 0, 19, 28, 5, 160, 0, 10, 45, 180, 0, 241]
abbrev dktX1_ofTruckNow_1 : List UInt8 := dkwX1_ofTruckNow_1 ++ dktX1_ofTruckNow_2
def dkwX1_ofTruckNow_0 : List UInt8 := [42, 180, 0, 34, 180, 0, 72, 27, 182, 0, 78, 192, 0, 75, 78, 28, 154, 0, 10, 45, 180, 0, 133]
abbrev dktX1_ofTruckNow_0 : List UInt8 := dkwX1_ofTruckNow_0 ++ dktX1_ofTruckNow_1
theorem dksX1_ofTruckNow_0 : cX1_ofTruckNow.data.toList.drop 0 = dktX1_ofTruckNow_0 := by decide +kernel
theorem dksX1_ofTruckNow_1 : cX1_ofTruckNow.data.toList.drop 23 = dktX1_ofTruckNow_1 := dk_seg dksX1_ofTruckNow_0 23 rfl rfl
theorem dksX1_ofTruckNow_2 : cX1_ofTruckNow.data.toList.drop 47 = dktX1_ofTruckNow_2 := dk_seg dksX1_ofTruckNow_1 24 rfl rfl
theorem dX1_ofTruckNow_0 : decode cX1_ofTruckNow 0 = .ok (.aload_n 0, 1) := dk_42 (dk_at dksX1_ofTruckNow_0 0 rfl rfl)
theorem dX1_ofTruckNow_1 : decode cX1_ofTruckNow 1 = .ok (.getfield 34, 3) := dk_180 0 34 (dk_at dksX1_ofTruckNow_0 1 rfl rfl)
theorem dX1_ofTruckNow_4 : decode cX1_ofTruckNow 4 = .ok (.getfield 72, 3) := dk_180 0 72 (dk_at dksX1_ofTruckNow_0 4 rfl rfl)
theorem dX1_ofTruckNow_7 : decode cX1_ofTruckNow 7 = .ok (.iload_n 1, 1) := dk_27 (dk_at dksX1_ofTruckNow_0 7 rfl rfl)
theorem dX1_ofTruckNow_8 : decode cX1_ofTruckNow 8 = .ok (.invokevirtual 78, 3) := dk_182 0 78 (dk_at dksX1_ofTruckNow_0 8 rfl rfl)
theorem dX1_ofTruckNow_11 : decode cX1_ofTruckNow 11 = .ok (.checkcast 75, 3) := dk_192 0 75 (dk_at dksX1_ofTruckNow_0 11 rfl rfl)
theorem dX1_ofTruckNow_14 : decode cX1_ofTruckNow 14 = .ok (.astore_n 3, 1) := dk_78 (dk_at dksX1_ofTruckNow_0 14 rfl rfl)
theorem dX1_ofTruckNow_15 : decode cX1_ofTruckNow 15 = .ok (.iload_n 2, 1) := dk_28 (dk_at dksX1_ofTruckNow_0 15 rfl rfl)
theorem dX1_ofTruckNow_16 : decode cX1_ofTruckNow 16 = .ok (.ifCond .ne 10, 3) := dk_154 0 10 (dk_at dksX1_ofTruckNow_0 16 rfl rfl)
theorem dX1_ofTruckNow_19 : decode cX1_ofTruckNow 19 = .ok (.aload_n 3, 1) := dk_45 (dk_at dksX1_ofTruckNow_0 19 rfl rfl)
theorem dX1_ofTruckNow_20 : decode cX1_ofTruckNow 20 = .ok (.getfield 133, 3) := dk_180 0 133 (dk_at dksX1_ofTruckNow_0 20 rfl rfl)
theorem dX1_ofTruckNow_23 : decode cX1_ofTruckNow 23 = .ok (.goto 31, 3) := dk_167 0 31 (dk_at dksX1_ofTruckNow_1 0 rfl rfl)
theorem dX1_ofTruckNow_26 : decode cX1_ofTruckNow 26 = .ok (.iload_n 2, 1) := dk_28 (dk_at dksX1_ofTruckNow_1 3 rfl rfl)
theorem dX1_ofTruckNow_27 : decode cX1_ofTruckNow 27 = .ok (.iconst 1, 1) := dk_4 (dk_at dksX1_ofTruckNow_1 4 rfl rfl)
theorem dX1_ofTruckNow_28 : decode cX1_ofTruckNow 28 = .ok (.if_icmp .ne 10, 3) := dk_160 0 10 (dk_at dksX1_ofTruckNow_1 5 rfl rfl)
theorem dX1_ofTruckNow_31 : decode cX1_ofTruckNow 31 = .ok (.aload_n 3, 1) := dk_45 (dk_at dksX1_ofTruckNow_1 8 rfl rfl)
theorem dX1_ofTruckNow_32 : decode cX1_ofTruckNow 32 = .ok (.getfield 136, 3) := dk_180 0 136 (dk_at dksX1_ofTruckNow_1 9 rfl rfl)
theorem dX1_ofTruckNow_35 : decode cX1_ofTruckNow 35 = .ok (.goto 19, 3) := dk_167 0 19 (dk_at dksX1_ofTruckNow_1 12 rfl rfl)
theorem dX1_ofTruckNow_38 : decode cX1_ofTruckNow 38 = .ok (.iload_n 2, 1) := dk_28 (dk_at dksX1_ofTruckNow_1 15 rfl rfl)
theorem dX1_ofTruckNow_39 : decode cX1_ofTruckNow 39 = .ok (.iconst 2, 1) := dk_5 (dk_at dksX1_ofTruckNow_1 16 rfl rfl)
theorem dX1_ofTruckNow_40 : decode cX1_ofTruckNow 40 = .ok (.if_icmp .ne 10, 3) := dk_160 0 10 (dk_at dksX1_ofTruckNow_1 17 rfl rfl)
theorem dX1_ofTruckNow_43 : decode cX1_ofTruckNow 43 = .ok (.aload_n 3, 1) := dk_45 (dk_at dksX1_ofTruckNow_1 20 rfl rfl)
theorem dX1_ofTruckNow_44 : decode cX1_ofTruckNow 44 = .ok (.getfield 241, 3) := dk_180 0 241 (dk_at dksX1_ofTruckNow_1 21 rfl rfl)
theorem dX1_ofTruckNow_47 : decode cX1_ofTruckNow 47 = .ok (.goto 7, 3) := dk_167 0 7 (dk_at dksX1_ofTruckNow_2 0 rfl rfl)
theorem dX1_ofTruckNow_50 : decode cX1_ofTruckNow 50 = .ok (.aload_n 3, 1) := dk_45 (dk_at dksX1_ofTruckNow_2 3 rfl rfl)
theorem dX1_ofTruckNow_51 : decode cX1_ofTruckNow 51 = .ok (.getfield 142, 3) := dk_180 0 142 (dk_at dksX1_ofTruckNow_2 4 rfl rfl)
theorem dX1_ofTruckNow_54 : decode cX1_ofTruckNow 54 = .ok (.ireturn, 1) := dk_172 (dk_at dksX1_ofTruckNow_2 7 rfl rfl)
abbrev cX1_ofGrowerNow : ByteArray := prog_1_method_32_code
def yX1_ofGrowerNow : MethodName := ⟨RX1, "ofGrowerNow", "(II)I"⟩
def dkwX1_ofGrowerNow_2 : List UInt8 := [46, 167, 0, 9, 42, 180, 0, 38, 27, 46, 172]
abbrev dktX1_ofGrowerNow_2 : List UInt8 := dkwX1_ofGrowerNow_2 ++ []
def dkwX1_ofGrowerNow_1 : List UInt8 := [180, 0, 34, 180, 0, 250, 27, 46, 167, 0, 26, 28, 5, 160, 0, 15, 42, 180, 0, 34, 180, 0, 188, 27]
abbrev dktX1_ofGrowerNow_1 : List UInt8 := dkwX1_ofGrowerNow_1 ++ dktX1_ofGrowerNow_2
def dkwX1_ofGrowerNow_0 : List UInt8 := [28, 154, 0, 15, 42, 180, 0, 34, 180, 0, 247, 27, 46, 167, 0, 43, 28, 4, 160, 0, 15, 42]
abbrev dktX1_ofGrowerNow_0 : List UInt8 := dkwX1_ofGrowerNow_0 ++ dktX1_ofGrowerNow_1
theorem dksX1_ofGrowerNow_0 : cX1_ofGrowerNow.data.toList.drop 0 = dktX1_ofGrowerNow_0 := by decide +kernel
theorem dksX1_ofGrowerNow_1 : cX1_ofGrowerNow.data.toList.drop 22 = dktX1_ofGrowerNow_1 := dk_seg dksX1_ofGrowerNow_0 22 rfl rfl
theorem dksX1_ofGrowerNow_2 : cX1_ofGrowerNow.data.toList.drop 46 = dktX1_ofGrowerNow_2 := dk_seg dksX1_ofGrowerNow_1 24 rfl rfl
theorem dX1_ofGrowerNow_0 : decode cX1_ofGrowerNow 0 = .ok (.iload_n 2, 1) := dk_28 (dk_at dksX1_ofGrowerNow_0 0 rfl rfl)
theorem dX1_ofGrowerNow_1 : decode cX1_ofGrowerNow 1 = .ok (.ifCond .ne 15, 3) := dk_154 0 15 (dk_at dksX1_ofGrowerNow_0 1 rfl rfl)
theorem dX1_ofGrowerNow_4 : decode cX1_ofGrowerNow 4 = .ok (.aload_n 0, 1) := dk_42 (dk_at dksX1_ofGrowerNow_0 4 rfl rfl)
theorem dX1_ofGrowerNow_5 : decode cX1_ofGrowerNow 5 = .ok (.getfield 34, 3) := dk_180 0 34 (dk_at dksX1_ofGrowerNow_0 5 rfl rfl)
theorem dX1_ofGrowerNow_8 : decode cX1_ofGrowerNow 8 = .ok (.getfield 247, 3) := dk_180 0 247 (dk_at dksX1_ofGrowerNow_0 8 rfl rfl)
theorem dX1_ofGrowerNow_11 : decode cX1_ofGrowerNow 11 = .ok (.iload_n 1, 1) := dk_27 (dk_at dksX1_ofGrowerNow_0 11 rfl rfl)
theorem dX1_ofGrowerNow_12 : decode cX1_ofGrowerNow 12 = .ok (.iaload, 1) := dk_46 (dk_at dksX1_ofGrowerNow_0 12 rfl rfl)
theorem dX1_ofGrowerNow_13 : decode cX1_ofGrowerNow 13 = .ok (.goto 43, 3) := dk_167 0 43 (dk_at dksX1_ofGrowerNow_0 13 rfl rfl)
theorem dX1_ofGrowerNow_16 : decode cX1_ofGrowerNow 16 = .ok (.iload_n 2, 1) := dk_28 (dk_at dksX1_ofGrowerNow_0 16 rfl rfl)
theorem dX1_ofGrowerNow_17 : decode cX1_ofGrowerNow 17 = .ok (.iconst 1, 1) := dk_4 (dk_at dksX1_ofGrowerNow_0 17 rfl rfl)
theorem dX1_ofGrowerNow_18 : decode cX1_ofGrowerNow 18 = .ok (.if_icmp .ne 15, 3) := dk_160 0 15 (dk_at dksX1_ofGrowerNow_0 18 rfl rfl)
theorem dX1_ofGrowerNow_21 : decode cX1_ofGrowerNow 21 = .ok (.aload_n 0, 1) := dk_42 (dk_at dksX1_ofGrowerNow_0 21 rfl rfl)
theorem dX1_ofGrowerNow_22 : decode cX1_ofGrowerNow 22 = .ok (.getfield 34, 3) := dk_180 0 34 (dk_at dksX1_ofGrowerNow_1 0 rfl rfl)
theorem dX1_ofGrowerNow_25 : decode cX1_ofGrowerNow 25 = .ok (.getfield 250, 3) := dk_180 0 250 (dk_at dksX1_ofGrowerNow_1 3 rfl rfl)
theorem dX1_ofGrowerNow_28 : decode cX1_ofGrowerNow 28 = .ok (.iload_n 1, 1) := dk_27 (dk_at dksX1_ofGrowerNow_1 6 rfl rfl)
theorem dX1_ofGrowerNow_29 : decode cX1_ofGrowerNow 29 = .ok (.iaload, 1) := dk_46 (dk_at dksX1_ofGrowerNow_1 7 rfl rfl)
theorem dX1_ofGrowerNow_30 : decode cX1_ofGrowerNow 30 = .ok (.goto 26, 3) := dk_167 0 26 (dk_at dksX1_ofGrowerNow_1 8 rfl rfl)
theorem dX1_ofGrowerNow_33 : decode cX1_ofGrowerNow 33 = .ok (.iload_n 2, 1) := dk_28 (dk_at dksX1_ofGrowerNow_1 11 rfl rfl)
theorem dX1_ofGrowerNow_34 : decode cX1_ofGrowerNow 34 = .ok (.iconst 2, 1) := dk_5 (dk_at dksX1_ofGrowerNow_1 12 rfl rfl)
theorem dX1_ofGrowerNow_35 : decode cX1_ofGrowerNow 35 = .ok (.if_icmp .ne 15, 3) := dk_160 0 15 (dk_at dksX1_ofGrowerNow_1 13 rfl rfl)
theorem dX1_ofGrowerNow_38 : decode cX1_ofGrowerNow 38 = .ok (.aload_n 0, 1) := dk_42 (dk_at dksX1_ofGrowerNow_1 16 rfl rfl)
theorem dX1_ofGrowerNow_39 : decode cX1_ofGrowerNow 39 = .ok (.getfield 34, 3) := dk_180 0 34 (dk_at dksX1_ofGrowerNow_1 17 rfl rfl)
theorem dX1_ofGrowerNow_42 : decode cX1_ofGrowerNow 42 = .ok (.getfield 188, 3) := dk_180 0 188 (dk_at dksX1_ofGrowerNow_1 20 rfl rfl)
theorem dX1_ofGrowerNow_45 : decode cX1_ofGrowerNow 45 = .ok (.iload_n 1, 1) := dk_27 (dk_at dksX1_ofGrowerNow_1 23 rfl rfl)
theorem dX1_ofGrowerNow_46 : decode cX1_ofGrowerNow 46 = .ok (.iaload, 1) := dk_46 (dk_at dksX1_ofGrowerNow_2 0 rfl rfl)
theorem dX1_ofGrowerNow_47 : decode cX1_ofGrowerNow 47 = .ok (.goto 9, 3) := dk_167 0 9 (dk_at dksX1_ofGrowerNow_2 1 rfl rfl)
theorem dX1_ofGrowerNow_50 : decode cX1_ofGrowerNow 50 = .ok (.aload_n 0, 1) := dk_42 (dk_at dksX1_ofGrowerNow_2 4 rfl rfl)
theorem dX1_ofGrowerNow_51 : decode cX1_ofGrowerNow 51 = .ok (.getfield 38, 3) := dk_180 0 38 (dk_at dksX1_ofGrowerNow_2 5 rfl rfl)
theorem dX1_ofGrowerNow_54 : decode cX1_ofGrowerNow 54 = .ok (.iload_n 1, 1) := dk_27 (dk_at dksX1_ofGrowerNow_2 8 rfl rfl)
theorem dX1_ofGrowerNow_55 : decode cX1_ofGrowerNow 55 = .ok (.iaload, 1) := dk_46 (dk_at dksX1_ofGrowerNow_2 9 rfl rfl)
theorem dX1_ofGrowerNow_56 : decode cX1_ofGrowerNow 56 = .ok (.ireturn, 1) := dk_172 (dk_at dksX1_ofGrowerNow_2 10 rfl rfl)
abbrev cX1_crushedNow : ByteArray := prog_1_method_38_code
def yX1_crushedNow : MethodName := ⟨RX1, "crushedNow", "(II)I"⟩
def dkwX1_crushedNow_2 : List UInt8 := [132, 4, 1, 167, 255, 218, 2, 172]
abbrev dktX1_crushedNow_2 : List UInt8 := dkwX1_crushedNow_2 ++ []
def dkwX1_crushedNow_1 : List UInt8 := [182, 0, 78, 192, 0, 112, 180, 0, 198, 6, 160, 0, 6, 21, 4, 172, 45, 16, 25, 3, 182, 0, 195, 87]
abbrev dktX1_crushedNow_1 : List UInt8 := dkwX1_crushedNow_1 ++ dktX1_crushedNow_2
def dkwX1_crushedNow_0 : List UInt8 := [42, 180, 0, 34, 182, 1, 22, 78, 3, 54, 4, 21, 4, 28, 163, 0, 38, 45, 180, 0, 109, 27]
abbrev dktX1_crushedNow_0 : List UInt8 := dkwX1_crushedNow_0 ++ dktX1_crushedNow_1
theorem dksX1_crushedNow_0 : cX1_crushedNow.data.toList.drop 0 = dktX1_crushedNow_0 := by decide +kernel
theorem dksX1_crushedNow_1 : cX1_crushedNow.data.toList.drop 22 = dktX1_crushedNow_1 := dk_seg dksX1_crushedNow_0 22 rfl rfl
theorem dksX1_crushedNow_2 : cX1_crushedNow.data.toList.drop 46 = dktX1_crushedNow_2 := dk_seg dksX1_crushedNow_1 24 rfl rfl
theorem dX1_crushedNow_0 : decode cX1_crushedNow 0 = .ok (.aload_n 0, 1) := dk_42 (dk_at dksX1_crushedNow_0 0 rfl rfl)
theorem dX1_crushedNow_1 : decode cX1_crushedNow 1 = .ok (.getfield 34, 3) := dk_180 0 34 (dk_at dksX1_crushedNow_0 1 rfl rfl)
theorem dX1_crushedNow_4 : decode cX1_crushedNow 4 = .ok (.invokevirtual 278, 3) := dk_182 1 22 (dk_at dksX1_crushedNow_0 4 rfl rfl)
theorem dX1_crushedNow_7 : decode cX1_crushedNow 7 = .ok (.astore_n 3, 1) := dk_78 (dk_at dksX1_crushedNow_0 7 rfl rfl)
theorem dX1_crushedNow_8 : decode cX1_crushedNow 8 = .ok (.iconst 0, 1) := dk_3 (dk_at dksX1_crushedNow_0 8 rfl rfl)
theorem dX1_crushedNow_9 : decode cX1_crushedNow 9 = .ok (.istore 4, 2) := dk_54 4 (dk_at dksX1_crushedNow_0 9 rfl rfl)
theorem dX1_crushedNow_11 : decode cX1_crushedNow 11 = .ok (.iload 4, 2) := dk_21 4 (dk_at dksX1_crushedNow_0 11 rfl rfl)
theorem dX1_crushedNow_13 : decode cX1_crushedNow 13 = .ok (.iload_n 2, 1) := dk_28 (dk_at dksX1_crushedNow_0 13 rfl rfl)
theorem dX1_crushedNow_14 : decode cX1_crushedNow 14 = .ok (.if_icmp .gt 38, 3) := dk_163 0 38 (dk_at dksX1_crushedNow_0 14 rfl rfl)
theorem dX1_crushedNow_17 : decode cX1_crushedNow 17 = .ok (.aload_n 3, 1) := dk_45 (dk_at dksX1_crushedNow_0 17 rfl rfl)
theorem dX1_crushedNow_18 : decode cX1_crushedNow 18 = .ok (.getfield 109, 3) := dk_180 0 109 (dk_at dksX1_crushedNow_0 18 rfl rfl)
theorem dX1_crushedNow_21 : decode cX1_crushedNow 21 = .ok (.iload_n 1, 1) := dk_27 (dk_at dksX1_crushedNow_0 21 rfl rfl)
theorem dX1_crushedNow_22 : decode cX1_crushedNow 22 = .ok (.invokevirtual 78, 3) := dk_182 0 78 (dk_at dksX1_crushedNow_1 0 rfl rfl)
theorem dX1_crushedNow_25 : decode cX1_crushedNow 25 = .ok (.checkcast 112, 3) := dk_192 0 112 (dk_at dksX1_crushedNow_1 3 rfl rfl)
theorem dX1_crushedNow_28 : decode cX1_crushedNow 28 = .ok (.getfield 198, 3) := dk_180 0 198 (dk_at dksX1_crushedNow_1 6 rfl rfl)
theorem dX1_crushedNow_31 : decode cX1_crushedNow 31 = .ok (.iconst 3, 1) := dk_6 (dk_at dksX1_crushedNow_1 9 rfl rfl)
theorem dX1_crushedNow_32 : decode cX1_crushedNow 32 = .ok (.if_icmp .ne 6, 3) := dk_160 0 6 (dk_at dksX1_crushedNow_1 10 rfl rfl)
theorem dX1_crushedNow_35 : decode cX1_crushedNow 35 = .ok (.iload 4, 2) := dk_21 4 (dk_at dksX1_crushedNow_1 13 rfl rfl)
theorem dX1_crushedNow_37 : decode cX1_crushedNow 37 = .ok (.ireturn, 1) := dk_172 (dk_at dksX1_crushedNow_1 15 rfl rfl)
theorem dX1_crushedNow_38 : decode cX1_crushedNow 38 = .ok (.aload_n 3, 1) := dk_45 (dk_at dksX1_crushedNow_1 16 rfl rfl)
theorem dX1_crushedNow_39 : decode cX1_crushedNow 39 = .ok (.bipush 25, 2) := dk_16 25 (dk_at dksX1_crushedNow_1 17 rfl rfl)
theorem dX1_crushedNow_41 : decode cX1_crushedNow 41 = .ok (.iconst 0, 1) := dk_3 (dk_at dksX1_crushedNow_1 19 rfl rfl)
theorem dX1_crushedNow_42 : decode cX1_crushedNow 42 = .ok (.invokevirtual 195, 3) := dk_182 0 195 (dk_at dksX1_crushedNow_1 20 rfl rfl)
theorem dX1_crushedNow_45 : decode cX1_crushedNow 45 = .ok (.pop, 1) := dk_87 (dk_at dksX1_crushedNow_1 23 rfl rfl)
theorem dX1_crushedNow_46 : decode cX1_crushedNow 46 = .ok (.iinc 4 1, 3) := dk_132 4 1 (dk_at dksX1_crushedNow_2 0 rfl rfl)
theorem dX1_crushedNow_49 : decode cX1_crushedNow 49 = .ok (.goto (-38), 3) := dk_167 255 218 (dk_at dksX1_crushedNow_2 3 rfl rfl)
theorem dX1_crushedNow_52 : decode cX1_crushedNow 52 = .ok (.iconst (-1), 1) := dk_2 (dk_at dksX1_crushedNow_2 6 rfl rfl)
theorem dX1_crushedNow_53 : decode cX1_crushedNow 53 = .ok (.ireturn, 1) := dk_172 (dk_at dksX1_crushedNow_2 7 rfl rfl)
abbrev cX1_stopsNow : ByteArray := prog_1_method_40_code
def yX1_stopsNow : MethodName := ⟨RX1, "stopsNow", "(I)I"⟩
def dkwX1_stopsNow_1 : List UInt8 := [44, 16, 25, 3, 182, 0, 195, 87, 132, 3, 1, 167, 255, 231, 2, 172]
abbrev dktX1_stopsNow_1 : List UInt8 := dkwX1_stopsNow_1 ++ []
def dkwX1_stopsNow_0 : List UInt8 := [42, 180, 0, 34, 182, 1, 22, 77, 3, 62, 29, 27, 163, 0, 26, 44, 180, 0, 148, 154, 0, 5, 29, 172]
abbrev dktX1_stopsNow_0 : List UInt8 := dkwX1_stopsNow_0 ++ dktX1_stopsNow_1
theorem dksX1_stopsNow_0 : cX1_stopsNow.data.toList.drop 0 = dktX1_stopsNow_0 := by decide +kernel
theorem dksX1_stopsNow_1 : cX1_stopsNow.data.toList.drop 24 = dktX1_stopsNow_1 := dk_seg dksX1_stopsNow_0 24 rfl rfl
theorem dX1_stopsNow_0 : decode cX1_stopsNow 0 = .ok (.aload_n 0, 1) := dk_42 (dk_at dksX1_stopsNow_0 0 rfl rfl)
theorem dX1_stopsNow_1 : decode cX1_stopsNow 1 = .ok (.getfield 34, 3) := dk_180 0 34 (dk_at dksX1_stopsNow_0 1 rfl rfl)
theorem dX1_stopsNow_4 : decode cX1_stopsNow 4 = .ok (.invokevirtual 278, 3) := dk_182 1 22 (dk_at dksX1_stopsNow_0 4 rfl rfl)
theorem dX1_stopsNow_7 : decode cX1_stopsNow 7 = .ok (.astore_n 2, 1) := dk_77 (dk_at dksX1_stopsNow_0 7 rfl rfl)
theorem dX1_stopsNow_8 : decode cX1_stopsNow 8 = .ok (.iconst 0, 1) := dk_3 (dk_at dksX1_stopsNow_0 8 rfl rfl)
theorem dX1_stopsNow_9 : decode cX1_stopsNow 9 = .ok (.istore_n 3, 1) := dk_62 (dk_at dksX1_stopsNow_0 9 rfl rfl)
theorem dX1_stopsNow_10 : decode cX1_stopsNow 10 = .ok (.iload_n 3, 1) := dk_29 (dk_at dksX1_stopsNow_0 10 rfl rfl)
theorem dX1_stopsNow_11 : decode cX1_stopsNow 11 = .ok (.iload_n 1, 1) := dk_27 (dk_at dksX1_stopsNow_0 11 rfl rfl)
theorem dX1_stopsNow_12 : decode cX1_stopsNow 12 = .ok (.if_icmp .gt 26, 3) := dk_163 0 26 (dk_at dksX1_stopsNow_0 12 rfl rfl)
theorem dX1_stopsNow_15 : decode cX1_stopsNow 15 = .ok (.aload_n 2, 1) := dk_44 (dk_at dksX1_stopsNow_0 15 rfl rfl)
theorem dX1_stopsNow_16 : decode cX1_stopsNow 16 = .ok (.getfield 148, 3) := dk_180 0 148 (dk_at dksX1_stopsNow_0 16 rfl rfl)
theorem dX1_stopsNow_19 : decode cX1_stopsNow 19 = .ok (.ifCond .ne 5, 3) := dk_154 0 5 (dk_at dksX1_stopsNow_0 19 rfl rfl)
theorem dX1_stopsNow_22 : decode cX1_stopsNow 22 = .ok (.iload_n 3, 1) := dk_29 (dk_at dksX1_stopsNow_0 22 rfl rfl)
theorem dX1_stopsNow_23 : decode cX1_stopsNow 23 = .ok (.ireturn, 1) := dk_172 (dk_at dksX1_stopsNow_0 23 rfl rfl)
theorem dX1_stopsNow_24 : decode cX1_stopsNow 24 = .ok (.aload_n 2, 1) := dk_44 (dk_at dksX1_stopsNow_1 0 rfl rfl)
theorem dX1_stopsNow_25 : decode cX1_stopsNow 25 = .ok (.bipush 25, 2) := dk_16 25 (dk_at dksX1_stopsNow_1 1 rfl rfl)
theorem dX1_stopsNow_27 : decode cX1_stopsNow 27 = .ok (.iconst 0, 1) := dk_3 (dk_at dksX1_stopsNow_1 3 rfl rfl)
theorem dX1_stopsNow_28 : decode cX1_stopsNow 28 = .ok (.invokevirtual 195, 3) := dk_182 0 195 (dk_at dksX1_stopsNow_1 4 rfl rfl)
theorem dX1_stopsNow_31 : decode cX1_stopsNow 31 = .ok (.pop, 1) := dk_87 (dk_at dksX1_stopsNow_1 7 rfl rfl)
theorem dX1_stopsNow_32 : decode cX1_stopsNow 32 = .ok (.iinc 3 1, 3) := dk_132 3 1 (dk_at dksX1_stopsNow_1 8 rfl rfl)
theorem dX1_stopsNow_35 : decode cX1_stopsNow 35 = .ok (.goto (-25), 3) := dk_167 255 231 (dk_at dksX1_stopsNow_1 11 rfl rfl)
theorem dX1_stopsNow_38 : decode cX1_stopsNow 38 = .ok (.iconst (-1), 1) := dk_2 (dk_at dksX1_stopsNow_1 14 rfl rfl)
theorem dX1_stopsNow_39 : decode cX1_stopsNow 39 = .ok (.ireturn, 1) := dk_172 (dk_at dksX1_stopsNow_1 15 rfl rfl)
abbrev cX1_orderNow : ByteArray := prog_1_method_42_code
def yX1_orderNow : MethodName := ⟨RX1, "orderNow", "(I)I"⟩
def dkwX1_orderNow_3 : List UInt8 := [21, 4, 61, 132, 4, 1, 167, 255, 186, 28, 172]
abbrev dktX1_orderNow_3 : List UInt8 := dkwX1_orderNow_3 ++ []
def dkwX1_orderNow_2 : List UInt8 := [132, 6, 1, 167, 255, 238, 25, 5, 180, 0, 161, 29, 163, 0, 6, 167, 0, 12, 25, 5, 180, 0, 161, 62]
abbrev dktX1_orderNow_2 : List UInt8 := dkwX1_orderNow_2 ++ dktX1_orderNow_3
def dkwX1_orderNow_1 : List UInt8 := [21, 4, 181, 0, 90, 3, 54, 6, 21, 6, 27, 162, 0, 18, 25, 5, 16, 25, 3, 182, 0, 195, 87]
abbrev dktX1_orderNow_1 : List UInt8 := dkwX1_orderNow_1 ++ dktX1_orderNow_2
def dkwX1_orderNow_0 : List UInt8 := [3, 61, 2, 62, 3, 54, 4, 21, 4, 6, 162, 0, 70, 42, 180, 0, 34, 182, 1, 22, 58, 5, 25, 5]
abbrev dktX1_orderNow_0 : List UInt8 := dkwX1_orderNow_0 ++ dktX1_orderNow_1
theorem dksX1_orderNow_0 : cX1_orderNow.data.toList.drop 0 = dktX1_orderNow_0 := by decide +kernel
theorem dksX1_orderNow_1 : cX1_orderNow.data.toList.drop 24 = dktX1_orderNow_1 := dk_seg dksX1_orderNow_0 24 rfl rfl
theorem dksX1_orderNow_2 : cX1_orderNow.data.toList.drop 47 = dktX1_orderNow_2 := dk_seg dksX1_orderNow_1 23 rfl rfl
theorem dksX1_orderNow_3 : cX1_orderNow.data.toList.drop 71 = dktX1_orderNow_3 := dk_seg dksX1_orderNow_2 24 rfl rfl
theorem dX1_orderNow_0 : decode cX1_orderNow 0 = .ok (.iconst 0, 1) := dk_3 (dk_at dksX1_orderNow_0 0 rfl rfl)
theorem dX1_orderNow_1 : decode cX1_orderNow 1 = .ok (.istore_n 2, 1) := dk_61 (dk_at dksX1_orderNow_0 1 rfl rfl)
theorem dX1_orderNow_2 : decode cX1_orderNow 2 = .ok (.iconst (-1), 1) := dk_2 (dk_at dksX1_orderNow_0 2 rfl rfl)
theorem dX1_orderNow_3 : decode cX1_orderNow 3 = .ok (.istore_n 3, 1) := dk_62 (dk_at dksX1_orderNow_0 3 rfl rfl)
theorem dX1_orderNow_4 : decode cX1_orderNow 4 = .ok (.iconst 0, 1) := dk_3 (dk_at dksX1_orderNow_0 4 rfl rfl)
theorem dX1_orderNow_5 : decode cX1_orderNow 5 = .ok (.istore 4, 2) := dk_54 4 (dk_at dksX1_orderNow_0 5 rfl rfl)
theorem dX1_orderNow_7 : decode cX1_orderNow 7 = .ok (.iload 4, 2) := dk_21 4 (dk_at dksX1_orderNow_0 7 rfl rfl)
theorem dX1_orderNow_9 : decode cX1_orderNow 9 = .ok (.iconst 3, 1) := dk_6 (dk_at dksX1_orderNow_0 9 rfl rfl)
theorem dX1_orderNow_10 : decode cX1_orderNow 10 = .ok (.if_icmp .ge 70, 3) := dk_162 0 70 (dk_at dksX1_orderNow_0 10 rfl rfl)
theorem dX1_orderNow_13 : decode cX1_orderNow 13 = .ok (.aload_n 0, 1) := dk_42 (dk_at dksX1_orderNow_0 13 rfl rfl)
theorem dX1_orderNow_14 : decode cX1_orderNow 14 = .ok (.getfield 34, 3) := dk_180 0 34 (dk_at dksX1_orderNow_0 14 rfl rfl)
theorem dX1_orderNow_17 : decode cX1_orderNow 17 = .ok (.invokevirtual 278, 3) := dk_182 1 22 (dk_at dksX1_orderNow_0 17 rfl rfl)
theorem dX1_orderNow_20 : decode cX1_orderNow 20 = .ok (.astore 5, 2) := dk_58 5 (dk_at dksX1_orderNow_0 20 rfl rfl)
theorem dX1_orderNow_22 : decode cX1_orderNow 22 = .ok (.aload 5, 2) := dk_25 5 (dk_at dksX1_orderNow_0 22 rfl rfl)
theorem dX1_orderNow_24 : decode cX1_orderNow 24 = .ok (.iload 4, 2) := dk_21 4 (dk_at dksX1_orderNow_1 0 rfl rfl)
theorem dX1_orderNow_26 : decode cX1_orderNow 26 = .ok (.putfield 90, 3) := dk_181 0 90 (dk_at dksX1_orderNow_1 2 rfl rfl)
theorem dX1_orderNow_29 : decode cX1_orderNow 29 = .ok (.iconst 0, 1) := dk_3 (dk_at dksX1_orderNow_1 5 rfl rfl)
theorem dX1_orderNow_30 : decode cX1_orderNow 30 = .ok (.istore 6, 2) := dk_54 6 (dk_at dksX1_orderNow_1 6 rfl rfl)
theorem dX1_orderNow_32 : decode cX1_orderNow 32 = .ok (.iload 6, 2) := dk_21 6 (dk_at dksX1_orderNow_1 8 rfl rfl)
theorem dX1_orderNow_34 : decode cX1_orderNow 34 = .ok (.iload_n 1, 1) := dk_27 (dk_at dksX1_orderNow_1 10 rfl rfl)
theorem dX1_orderNow_35 : decode cX1_orderNow 35 = .ok (.if_icmp .ge 18, 3) := dk_162 0 18 (dk_at dksX1_orderNow_1 11 rfl rfl)
theorem dX1_orderNow_38 : decode cX1_orderNow 38 = .ok (.aload 5, 2) := dk_25 5 (dk_at dksX1_orderNow_1 14 rfl rfl)
theorem dX1_orderNow_40 : decode cX1_orderNow 40 = .ok (.bipush 25, 2) := dk_16 25 (dk_at dksX1_orderNow_1 16 rfl rfl)
theorem dX1_orderNow_42 : decode cX1_orderNow 42 = .ok (.iconst 0, 1) := dk_3 (dk_at dksX1_orderNow_1 18 rfl rfl)
theorem dX1_orderNow_43 : decode cX1_orderNow 43 = .ok (.invokevirtual 195, 3) := dk_182 0 195 (dk_at dksX1_orderNow_1 19 rfl rfl)
theorem dX1_orderNow_46 : decode cX1_orderNow 46 = .ok (.pop, 1) := dk_87 (dk_at dksX1_orderNow_1 22 rfl rfl)
theorem dX1_orderNow_47 : decode cX1_orderNow 47 = .ok (.iinc 6 1, 3) := dk_132 6 1 (dk_at dksX1_orderNow_2 0 rfl rfl)
theorem dX1_orderNow_50 : decode cX1_orderNow 50 = .ok (.goto (-18), 3) := dk_167 255 238 (dk_at dksX1_orderNow_2 3 rfl rfl)
theorem dX1_orderNow_53 : decode cX1_orderNow 53 = .ok (.aload 5, 2) := dk_25 5 (dk_at dksX1_orderNow_2 6 rfl rfl)
theorem dX1_orderNow_55 : decode cX1_orderNow 55 = .ok (.getfield 161, 3) := dk_180 0 161 (dk_at dksX1_orderNow_2 8 rfl rfl)
theorem dX1_orderNow_58 : decode cX1_orderNow 58 = .ok (.iload_n 3, 1) := dk_29 (dk_at dksX1_orderNow_2 11 rfl rfl)
theorem dX1_orderNow_59 : decode cX1_orderNow 59 = .ok (.if_icmp .gt 6, 3) := dk_163 0 6 (dk_at dksX1_orderNow_2 12 rfl rfl)
theorem dX1_orderNow_62 : decode cX1_orderNow 62 = .ok (.goto 12, 3) := dk_167 0 12 (dk_at dksX1_orderNow_2 15 rfl rfl)
theorem dX1_orderNow_65 : decode cX1_orderNow 65 = .ok (.aload 5, 2) := dk_25 5 (dk_at dksX1_orderNow_2 18 rfl rfl)
theorem dX1_orderNow_67 : decode cX1_orderNow 67 = .ok (.getfield 161, 3) := dk_180 0 161 (dk_at dksX1_orderNow_2 20 rfl rfl)
theorem dX1_orderNow_70 : decode cX1_orderNow 70 = .ok (.istore_n 3, 1) := dk_62 (dk_at dksX1_orderNow_2 23 rfl rfl)
theorem dX1_orderNow_71 : decode cX1_orderNow 71 = .ok (.iload 4, 2) := dk_21 4 (dk_at dksX1_orderNow_3 0 rfl rfl)
theorem dX1_orderNow_73 : decode cX1_orderNow 73 = .ok (.istore_n 2, 1) := dk_61 (dk_at dksX1_orderNow_3 2 rfl rfl)
theorem dX1_orderNow_74 : decode cX1_orderNow 74 = .ok (.iinc 4 1, 3) := dk_132 4 1 (dk_at dksX1_orderNow_3 3 rfl rfl)
theorem dX1_orderNow_77 : decode cX1_orderNow 77 = .ok (.goto (-70), 3) := dk_167 255 186 (dk_at dksX1_orderNow_3 6 rfl rfl)
theorem dX1_orderNow_80 : decode cX1_orderNow 80 = .ok (.iload_n 2, 1) := dk_28 (dk_at dksX1_orderNow_3 9 rfl rfl)
theorem dX1_orderNow_81 : decode cX1_orderNow 81 = .ok (.ireturn, 1) := dk_172 (dk_at dksX1_orderNow_3 10 rfl rfl)
abbrev cX1_field : ByteArray := prog_1_method_8_code
def yX1_field : MethodName := ⟨RX1, "field", "(III)I"⟩
def dkwX1_field_3 : List UInt8 := [29, 183, 0, 65, 182, 0, 68, 87, 42, 180, 0, 34, 180, 0, 50, 182, 0, 54, 4, 100, 172]
abbrev dktX1_field_3 : List UInt8 := dkwX1_field_3 ++ []
def dkwX1_field_2 : List UInt8 := [162, 0, 7, 4, 167, 0, 4, 3, 184, 0, 60, 42, 180, 0, 34, 180, 0, 50, 187, 0, 63, 89, 27, 28]
abbrev dktX1_field_2 : List UInt8 := dkwX1_field_2 ++ dktX1_field_3
def dkwX1_field_1 : List UInt8 := [153, 0, 7, 4, 167, 0, 4, 3, 184, 0, 46, 42, 180, 0, 34, 180, 0, 50, 182, 0, 54, 16, 10]
abbrev dktX1_field_1 : List UInt8 := dkwX1_field_1 ++ dktX1_field_2
def dkwX1_field_0 : List UInt8 := [27, 7, 184, 0, 42, 4, 16, 9, 28, 184, 0, 22, 153, 0, 17, 4, 16, 6, 29, 184, 0, 22]
abbrev dktX1_field_0 : List UInt8 := dkwX1_field_0 ++ dktX1_field_1
theorem dksX1_field_0 : cX1_field.data.toList.drop 0 = dktX1_field_0 := by decide +kernel
theorem dksX1_field_1 : cX1_field.data.toList.drop 22 = dktX1_field_1 := dk_seg dksX1_field_0 22 rfl rfl
theorem dksX1_field_2 : cX1_field.data.toList.drop 45 = dktX1_field_2 := dk_seg dksX1_field_1 23 rfl rfl
theorem dksX1_field_3 : cX1_field.data.toList.drop 69 = dktX1_field_3 := dk_seg dksX1_field_2 24 rfl rfl
theorem dX1_field_0 : decode cX1_field 0 = .ok (.iload_n 1, 1) := dk_27 (dk_at dksX1_field_0 0 rfl rfl)
theorem dX1_field_1 : decode cX1_field 1 = .ok (.iconst 4, 1) := dk_7 (dk_at dksX1_field_0 1 rfl rfl)
theorem dX1_field_2 : decode cX1_field 2 = .ok (.invokestatic 42, 3) := dk_184 0 42 (dk_at dksX1_field_0 2 rfl rfl)
theorem dX1_field_5 : decode cX1_field 5 = .ok (.iconst 1, 1) := dk_4 (dk_at dksX1_field_0 5 rfl rfl)
theorem dX1_field_6 : decode cX1_field 6 = .ok (.bipush 9, 2) := dk_16 9 (dk_at dksX1_field_0 6 rfl rfl)
theorem dX1_field_8 : decode cX1_field 8 = .ok (.iload_n 2, 1) := dk_28 (dk_at dksX1_field_0 8 rfl rfl)
theorem dX1_field_9 : decode cX1_field 9 = .ok (.invokestatic 22, 3) := dk_184 0 22 (dk_at dksX1_field_0 9 rfl rfl)
theorem dX1_field_12 : decode cX1_field 12 = .ok (.ifCond .eq 17, 3) := dk_153 0 17 (dk_at dksX1_field_0 12 rfl rfl)
theorem dX1_field_15 : decode cX1_field 15 = .ok (.iconst 1, 1) := dk_4 (dk_at dksX1_field_0 15 rfl rfl)
theorem dX1_field_16 : decode cX1_field 16 = .ok (.bipush 6, 2) := dk_16 6 (dk_at dksX1_field_0 16 rfl rfl)
theorem dX1_field_18 : decode cX1_field 18 = .ok (.iload_n 3, 1) := dk_29 (dk_at dksX1_field_0 18 rfl rfl)
theorem dX1_field_19 : decode cX1_field 19 = .ok (.invokestatic 22, 3) := dk_184 0 22 (dk_at dksX1_field_0 19 rfl rfl)
theorem dX1_field_22 : decode cX1_field 22 = .ok (.ifCond .eq 7, 3) := dk_153 0 7 (dk_at dksX1_field_1 0 rfl rfl)
theorem dX1_field_25 : decode cX1_field 25 = .ok (.iconst 1, 1) := dk_4 (dk_at dksX1_field_1 3 rfl rfl)
theorem dX1_field_26 : decode cX1_field 26 = .ok (.goto 4, 3) := dk_167 0 4 (dk_at dksX1_field_1 4 rfl rfl)
theorem dX1_field_29 : decode cX1_field 29 = .ok (.iconst 0, 1) := dk_3 (dk_at dksX1_field_1 7 rfl rfl)
theorem dX1_field_30 : decode cX1_field 30 = .ok (.invokestatic 46, 3) := dk_184 0 46 (dk_at dksX1_field_1 8 rfl rfl)
theorem dX1_field_33 : decode cX1_field 33 = .ok (.aload_n 0, 1) := dk_42 (dk_at dksX1_field_1 11 rfl rfl)
theorem dX1_field_34 : decode cX1_field 34 = .ok (.getfield 34, 3) := dk_180 0 34 (dk_at dksX1_field_1 12 rfl rfl)
theorem dX1_field_37 : decode cX1_field 37 = .ok (.getfield 50, 3) := dk_180 0 50 (dk_at dksX1_field_1 15 rfl rfl)
theorem dX1_field_40 : decode cX1_field 40 = .ok (.invokevirtual 54, 3) := dk_182 0 54 (dk_at dksX1_field_1 18 rfl rfl)
theorem dX1_field_43 : decode cX1_field 43 = .ok (.bipush 10, 2) := dk_16 10 (dk_at dksX1_field_1 21 rfl rfl)
theorem dX1_field_45 : decode cX1_field 45 = .ok (.if_icmp .ge 7, 3) := dk_162 0 7 (dk_at dksX1_field_2 0 rfl rfl)
theorem dX1_field_48 : decode cX1_field 48 = .ok (.iconst 1, 1) := dk_4 (dk_at dksX1_field_2 3 rfl rfl)
theorem dX1_field_49 : decode cX1_field 49 = .ok (.goto 4, 3) := dk_167 0 4 (dk_at dksX1_field_2 4 rfl rfl)
theorem dX1_field_52 : decode cX1_field 52 = .ok (.iconst 0, 1) := dk_3 (dk_at dksX1_field_2 7 rfl rfl)
theorem dX1_field_53 : decode cX1_field 53 = .ok (.invokestatic 60, 3) := dk_184 0 60 (dk_at dksX1_field_2 8 rfl rfl)
theorem dX1_field_56 : decode cX1_field 56 = .ok (.aload_n 0, 1) := dk_42 (dk_at dksX1_field_2 11 rfl rfl)
theorem dX1_field_57 : decode cX1_field 57 = .ok (.getfield 34, 3) := dk_180 0 34 (dk_at dksX1_field_2 12 rfl rfl)
theorem dX1_field_60 : decode cX1_field 60 = .ok (.getfield 50, 3) := dk_180 0 50 (dk_at dksX1_field_2 15 rfl rfl)
theorem dX1_field_63 : decode cX1_field 63 = .ok (.new 63, 3) := dk_187 0 63 (dk_at dksX1_field_2 18 rfl rfl)
theorem dX1_field_66 : decode cX1_field 66 = .ok (.dup, 1) := dk_89 (dk_at dksX1_field_2 21 rfl rfl)
theorem dX1_field_67 : decode cX1_field 67 = .ok (.iload_n 1, 1) := dk_27 (dk_at dksX1_field_2 22 rfl rfl)
theorem dX1_field_68 : decode cX1_field 68 = .ok (.iload_n 2, 1) := dk_28 (dk_at dksX1_field_2 23 rfl rfl)
theorem dX1_field_69 : decode cX1_field 69 = .ok (.iload_n 3, 1) := dk_29 (dk_at dksX1_field_3 0 rfl rfl)
theorem dX1_field_70 : decode cX1_field 70 = .ok (.invokespecial 65, 3) := dk_183 0 65 (dk_at dksX1_field_3 1 rfl rfl)
theorem dX1_field_73 : decode cX1_field 73 = .ok (.invokevirtual 68, 3) := dk_182 0 68 (dk_at dksX1_field_3 4 rfl rfl)
theorem dX1_field_76 : decode cX1_field 76 = .ok (.pop, 1) := dk_87 (dk_at dksX1_field_3 7 rfl rfl)
theorem dX1_field_77 : decode cX1_field 77 = .ok (.aload_n 0, 1) := dk_42 (dk_at dksX1_field_3 8 rfl rfl)
theorem dX1_field_78 : decode cX1_field 78 = .ok (.getfield 34, 3) := dk_180 0 34 (dk_at dksX1_field_3 9 rfl rfl)
theorem dX1_field_81 : decode cX1_field 81 = .ok (.getfield 50, 3) := dk_180 0 50 (dk_at dksX1_field_3 12 rfl rfl)
theorem dX1_field_84 : decode cX1_field 84 = .ok (.invokevirtual 54, 3) := dk_182 0 54 (dk_at dksX1_field_3 15 rfl rfl)
theorem dX1_field_87 : decode cX1_field 87 = .ok (.iconst 1, 1) := dk_4 (dk_at dksX1_field_3 18 rfl rfl)
theorem dX1_field_88 : decode cX1_field 88 = .ok (.isub, 1) := dk_100 (dk_at dksX1_field_3 19 rfl rfl)
theorem dX1_field_89 : decode cX1_field 89 = .ok (.ireturn, 1) := dk_172 (dk_at dksX1_field_3 20 rfl rfl)
abbrev cX1_requireIndex : ByteArray := prog_1_method_3_code
def yX1_requireIndex : MethodName := ⟨RX1, "requireIndex", "(II)V"⟩
def dkwX1_requireIndex_0 : List UInt8 := [26, 155, 0, 8, 26, 27, 161, 0, 11, 187, 0, 10, 89, 183, 0, 12, 191, 177]
abbrev dktX1_requireIndex_0 : List UInt8 := dkwX1_requireIndex_0 ++ []
theorem dksX1_requireIndex_0 : cX1_requireIndex.data.toList.drop 0 = dktX1_requireIndex_0 := by decide +kernel
theorem dX1_requireIndex_0 : decode cX1_requireIndex 0 = .ok (.iload_n 0, 1) := dk_26 (dk_at dksX1_requireIndex_0 0 rfl rfl)
theorem dX1_requireIndex_1 : decode cX1_requireIndex 1 = .ok (.ifCond .lt 8, 3) := dk_155 0 8 (dk_at dksX1_requireIndex_0 1 rfl rfl)
theorem dX1_requireIndex_4 : decode cX1_requireIndex 4 = .ok (.iload_n 0, 1) := dk_26 (dk_at dksX1_requireIndex_0 4 rfl rfl)
theorem dX1_requireIndex_5 : decode cX1_requireIndex 5 = .ok (.iload_n 1, 1) := dk_27 (dk_at dksX1_requireIndex_0 5 rfl rfl)
theorem dX1_requireIndex_6 : decode cX1_requireIndex 6 = .ok (.if_icmp .lt 11, 3) := dk_161 0 11 (dk_at dksX1_requireIndex_0 6 rfl rfl)
theorem dX1_requireIndex_9 : decode cX1_requireIndex 9 = .ok (.new 10, 3) := dk_187 0 10 (dk_at dksX1_requireIndex_0 9 rfl rfl)
theorem dX1_requireIndex_12 : decode cX1_requireIndex 12 = .ok (.dup, 1) := dk_89 (dk_at dksX1_requireIndex_0 12 rfl rfl)
theorem dX1_requireIndex_13 : decode cX1_requireIndex 13 = .ok (.invokespecial 12, 3) := dk_183 0 12 (dk_at dksX1_requireIndex_0 13 rfl rfl)
theorem dX1_requireIndex_16 : decode cX1_requireIndex 16 = .ok (.athrow, 1) := dk_191 (dk_at dksX1_requireIndex_0 16 rfl rfl)
theorem dX1_requireIndex_17 : decode cX1_requireIndex 17 = .ok (.return_, 1) := dk_177 (dk_at dksX1_requireIndex_0 17 rfl rfl)
abbrev cX1_isFrom : ByteArray := prog_1_method_4_code
def yX1_isFrom : MethodName := ⟨RX1, "isFrom", "(III)Z"⟩
def dkwX1_isFrom_0 : List UInt8 := [28, 26, 161, 0, 12, 28, 27, 163, 0, 7, 4, 167, 0, 4, 3, 172]
abbrev dktX1_isFrom_0 : List UInt8 := dkwX1_isFrom_0 ++ []
theorem dksX1_isFrom_0 : cX1_isFrom.data.toList.drop 0 = dktX1_isFrom_0 := by decide +kernel
theorem dX1_isFrom_0 : decode cX1_isFrom 0 = .ok (.iload_n 2, 1) := dk_28 (dk_at dksX1_isFrom_0 0 rfl rfl)
theorem dX1_isFrom_1 : decode cX1_isFrom 1 = .ok (.iload_n 0, 1) := dk_26 (dk_at dksX1_isFrom_0 1 rfl rfl)
theorem dX1_isFrom_2 : decode cX1_isFrom 2 = .ok (.if_icmp .lt 12, 3) := dk_161 0 12 (dk_at dksX1_isFrom_0 2 rfl rfl)
theorem dX1_isFrom_5 : decode cX1_isFrom 5 = .ok (.iload_n 2, 1) := dk_28 (dk_at dksX1_isFrom_0 5 rfl rfl)
theorem dX1_isFrom_6 : decode cX1_isFrom 6 = .ok (.iload_n 1, 1) := dk_27 (dk_at dksX1_isFrom_0 6 rfl rfl)
theorem dX1_isFrom_7 : decode cX1_isFrom 7 = .ok (.if_icmp .gt 7, 3) := dk_163 0 7 (dk_at dksX1_isFrom_0 7 rfl rfl)
theorem dX1_isFrom_10 : decode cX1_isFrom 10 = .ok (.iconst 1, 1) := dk_4 (dk_at dksX1_isFrom_0 10 rfl rfl)
theorem dX1_isFrom_11 : decode cX1_isFrom 11 = .ok (.goto 4, 3) := dk_167 0 4 (dk_at dksX1_isFrom_0 11 rfl rfl)
theorem dX1_isFrom_14 : decode cX1_isFrom 14 = .ok (.iconst 0, 1) := dk_3 (dk_at dksX1_isFrom_0 14 rfl rfl)
theorem dX1_isFrom_15 : decode cX1_isFrom 15 = .ok (.ireturn, 1) := dk_172 (dk_at dksX1_isFrom_0 15 rfl rfl)
abbrev cX1_require : ByteArray := prog_1_method_1_code
def yX1_require : MethodName := ⟨RX1, "require", "(Z)V"⟩
def dkwX1_require_0 : List UInt8 := [26, 154, 0, 11, 187, 0, 1, 89, 183, 0, 3, 191, 177]
abbrev dktX1_require_0 : List UInt8 := dkwX1_require_0 ++ []
theorem dksX1_require_0 : cX1_require.data.toList.drop 0 = dktX1_require_0 := by decide +kernel
theorem dX1_require_0 : decode cX1_require 0 = .ok (.iload_n 0, 1) := dk_26 (dk_at dksX1_require_0 0 rfl rfl)
theorem dX1_require_1 : decode cX1_require 1 = .ok (.ifCond .ne 11, 3) := dk_154 0 11 (dk_at dksX1_require_0 1 rfl rfl)
theorem dX1_require_4 : decode cX1_require 4 = .ok (.new 1, 3) := dk_187 0 1 (dk_at dksX1_require_0 4 rfl rfl)
theorem dX1_require_7 : decode cX1_require 7 = .ok (.dup, 1) := dk_89 (dk_at dksX1_require_0 7 rfl rfl)
theorem dX1_require_8 : decode cX1_require 8 = .ok (.invokespecial 3, 3) := dk_183 0 3 (dk_at dksX1_require_0 8 rfl rfl)
theorem dX1_require_11 : decode cX1_require 11 = .ok (.athrow, 1) := dk_191 (dk_at dksX1_require_0 11 rfl rfl)
theorem dX1_require_12 : decode cX1_require 12 = .ok (.return_, 1) := dk_177 (dk_at dksX1_require_0 12 rfl rfl)
abbrev cX1_requireState : ByteArray := prog_1_method_2_code
def yX1_requireState : MethodName := ⟨RX1, "requireState", "(Z)V"⟩
def dkwX1_requireState_0 : List UInt8 := [26, 154, 0, 11, 187, 0, 7, 89, 183, 0, 9, 191, 177]
abbrev dktX1_requireState_0 : List UInt8 := dkwX1_requireState_0 ++ []
theorem dksX1_requireState_0 : cX1_requireState.data.toList.drop 0 = dktX1_requireState_0 := by decide +kernel
theorem dX1_requireState_0 : decode cX1_requireState 0 = .ok (.iload_n 0, 1) := dk_26 (dk_at dksX1_requireState_0 0 rfl rfl)
theorem dX1_requireState_1 : decode cX1_requireState 1 = .ok (.ifCond .ne 11, 3) := dk_154 0 11 (dk_at dksX1_requireState_0 1 rfl rfl)
theorem dX1_requireState_4 : decode cX1_requireState 4 = .ok (.new 7, 3) := dk_187 0 7 (dk_at dksX1_requireState_0 4 rfl rfl)
theorem dX1_requireState_7 : decode cX1_requireState 7 = .ok (.dup, 1) := dk_89 (dk_at dksX1_requireState_0 7 rfl rfl)
theorem dX1_requireState_8 : decode cX1_requireState 8 = .ok (.invokespecial 9, 3) := dk_183 0 9 (dk_at dksX1_requireState_0 8 rfl rfl)
theorem dX1_requireState_11 : decode cX1_requireState 11 = .ok (.athrow, 1) := dk_191 (dk_at dksX1_requireState_0 11 rfl rfl)
theorem dX1_requireState_12 : decode cX1_requireState 12 = .ok (.return_, 1) := dk_177 (dk_at dksX1_requireState_0 12 rfl rfl)
abbrev cX1_truck : ByteArray := prog_1_method_9_code
def yX1_truck : MethodName := ⟨RX1, "truck", "()I"⟩
def dkwX1_truck_2 : List UInt8 := [182, 0, 54, 4, 100, 172]
abbrev dktX1_truck_2 : List UInt8 := dkwX1_truck_2 ++ []
def dkwX1_truck_1 : List UInt8 := [180, 0, 34, 180, 0, 72, 187, 0, 75, 89, 183, 0, 77, 182, 0, 68, 87, 42, 180, 0, 34, 180, 0, 72]
abbrev dktX1_truck_1 : List UInt8 := dkwX1_truck_1 ++ dktX1_truck_2
def dkwX1_truck_0 : List UInt8 := [42, 180, 0, 34, 180, 0, 72, 182, 0, 54, 8, 162, 0, 7, 4, 167, 0, 4, 3, 184, 0, 60, 42]
abbrev dktX1_truck_0 : List UInt8 := dkwX1_truck_0 ++ dktX1_truck_1
theorem dksX1_truck_0 : cX1_truck.data.toList.drop 0 = dktX1_truck_0 := by decide +kernel
theorem dksX1_truck_1 : cX1_truck.data.toList.drop 23 = dktX1_truck_1 := dk_seg dksX1_truck_0 23 rfl rfl
theorem dksX1_truck_2 : cX1_truck.data.toList.drop 47 = dktX1_truck_2 := dk_seg dksX1_truck_1 24 rfl rfl
theorem dX1_truck_0 : decode cX1_truck 0 = .ok (.aload_n 0, 1) := dk_42 (dk_at dksX1_truck_0 0 rfl rfl)
theorem dX1_truck_1 : decode cX1_truck 1 = .ok (.getfield 34, 3) := dk_180 0 34 (dk_at dksX1_truck_0 1 rfl rfl)
theorem dX1_truck_4 : decode cX1_truck 4 = .ok (.getfield 72, 3) := dk_180 0 72 (dk_at dksX1_truck_0 4 rfl rfl)
theorem dX1_truck_7 : decode cX1_truck 7 = .ok (.invokevirtual 54, 3) := dk_182 0 54 (dk_at dksX1_truck_0 7 rfl rfl)
theorem dX1_truck_10 : decode cX1_truck 10 = .ok (.iconst 5, 1) := dk_8 (dk_at dksX1_truck_0 10 rfl rfl)
theorem dX1_truck_11 : decode cX1_truck 11 = .ok (.if_icmp .ge 7, 3) := dk_162 0 7 (dk_at dksX1_truck_0 11 rfl rfl)
theorem dX1_truck_14 : decode cX1_truck 14 = .ok (.iconst 1, 1) := dk_4 (dk_at dksX1_truck_0 14 rfl rfl)
theorem dX1_truck_15 : decode cX1_truck 15 = .ok (.goto 4, 3) := dk_167 0 4 (dk_at dksX1_truck_0 15 rfl rfl)
theorem dX1_truck_18 : decode cX1_truck 18 = .ok (.iconst 0, 1) := dk_3 (dk_at dksX1_truck_0 18 rfl rfl)
theorem dX1_truck_19 : decode cX1_truck 19 = .ok (.invokestatic 60, 3) := dk_184 0 60 (dk_at dksX1_truck_0 19 rfl rfl)
theorem dX1_truck_22 : decode cX1_truck 22 = .ok (.aload_n 0, 1) := dk_42 (dk_at dksX1_truck_0 22 rfl rfl)
theorem dX1_truck_23 : decode cX1_truck 23 = .ok (.getfield 34, 3) := dk_180 0 34 (dk_at dksX1_truck_1 0 rfl rfl)
theorem dX1_truck_26 : decode cX1_truck 26 = .ok (.getfield 72, 3) := dk_180 0 72 (dk_at dksX1_truck_1 3 rfl rfl)
theorem dX1_truck_29 : decode cX1_truck 29 = .ok (.new 75, 3) := dk_187 0 75 (dk_at dksX1_truck_1 6 rfl rfl)
theorem dX1_truck_32 : decode cX1_truck 32 = .ok (.dup, 1) := dk_89 (dk_at dksX1_truck_1 9 rfl rfl)
theorem dX1_truck_33 : decode cX1_truck 33 = .ok (.invokespecial 77, 3) := dk_183 0 77 (dk_at dksX1_truck_1 10 rfl rfl)
theorem dX1_truck_36 : decode cX1_truck 36 = .ok (.invokevirtual 68, 3) := dk_182 0 68 (dk_at dksX1_truck_1 13 rfl rfl)
theorem dX1_truck_39 : decode cX1_truck 39 = .ok (.pop, 1) := dk_87 (dk_at dksX1_truck_1 16 rfl rfl)
theorem dX1_truck_40 : decode cX1_truck 40 = .ok (.aload_n 0, 1) := dk_42 (dk_at dksX1_truck_1 17 rfl rfl)
theorem dX1_truck_41 : decode cX1_truck 41 = .ok (.getfield 34, 3) := dk_180 0 34 (dk_at dksX1_truck_1 18 rfl rfl)
theorem dX1_truck_44 : decode cX1_truck 44 = .ok (.getfield 72, 3) := dk_180 0 72 (dk_at dksX1_truck_1 21 rfl rfl)
theorem dX1_truck_47 : decode cX1_truck 47 = .ok (.invokevirtual 54, 3) := dk_182 0 54 (dk_at dksX1_truck_2 0 rfl rfl)
theorem dX1_truck_50 : decode cX1_truck 50 = .ok (.iconst 1, 1) := dk_4 (dk_at dksX1_truck_2 3 rfl rfl)
theorem dX1_truck_51 : decode cX1_truck 51 = .ok (.isub, 1) := dk_100 (dk_at dksX1_truck_2 4 rfl rfl)
theorem dX1_truck_52 : decode cX1_truck 52 = .ok (.ireturn, 1) := dk_172 (dk_at dksX1_truck_2 5 rfl rfl)
abbrev cX1_smut : ByteArray := prog_1_method_12_code
def yX1_smut : MethodName := ⟨RX1, "smut", "(II)I"⟩
def dkwX1_smut_1 : List UInt8 := [96, 184, 0, 13, 181, 0, 86, 45, 180, 0, 86, 172]
abbrev dktX1_smut_1 : List UInt8 := dkwX1_smut_1 ++ []
def dkwX1_smut_0 : List UInt8 := [42, 27, 182, 0, 82, 78, 4, 16, 50, 28, 184, 0, 22, 184, 0, 46, 45, 16, 100, 45, 180, 0, 86, 28]
abbrev dktX1_smut_0 : List UInt8 := dkwX1_smut_0 ++ dktX1_smut_1
theorem dksX1_smut_0 : cX1_smut.data.toList.drop 0 = dktX1_smut_0 := by decide +kernel
theorem dksX1_smut_1 : cX1_smut.data.toList.drop 24 = dktX1_smut_1 := dk_seg dksX1_smut_0 24 rfl rfl
theorem dX1_smut_0 : decode cX1_smut 0 = .ok (.aload_n 0, 1) := dk_42 (dk_at dksX1_smut_0 0 rfl rfl)
theorem dX1_smut_1 : decode cX1_smut 1 = .ok (.iload_n 1, 1) := dk_27 (dk_at dksX1_smut_0 1 rfl rfl)
theorem dX1_smut_2 : decode cX1_smut 2 = .ok (.invokevirtual 82, 3) := dk_182 0 82 (dk_at dksX1_smut_0 2 rfl rfl)
theorem dX1_smut_5 : decode cX1_smut 5 = .ok (.astore_n 3, 1) := dk_78 (dk_at dksX1_smut_0 5 rfl rfl)
theorem dX1_smut_6 : decode cX1_smut 6 = .ok (.iconst 1, 1) := dk_4 (dk_at dksX1_smut_0 6 rfl rfl)
theorem dX1_smut_7 : decode cX1_smut 7 = .ok (.bipush 50, 2) := dk_16 50 (dk_at dksX1_smut_0 7 rfl rfl)
theorem dX1_smut_9 : decode cX1_smut 9 = .ok (.iload_n 2, 1) := dk_28 (dk_at dksX1_smut_0 9 rfl rfl)
theorem dX1_smut_10 : decode cX1_smut 10 = .ok (.invokestatic 22, 3) := dk_184 0 22 (dk_at dksX1_smut_0 10 rfl rfl)
theorem dX1_smut_13 : decode cX1_smut 13 = .ok (.invokestatic 46, 3) := dk_184 0 46 (dk_at dksX1_smut_0 13 rfl rfl)
theorem dX1_smut_16 : decode cX1_smut 16 = .ok (.aload_n 3, 1) := dk_45 (dk_at dksX1_smut_0 16 rfl rfl)
theorem dX1_smut_17 : decode cX1_smut 17 = .ok (.bipush 100, 2) := dk_16 100 (dk_at dksX1_smut_0 17 rfl rfl)
theorem dX1_smut_19 : decode cX1_smut 19 = .ok (.aload_n 3, 1) := dk_45 (dk_at dksX1_smut_0 19 rfl rfl)
theorem dX1_smut_20 : decode cX1_smut 20 = .ok (.getfield 86, 3) := dk_180 0 86 (dk_at dksX1_smut_0 20 rfl rfl)
theorem dX1_smut_23 : decode cX1_smut 23 = .ok (.iload_n 2, 1) := dk_28 (dk_at dksX1_smut_0 23 rfl rfl)
theorem dX1_smut_24 : decode cX1_smut 24 = .ok (.iadd, 1) := dk_96 (dk_at dksX1_smut_1 0 rfl rfl)
theorem dX1_smut_25 : decode cX1_smut 25 = .ok (.invokestatic 13, 3) := dk_184 0 13 (dk_at dksX1_smut_1 1 rfl rfl)
theorem dX1_smut_28 : decode cX1_smut 28 = .ok (.putfield 86, 3) := dk_181 0 86 (dk_at dksX1_smut_1 4 rfl rfl)
theorem dX1_smut_31 : decode cX1_smut 31 = .ok (.aload_n 3, 1) := dk_45 (dk_at dksX1_smut_1 7 rfl rfl)
theorem dX1_smut_32 : decode cX1_smut 32 = .ok (.getfield 86, 3) := dk_180 0 86 (dk_at dksX1_smut_1 8 rfl rfl)
theorem dX1_smut_35 : decode cX1_smut 35 = .ok (.ireturn, 1) := dk_172 (dk_at dksX1_smut_1 11 rfl rfl)
abbrev cX1_fieldAt : ByteArray := prog_1_method_10_code
def yX1_fieldAt : MethodName := ⟨RX1, "fieldAt", "(I)LCanecrush$Field;"⟩
def dkwX1_fieldAt_1 : List UInt8 := [182, 0, 78, 192, 0, 63, 176]
abbrev dktX1_fieldAt_1 : List UInt8 := dkwX1_fieldAt_1 ++ []
def dkwX1_fieldAt_0 : List UInt8 := [27, 42, 180, 0, 34, 180, 0, 50, 182, 0, 54, 184, 0, 42, 42, 180, 0, 34, 180, 0, 50, 27]
abbrev dktX1_fieldAt_0 : List UInt8 := dkwX1_fieldAt_0 ++ dktX1_fieldAt_1
theorem dksX1_fieldAt_0 : cX1_fieldAt.data.toList.drop 0 = dktX1_fieldAt_0 := by decide +kernel
theorem dksX1_fieldAt_1 : cX1_fieldAt.data.toList.drop 22 = dktX1_fieldAt_1 := dk_seg dksX1_fieldAt_0 22 rfl rfl
theorem dX1_fieldAt_0 : decode cX1_fieldAt 0 = .ok (.iload_n 1, 1) := dk_27 (dk_at dksX1_fieldAt_0 0 rfl rfl)
theorem dX1_fieldAt_1 : decode cX1_fieldAt 1 = .ok (.aload_n 0, 1) := dk_42 (dk_at dksX1_fieldAt_0 1 rfl rfl)
theorem dX1_fieldAt_2 : decode cX1_fieldAt 2 = .ok (.getfield 34, 3) := dk_180 0 34 (dk_at dksX1_fieldAt_0 2 rfl rfl)
theorem dX1_fieldAt_5 : decode cX1_fieldAt 5 = .ok (.getfield 50, 3) := dk_180 0 50 (dk_at dksX1_fieldAt_0 5 rfl rfl)
theorem dX1_fieldAt_8 : decode cX1_fieldAt 8 = .ok (.invokevirtual 54, 3) := dk_182 0 54 (dk_at dksX1_fieldAt_0 8 rfl rfl)
theorem dX1_fieldAt_11 : decode cX1_fieldAt 11 = .ok (.invokestatic 42, 3) := dk_184 0 42 (dk_at dksX1_fieldAt_0 11 rfl rfl)
theorem dX1_fieldAt_14 : decode cX1_fieldAt 14 = .ok (.aload_n 0, 1) := dk_42 (dk_at dksX1_fieldAt_0 14 rfl rfl)
theorem dX1_fieldAt_15 : decode cX1_fieldAt 15 = .ok (.getfield 34, 3) := dk_180 0 34 (dk_at dksX1_fieldAt_0 15 rfl rfl)
theorem dX1_fieldAt_18 : decode cX1_fieldAt 18 = .ok (.getfield 50, 3) := dk_180 0 50 (dk_at dksX1_fieldAt_0 18 rfl rfl)
theorem dX1_fieldAt_21 : decode cX1_fieldAt 21 = .ok (.iload_n 1, 1) := dk_27 (dk_at dksX1_fieldAt_0 21 rfl rfl)
theorem dX1_fieldAt_22 : decode cX1_fieldAt 22 = .ok (.invokevirtual 78, 3) := dk_182 0 78 (dk_at dksX1_fieldAt_1 0 rfl rfl)
theorem dX1_fieldAt_25 : decode cX1_fieldAt 25 = .ok (.checkcast 63, 3) := dk_192 0 63 (dk_at dksX1_fieldAt_1 3 rfl rfl)
theorem dX1_fieldAt_28 : decode cX1_fieldAt 28 = .ok (.areturn, 1) := dk_176 (dk_at dksX1_fieldAt_1 6 rfl rfl)
abbrev cX1_set : ByteArray := prog_1_method_13_code
def yX1_set : MethodName := ⟨RX1, "set", "(III)I"⟩
def dkwX1_set_3 : List UInt8 := [21, 4, 172]
abbrev dktX1_set_3 : List UInt8 := dkwX1_set_3 ++ []
def dkwX1_set_2 : List UInt8 := [180, 0, 34, 27, 181, 0, 93, 42, 180, 0, 34, 28, 181, 0, 96, 42, 180, 0, 34, 29, 181, 0, 90]
abbrev dktX1_set_2 : List UInt8 := dkwX1_set_2 ++ dktX1_set_3
def dkwX1_set_1 : List UInt8 := [184, 0, 22, 153, 0, 7, 4, 167, 0, 4, 3, 184, 0, 46, 42, 180, 0, 34, 180, 0, 90, 54, 4, 42]
abbrev dktX1_set_1 : List UInt8 := dkwX1_set_1 ++ dktX1_set_2
def dkwX1_set_0 : List UInt8 := [16, 20, 16, 80, 27, 184, 0, 22, 153, 0, 26, 3, 16, 9, 28, 184, 0, 22, 153, 0, 16, 3, 5, 29]
abbrev dktX1_set_0 : List UInt8 := dkwX1_set_0 ++ dktX1_set_1
theorem dksX1_set_0 : cX1_set.data.toList.drop 0 = dktX1_set_0 := by decide +kernel
theorem dksX1_set_1 : cX1_set.data.toList.drop 24 = dktX1_set_1 := dk_seg dksX1_set_0 24 rfl rfl
theorem dksX1_set_2 : cX1_set.data.toList.drop 48 = dktX1_set_2 := dk_seg dksX1_set_1 24 rfl rfl
theorem dksX1_set_3 : cX1_set.data.toList.drop 71 = dktX1_set_3 := dk_seg dksX1_set_2 23 rfl rfl
theorem dX1_set_0 : decode cX1_set 0 = .ok (.bipush 20, 2) := dk_16 20 (dk_at dksX1_set_0 0 rfl rfl)
theorem dX1_set_2 : decode cX1_set 2 = .ok (.bipush 80, 2) := dk_16 80 (dk_at dksX1_set_0 2 rfl rfl)
theorem dX1_set_4 : decode cX1_set 4 = .ok (.iload_n 1, 1) := dk_27 (dk_at dksX1_set_0 4 rfl rfl)
theorem dX1_set_5 : decode cX1_set 5 = .ok (.invokestatic 22, 3) := dk_184 0 22 (dk_at dksX1_set_0 5 rfl rfl)
theorem dX1_set_8 : decode cX1_set 8 = .ok (.ifCond .eq 26, 3) := dk_153 0 26 (dk_at dksX1_set_0 8 rfl rfl)
theorem dX1_set_11 : decode cX1_set 11 = .ok (.iconst 0, 1) := dk_3 (dk_at dksX1_set_0 11 rfl rfl)
theorem dX1_set_12 : decode cX1_set 12 = .ok (.bipush 9, 2) := dk_16 9 (dk_at dksX1_set_0 12 rfl rfl)
theorem dX1_set_14 : decode cX1_set 14 = .ok (.iload_n 2, 1) := dk_28 (dk_at dksX1_set_0 14 rfl rfl)
theorem dX1_set_15 : decode cX1_set 15 = .ok (.invokestatic 22, 3) := dk_184 0 22 (dk_at dksX1_set_0 15 rfl rfl)
theorem dX1_set_18 : decode cX1_set 18 = .ok (.ifCond .eq 16, 3) := dk_153 0 16 (dk_at dksX1_set_0 18 rfl rfl)
theorem dX1_set_21 : decode cX1_set 21 = .ok (.iconst 0, 1) := dk_3 (dk_at dksX1_set_0 21 rfl rfl)
theorem dX1_set_22 : decode cX1_set 22 = .ok (.iconst 2, 1) := dk_5 (dk_at dksX1_set_0 22 rfl rfl)
theorem dX1_set_23 : decode cX1_set 23 = .ok (.iload_n 3, 1) := dk_29 (dk_at dksX1_set_0 23 rfl rfl)
theorem dX1_set_24 : decode cX1_set 24 = .ok (.invokestatic 22, 3) := dk_184 0 22 (dk_at dksX1_set_1 0 rfl rfl)
theorem dX1_set_27 : decode cX1_set 27 = .ok (.ifCond .eq 7, 3) := dk_153 0 7 (dk_at dksX1_set_1 3 rfl rfl)
theorem dX1_set_30 : decode cX1_set 30 = .ok (.iconst 1, 1) := dk_4 (dk_at dksX1_set_1 6 rfl rfl)
theorem dX1_set_31 : decode cX1_set 31 = .ok (.goto 4, 3) := dk_167 0 4 (dk_at dksX1_set_1 7 rfl rfl)
theorem dX1_set_34 : decode cX1_set 34 = .ok (.iconst 0, 1) := dk_3 (dk_at dksX1_set_1 10 rfl rfl)
theorem dX1_set_35 : decode cX1_set 35 = .ok (.invokestatic 46, 3) := dk_184 0 46 (dk_at dksX1_set_1 11 rfl rfl)
theorem dX1_set_38 : decode cX1_set 38 = .ok (.aload_n 0, 1) := dk_42 (dk_at dksX1_set_1 14 rfl rfl)
theorem dX1_set_39 : decode cX1_set 39 = .ok (.getfield 34, 3) := dk_180 0 34 (dk_at dksX1_set_1 15 rfl rfl)
theorem dX1_set_42 : decode cX1_set 42 = .ok (.getfield 90, 3) := dk_180 0 90 (dk_at dksX1_set_1 18 rfl rfl)
theorem dX1_set_45 : decode cX1_set 45 = .ok (.istore 4, 2) := dk_54 4 (dk_at dksX1_set_1 21 rfl rfl)
theorem dX1_set_47 : decode cX1_set 47 = .ok (.aload_n 0, 1) := dk_42 (dk_at dksX1_set_1 23 rfl rfl)
theorem dX1_set_48 : decode cX1_set 48 = .ok (.getfield 34, 3) := dk_180 0 34 (dk_at dksX1_set_2 0 rfl rfl)
theorem dX1_set_51 : decode cX1_set 51 = .ok (.iload_n 1, 1) := dk_27 (dk_at dksX1_set_2 3 rfl rfl)
theorem dX1_set_52 : decode cX1_set 52 = .ok (.putfield 93, 3) := dk_181 0 93 (dk_at dksX1_set_2 4 rfl rfl)
theorem dX1_set_55 : decode cX1_set 55 = .ok (.aload_n 0, 1) := dk_42 (dk_at dksX1_set_2 7 rfl rfl)
theorem dX1_set_56 : decode cX1_set 56 = .ok (.getfield 34, 3) := dk_180 0 34 (dk_at dksX1_set_2 8 rfl rfl)
theorem dX1_set_59 : decode cX1_set 59 = .ok (.iload_n 2, 1) := dk_28 (dk_at dksX1_set_2 11 rfl rfl)
theorem dX1_set_60 : decode cX1_set 60 = .ok (.putfield 96, 3) := dk_181 0 96 (dk_at dksX1_set_2 12 rfl rfl)
theorem dX1_set_63 : decode cX1_set 63 = .ok (.aload_n 0, 1) := dk_42 (dk_at dksX1_set_2 15 rfl rfl)
theorem dX1_set_64 : decode cX1_set 64 = .ok (.getfield 34, 3) := dk_180 0 34 (dk_at dksX1_set_2 16 rfl rfl)
theorem dX1_set_67 : decode cX1_set 67 = .ok (.iload_n 3, 1) := dk_29 (dk_at dksX1_set_2 19 rfl rfl)
theorem dX1_set_68 : decode cX1_set 68 = .ok (.putfield 90, 3) := dk_181 0 90 (dk_at dksX1_set_2 20 rfl rfl)
theorem dX1_set_71 : decode cX1_set 71 = .ok (.iload 4, 2) := dk_21 4 (dk_at dksX1_set_3 0 rfl rfl)
theorem dX1_set_73 : decode cX1_set 73 = .ok (.ireturn, 1) := dk_172 (dk_at dksX1_set_3 2 rfl rfl)
abbrev cX1_burn : ByteArray := prog_1_method_14_code
def yX1_burn : MethodName := ⟨RX1, "burn", "(I)Z"⟩
def dkwX1_burn_1 : List UInt8 := [180, 0, 102, 62, 44, 4, 181, 0, 102, 29, 154, 0, 7, 4, 167, 0, 4, 3, 172]
abbrev dktX1_burn_1 : List UInt8 := dkwX1_burn_1 ++ []
def dkwX1_burn_0 : List UInt8 := [42, 27, 182, 0, 82, 77, 44, 180, 0, 99, 158, 0, 7, 4, 167, 0, 4, 3, 184, 0, 60, 44]
abbrev dktX1_burn_0 : List UInt8 := dkwX1_burn_0 ++ dktX1_burn_1
theorem dksX1_burn_0 : cX1_burn.data.toList.drop 0 = dktX1_burn_0 := by decide +kernel
theorem dksX1_burn_1 : cX1_burn.data.toList.drop 22 = dktX1_burn_1 := dk_seg dksX1_burn_0 22 rfl rfl
theorem dX1_burn_0 : decode cX1_burn 0 = .ok (.aload_n 0, 1) := dk_42 (dk_at dksX1_burn_0 0 rfl rfl)
theorem dX1_burn_1 : decode cX1_burn 1 = .ok (.iload_n 1, 1) := dk_27 (dk_at dksX1_burn_0 1 rfl rfl)
theorem dX1_burn_2 : decode cX1_burn 2 = .ok (.invokevirtual 82, 3) := dk_182 0 82 (dk_at dksX1_burn_0 2 rfl rfl)
theorem dX1_burn_5 : decode cX1_burn 5 = .ok (.astore_n 2, 1) := dk_77 (dk_at dksX1_burn_0 5 rfl rfl)
theorem dX1_burn_6 : decode cX1_burn 6 = .ok (.aload_n 2, 1) := dk_44 (dk_at dksX1_burn_0 6 rfl rfl)
theorem dX1_burn_7 : decode cX1_burn 7 = .ok (.getfield 99, 3) := dk_180 0 99 (dk_at dksX1_burn_0 7 rfl rfl)
theorem dX1_burn_10 : decode cX1_burn 10 = .ok (.ifCond .le 7, 3) := dk_158 0 7 (dk_at dksX1_burn_0 10 rfl rfl)
theorem dX1_burn_13 : decode cX1_burn 13 = .ok (.iconst 1, 1) := dk_4 (dk_at dksX1_burn_0 13 rfl rfl)
theorem dX1_burn_14 : decode cX1_burn 14 = .ok (.goto 4, 3) := dk_167 0 4 (dk_at dksX1_burn_0 14 rfl rfl)
theorem dX1_burn_17 : decode cX1_burn 17 = .ok (.iconst 0, 1) := dk_3 (dk_at dksX1_burn_0 17 rfl rfl)
theorem dX1_burn_18 : decode cX1_burn 18 = .ok (.invokestatic 60, 3) := dk_184 0 60 (dk_at dksX1_burn_0 18 rfl rfl)
theorem dX1_burn_21 : decode cX1_burn 21 = .ok (.aload_n 2, 1) := dk_44 (dk_at dksX1_burn_0 21 rfl rfl)
theorem dX1_burn_22 : decode cX1_burn 22 = .ok (.getfield 102, 3) := dk_180 0 102 (dk_at dksX1_burn_1 0 rfl rfl)
theorem dX1_burn_25 : decode cX1_burn 25 = .ok (.istore_n 3, 1) := dk_62 (dk_at dksX1_burn_1 3 rfl rfl)
theorem dX1_burn_26 : decode cX1_burn 26 = .ok (.aload_n 2, 1) := dk_44 (dk_at dksX1_burn_1 4 rfl rfl)
theorem dX1_burn_27 : decode cX1_burn 27 = .ok (.iconst 1, 1) := dk_4 (dk_at dksX1_burn_1 5 rfl rfl)
theorem dX1_burn_28 : decode cX1_burn 28 = .ok (.putfield 102, 3) := dk_181 0 102 (dk_at dksX1_burn_1 6 rfl rfl)
theorem dX1_burn_31 : decode cX1_burn 31 = .ok (.iload_n 3, 1) := dk_29 (dk_at dksX1_burn_1 9 rfl rfl)
theorem dX1_burn_32 : decode cX1_burn 32 = .ok (.ifCond .ne 7, 3) := dk_154 0 7 (dk_at dksX1_burn_1 10 rfl rfl)
theorem dX1_burn_35 : decode cX1_burn 35 = .ok (.iconst 1, 1) := dk_4 (dk_at dksX1_burn_1 13 rfl rfl)
theorem dX1_burn_36 : decode cX1_burn 36 = .ok (.goto 4, 3) := dk_167 0 4 (dk_at dksX1_burn_1 14 rfl rfl)
theorem dX1_burn_39 : decode cX1_burn 39 = .ok (.iconst 0, 1) := dk_3 (dk_at dksX1_burn_1 17 rfl rfl)
theorem dX1_burn_40 : decode cX1_burn 40 = .ok (.ireturn, 1) := dk_172 (dk_at dksX1_burn_1 18 rfl rfl)
abbrev cX1_cut : ByteArray := prog_1_method_15_code
def yX1_cut : MethodName := ⟨RX1, "cut", "(II)I"⟩
def dkwX1_cut_8 : List UInt8 := [100, 181, 0, 99, 45, 180, 0, 99, 154, 0, 7, 45, 182, 0, 126, 21, 7, 172]
abbrev dktX1_cut_8 : List UInt8 := dkwX1_cut_8 ++ []
def dkwX1_cut_7 : List UInt8 := [132, 8, 1, 167, 255, 199, 42, 89, 180, 0, 123, 21, 5, 96, 181, 0, 123, 45, 89, 180, 0, 99, 21, 4]
abbrev dktX1_cut_7 : List UInt8 := dkwX1_cut_7 ++ dktX1_cut_8
def dkwX1_cut_6 : List UInt8 := [45, 180, 0, 114, 45, 180, 0, 102, 42, 180, 0, 34, 180, 0, 117, 183, 0, 120, 182, 0, 68, 87]
abbrev dktX1_cut_6 : List UInt8 := dkwX1_cut_6 ++ dktX1_cut_7
def dkwX1_cut_5 : List UInt8 := [180, 0, 34, 180, 0, 109, 187, 0, 112, 89, 27, 16, 20, 21, 6, 16, 20, 21, 8, 104, 100, 184, 0, 13]
abbrev dktX1_cut_5 : List UInt8 := dkwX1_cut_5 ++ dktX1_cut_6
def dkwX1_cut_4 : List UInt8 := [16, 90, 163, 0, 7, 4, 167, 0, 4, 3, 184, 0, 60, 3, 54, 8, 21, 8, 21, 7, 162, 0, 56, 42]
abbrev dktX1_cut_4 : List UInt8 := dkwX1_cut_4 ++ dktX1_cut_5
def dkwX1_cut_3 : List UInt8 := [16, 20, 96, 4, 100, 16, 20, 108, 54, 7, 42, 180, 0, 34, 180, 0, 109, 182, 0, 54, 21, 7, 96]
abbrev dktX1_cut_3 : List UInt8 := dkwX1_cut_3 ++ dktX1_cut_4
def dkwX1_cut_2 : List UInt8 := [153, 0, 12, 21, 4, 7, 96, 8, 108, 167, 0, 4, 3, 54, 5, 21, 4, 21, 5, 100, 54, 6, 21, 6]
abbrev dktX1_cut_2 : List UInt8 := dkwX1_cut_2 ++ dktX1_cut_3
def dkwX1_cut_1 : List UInt8 := [4, 167, 0, 4, 3, 184, 0, 60, 28, 45, 180, 0, 99, 184, 0, 13, 54, 4, 45, 180, 0, 106]
abbrev dktX1_cut_1 : List UInt8 := dkwX1_cut_1 ++ dktX1_cut_2
def dkwX1_cut_0 : List UInt8 := [42, 27, 182, 0, 82, 78, 4, 17, 0, 200, 28, 184, 0, 22, 184, 0, 46, 45, 180, 0, 99, 158, 0, 7]
abbrev dktX1_cut_0 : List UInt8 := dkwX1_cut_0 ++ dktX1_cut_1
theorem dksX1_cut_0 : cX1_cut.data.toList.drop 0 = dktX1_cut_0 := by decide +kernel
theorem dksX1_cut_1 : cX1_cut.data.toList.drop 24 = dktX1_cut_1 := dk_seg dksX1_cut_0 24 rfl rfl
theorem dksX1_cut_2 : cX1_cut.data.toList.drop 46 = dktX1_cut_2 := dk_seg dksX1_cut_1 22 rfl rfl
theorem dksX1_cut_3 : cX1_cut.data.toList.drop 70 = dktX1_cut_3 := dk_seg dksX1_cut_2 24 rfl rfl
theorem dksX1_cut_4 : cX1_cut.data.toList.drop 93 = dktX1_cut_4 := dk_seg dksX1_cut_3 23 rfl rfl
theorem dksX1_cut_5 : cX1_cut.data.toList.drop 117 = dktX1_cut_5 := dk_seg dksX1_cut_4 24 rfl rfl
theorem dksX1_cut_6 : cX1_cut.data.toList.drop 141 = dktX1_cut_6 := dk_seg dksX1_cut_5 24 rfl rfl
theorem dksX1_cut_7 : cX1_cut.data.toList.drop 163 = dktX1_cut_7 := dk_seg dksX1_cut_6 22 rfl rfl
theorem dksX1_cut_8 : cX1_cut.data.toList.drop 187 = dktX1_cut_8 := dk_seg dksX1_cut_7 24 rfl rfl
theorem dX1_cut_0 : decode cX1_cut 0 = .ok (.aload_n 0, 1) := dk_42 (dk_at dksX1_cut_0 0 rfl rfl)
theorem dX1_cut_1 : decode cX1_cut 1 = .ok (.iload_n 1, 1) := dk_27 (dk_at dksX1_cut_0 1 rfl rfl)
theorem dX1_cut_2 : decode cX1_cut 2 = .ok (.invokevirtual 82, 3) := dk_182 0 82 (dk_at dksX1_cut_0 2 rfl rfl)
theorem dX1_cut_5 : decode cX1_cut 5 = .ok (.astore_n 3, 1) := dk_78 (dk_at dksX1_cut_0 5 rfl rfl)
theorem dX1_cut_6 : decode cX1_cut 6 = .ok (.iconst 1, 1) := dk_4 (dk_at dksX1_cut_0 6 rfl rfl)
theorem dX1_cut_7 : decode cX1_cut 7 = .ok (.sipush 200, 3) := dk_17 0 200 (dk_at dksX1_cut_0 7 rfl rfl)
theorem dX1_cut_10 : decode cX1_cut 10 = .ok (.iload_n 2, 1) := dk_28 (dk_at dksX1_cut_0 10 rfl rfl)
theorem dX1_cut_11 : decode cX1_cut 11 = .ok (.invokestatic 22, 3) := dk_184 0 22 (dk_at dksX1_cut_0 11 rfl rfl)
theorem dX1_cut_14 : decode cX1_cut 14 = .ok (.invokestatic 46, 3) := dk_184 0 46 (dk_at dksX1_cut_0 14 rfl rfl)
theorem dX1_cut_17 : decode cX1_cut 17 = .ok (.aload_n 3, 1) := dk_45 (dk_at dksX1_cut_0 17 rfl rfl)
theorem dX1_cut_18 : decode cX1_cut 18 = .ok (.getfield 99, 3) := dk_180 0 99 (dk_at dksX1_cut_0 18 rfl rfl)
theorem dX1_cut_21 : decode cX1_cut 21 = .ok (.ifCond .le 7, 3) := dk_158 0 7 (dk_at dksX1_cut_0 21 rfl rfl)
theorem dX1_cut_24 : decode cX1_cut 24 = .ok (.iconst 1, 1) := dk_4 (dk_at dksX1_cut_1 0 rfl rfl)
theorem dX1_cut_25 : decode cX1_cut 25 = .ok (.goto 4, 3) := dk_167 0 4 (dk_at dksX1_cut_1 1 rfl rfl)
theorem dX1_cut_28 : decode cX1_cut 28 = .ok (.iconst 0, 1) := dk_3 (dk_at dksX1_cut_1 4 rfl rfl)
theorem dX1_cut_29 : decode cX1_cut 29 = .ok (.invokestatic 60, 3) := dk_184 0 60 (dk_at dksX1_cut_1 5 rfl rfl)
theorem dX1_cut_32 : decode cX1_cut 32 = .ok (.iload_n 2, 1) := dk_28 (dk_at dksX1_cut_1 8 rfl rfl)
theorem dX1_cut_33 : decode cX1_cut 33 = .ok (.aload_n 3, 1) := dk_45 (dk_at dksX1_cut_1 9 rfl rfl)
theorem dX1_cut_34 : decode cX1_cut 34 = .ok (.getfield 99, 3) := dk_180 0 99 (dk_at dksX1_cut_1 10 rfl rfl)
theorem dX1_cut_37 : decode cX1_cut 37 = .ok (.invokestatic 13, 3) := dk_184 0 13 (dk_at dksX1_cut_1 13 rfl rfl)
theorem dX1_cut_40 : decode cX1_cut 40 = .ok (.istore 4, 2) := dk_54 4 (dk_at dksX1_cut_1 16 rfl rfl)
theorem dX1_cut_42 : decode cX1_cut 42 = .ok (.aload_n 3, 1) := dk_45 (dk_at dksX1_cut_1 18 rfl rfl)
theorem dX1_cut_43 : decode cX1_cut 43 = .ok (.getfield 106, 3) := dk_180 0 106 (dk_at dksX1_cut_1 19 rfl rfl)
theorem dX1_cut_46 : decode cX1_cut 46 = .ok (.ifCond .eq 12, 3) := dk_153 0 12 (dk_at dksX1_cut_2 0 rfl rfl)
theorem dX1_cut_49 : decode cX1_cut 49 = .ok (.iload 4, 2) := dk_21 4 (dk_at dksX1_cut_2 3 rfl rfl)
theorem dX1_cut_51 : decode cX1_cut 51 = .ok (.iconst 4, 1) := dk_7 (dk_at dksX1_cut_2 5 rfl rfl)
theorem dX1_cut_52 : decode cX1_cut 52 = .ok (.iadd, 1) := dk_96 (dk_at dksX1_cut_2 6 rfl rfl)
theorem dX1_cut_53 : decode cX1_cut 53 = .ok (.iconst 5, 1) := dk_8 (dk_at dksX1_cut_2 7 rfl rfl)
theorem dX1_cut_54 : decode cX1_cut 54 = .ok (.idiv, 1) := dk_108 (dk_at dksX1_cut_2 8 rfl rfl)
theorem dX1_cut_55 : decode cX1_cut 55 = .ok (.goto 4, 3) := dk_167 0 4 (dk_at dksX1_cut_2 9 rfl rfl)
theorem dX1_cut_58 : decode cX1_cut 58 = .ok (.iconst 0, 1) := dk_3 (dk_at dksX1_cut_2 12 rfl rfl)
theorem dX1_cut_59 : decode cX1_cut 59 = .ok (.istore 5, 2) := dk_54 5 (dk_at dksX1_cut_2 13 rfl rfl)
theorem dX1_cut_61 : decode cX1_cut 61 = .ok (.iload 4, 2) := dk_21 4 (dk_at dksX1_cut_2 15 rfl rfl)
theorem dX1_cut_63 : decode cX1_cut 63 = .ok (.iload 5, 2) := dk_21 5 (dk_at dksX1_cut_2 17 rfl rfl)
theorem dX1_cut_65 : decode cX1_cut 65 = .ok (.isub, 1) := dk_100 (dk_at dksX1_cut_2 19 rfl rfl)
theorem dX1_cut_66 : decode cX1_cut 66 = .ok (.istore 6, 2) := dk_54 6 (dk_at dksX1_cut_2 20 rfl rfl)
theorem dX1_cut_68 : decode cX1_cut 68 = .ok (.iload 6, 2) := dk_21 6 (dk_at dksX1_cut_2 22 rfl rfl)
theorem dX1_cut_70 : decode cX1_cut 70 = .ok (.bipush 20, 2) := dk_16 20 (dk_at dksX1_cut_3 0 rfl rfl)
theorem dX1_cut_72 : decode cX1_cut 72 = .ok (.iadd, 1) := dk_96 (dk_at dksX1_cut_3 2 rfl rfl)
theorem dX1_cut_73 : decode cX1_cut 73 = .ok (.iconst 1, 1) := dk_4 (dk_at dksX1_cut_3 3 rfl rfl)
theorem dX1_cut_74 : decode cX1_cut 74 = .ok (.isub, 1) := dk_100 (dk_at dksX1_cut_3 4 rfl rfl)
theorem dX1_cut_75 : decode cX1_cut 75 = .ok (.bipush 20, 2) := dk_16 20 (dk_at dksX1_cut_3 5 rfl rfl)
theorem dX1_cut_77 : decode cX1_cut 77 = .ok (.idiv, 1) := dk_108 (dk_at dksX1_cut_3 7 rfl rfl)
theorem dX1_cut_78 : decode cX1_cut 78 = .ok (.istore 7, 2) := dk_54 7 (dk_at dksX1_cut_3 8 rfl rfl)
theorem dX1_cut_80 : decode cX1_cut 80 = .ok (.aload_n 0, 1) := dk_42 (dk_at dksX1_cut_3 10 rfl rfl)
theorem dX1_cut_81 : decode cX1_cut 81 = .ok (.getfield 34, 3) := dk_180 0 34 (dk_at dksX1_cut_3 11 rfl rfl)
theorem dX1_cut_84 : decode cX1_cut 84 = .ok (.getfield 109, 3) := dk_180 0 109 (dk_at dksX1_cut_3 14 rfl rfl)
theorem dX1_cut_87 : decode cX1_cut 87 = .ok (.invokevirtual 54, 3) := dk_182 0 54 (dk_at dksX1_cut_3 17 rfl rfl)
theorem dX1_cut_90 : decode cX1_cut 90 = .ok (.iload 7, 2) := dk_21 7 (dk_at dksX1_cut_3 20 rfl rfl)
theorem dX1_cut_92 : decode cX1_cut 92 = .ok (.iadd, 1) := dk_96 (dk_at dksX1_cut_3 22 rfl rfl)
theorem dX1_cut_93 : decode cX1_cut 93 = .ok (.bipush 90, 2) := dk_16 90 (dk_at dksX1_cut_4 0 rfl rfl)
theorem dX1_cut_95 : decode cX1_cut 95 = .ok (.if_icmp .gt 7, 3) := dk_163 0 7 (dk_at dksX1_cut_4 2 rfl rfl)
theorem dX1_cut_98 : decode cX1_cut 98 = .ok (.iconst 1, 1) := dk_4 (dk_at dksX1_cut_4 5 rfl rfl)
theorem dX1_cut_99 : decode cX1_cut 99 = .ok (.goto 4, 3) := dk_167 0 4 (dk_at dksX1_cut_4 6 rfl rfl)
theorem dX1_cut_102 : decode cX1_cut 102 = .ok (.iconst 0, 1) := dk_3 (dk_at dksX1_cut_4 9 rfl rfl)
theorem dX1_cut_103 : decode cX1_cut 103 = .ok (.invokestatic 60, 3) := dk_184 0 60 (dk_at dksX1_cut_4 10 rfl rfl)
theorem dX1_cut_106 : decode cX1_cut 106 = .ok (.iconst 0, 1) := dk_3 (dk_at dksX1_cut_4 13 rfl rfl)
theorem dX1_cut_107 : decode cX1_cut 107 = .ok (.istore 8, 2) := dk_54 8 (dk_at dksX1_cut_4 14 rfl rfl)
theorem dX1_cut_109 : decode cX1_cut 109 = .ok (.iload 8, 2) := dk_21 8 (dk_at dksX1_cut_4 16 rfl rfl)
theorem dX1_cut_111 : decode cX1_cut 111 = .ok (.iload 7, 2) := dk_21 7 (dk_at dksX1_cut_4 18 rfl rfl)
theorem dX1_cut_113 : decode cX1_cut 113 = .ok (.if_icmp .ge 56, 3) := dk_162 0 56 (dk_at dksX1_cut_4 20 rfl rfl)
theorem dX1_cut_116 : decode cX1_cut 116 = .ok (.aload_n 0, 1) := dk_42 (dk_at dksX1_cut_4 23 rfl rfl)
theorem dX1_cut_117 : decode cX1_cut 117 = .ok (.getfield 34, 3) := dk_180 0 34 (dk_at dksX1_cut_5 0 rfl rfl)
theorem dX1_cut_120 : decode cX1_cut 120 = .ok (.getfield 109, 3) := dk_180 0 109 (dk_at dksX1_cut_5 3 rfl rfl)
theorem dX1_cut_123 : decode cX1_cut 123 = .ok (.new 112, 3) := dk_187 0 112 (dk_at dksX1_cut_5 6 rfl rfl)
theorem dX1_cut_126 : decode cX1_cut 126 = .ok (.dup, 1) := dk_89 (dk_at dksX1_cut_5 9 rfl rfl)
theorem dX1_cut_127 : decode cX1_cut 127 = .ok (.iload_n 1, 1) := dk_27 (dk_at dksX1_cut_5 10 rfl rfl)
theorem dX1_cut_128 : decode cX1_cut 128 = .ok (.bipush 20, 2) := dk_16 20 (dk_at dksX1_cut_5 11 rfl rfl)
theorem dX1_cut_130 : decode cX1_cut 130 = .ok (.iload 6, 2) := dk_21 6 (dk_at dksX1_cut_5 13 rfl rfl)
theorem dX1_cut_132 : decode cX1_cut 132 = .ok (.bipush 20, 2) := dk_16 20 (dk_at dksX1_cut_5 15 rfl rfl)
theorem dX1_cut_134 : decode cX1_cut 134 = .ok (.iload 8, 2) := dk_21 8 (dk_at dksX1_cut_5 17 rfl rfl)
theorem dX1_cut_136 : decode cX1_cut 136 = .ok (.imul, 1) := dk_104 (dk_at dksX1_cut_5 19 rfl rfl)
theorem dX1_cut_137 : decode cX1_cut 137 = .ok (.isub, 1) := dk_100 (dk_at dksX1_cut_5 20 rfl rfl)
theorem dX1_cut_138 : decode cX1_cut 138 = .ok (.invokestatic 13, 3) := dk_184 0 13 (dk_at dksX1_cut_5 21 rfl rfl)
theorem dX1_cut_141 : decode cX1_cut 141 = .ok (.aload_n 3, 1) := dk_45 (dk_at dksX1_cut_6 0 rfl rfl)
theorem dX1_cut_142 : decode cX1_cut 142 = .ok (.getfield 114, 3) := dk_180 0 114 (dk_at dksX1_cut_6 1 rfl rfl)
theorem dX1_cut_145 : decode cX1_cut 145 = .ok (.aload_n 3, 1) := dk_45 (dk_at dksX1_cut_6 4 rfl rfl)
theorem dX1_cut_146 : decode cX1_cut 146 = .ok (.getfield 102, 3) := dk_180 0 102 (dk_at dksX1_cut_6 5 rfl rfl)
theorem dX1_cut_149 : decode cX1_cut 149 = .ok (.aload_n 0, 1) := dk_42 (dk_at dksX1_cut_6 8 rfl rfl)
theorem dX1_cut_150 : decode cX1_cut 150 = .ok (.getfield 34, 3) := dk_180 0 34 (dk_at dksX1_cut_6 9 rfl rfl)
theorem dX1_cut_153 : decode cX1_cut 153 = .ok (.getfield 117, 3) := dk_180 0 117 (dk_at dksX1_cut_6 12 rfl rfl)
theorem dX1_cut_156 : decode cX1_cut 156 = .ok (.invokespecial 120, 3) := dk_183 0 120 (dk_at dksX1_cut_6 15 rfl rfl)
theorem dX1_cut_159 : decode cX1_cut 159 = .ok (.invokevirtual 68, 3) := dk_182 0 68 (dk_at dksX1_cut_6 18 rfl rfl)
theorem dX1_cut_162 : decode cX1_cut 162 = .ok (.pop, 1) := dk_87 (dk_at dksX1_cut_6 21 rfl rfl)
theorem dX1_cut_163 : decode cX1_cut 163 = .ok (.iinc 8 1, 3) := dk_132 8 1 (dk_at dksX1_cut_7 0 rfl rfl)
theorem dX1_cut_166 : decode cX1_cut 166 = .ok (.goto (-57), 3) := dk_167 255 199 (dk_at dksX1_cut_7 3 rfl rfl)
theorem dX1_cut_169 : decode cX1_cut 169 = .ok (.aload_n 0, 1) := dk_42 (dk_at dksX1_cut_7 6 rfl rfl)
theorem dX1_cut_170 : decode cX1_cut 170 = .ok (.dup, 1) := dk_89 (dk_at dksX1_cut_7 7 rfl rfl)
theorem dX1_cut_171 : decode cX1_cut 171 = .ok (.getfield 123, 3) := dk_180 0 123 (dk_at dksX1_cut_7 8 rfl rfl)
theorem dX1_cut_174 : decode cX1_cut 174 = .ok (.iload 5, 2) := dk_21 5 (dk_at dksX1_cut_7 11 rfl rfl)
theorem dX1_cut_176 : decode cX1_cut 176 = .ok (.iadd, 1) := dk_96 (dk_at dksX1_cut_7 13 rfl rfl)
theorem dX1_cut_177 : decode cX1_cut 177 = .ok (.putfield 123, 3) := dk_181 0 123 (dk_at dksX1_cut_7 14 rfl rfl)
theorem dX1_cut_180 : decode cX1_cut 180 = .ok (.aload_n 3, 1) := dk_45 (dk_at dksX1_cut_7 17 rfl rfl)
theorem dX1_cut_181 : decode cX1_cut 181 = .ok (.dup, 1) := dk_89 (dk_at dksX1_cut_7 18 rfl rfl)
theorem dX1_cut_182 : decode cX1_cut 182 = .ok (.getfield 99, 3) := dk_180 0 99 (dk_at dksX1_cut_7 19 rfl rfl)
theorem dX1_cut_185 : decode cX1_cut 185 = .ok (.iload 4, 2) := dk_21 4 (dk_at dksX1_cut_7 22 rfl rfl)
theorem dX1_cut_187 : decode cX1_cut 187 = .ok (.isub, 1) := dk_100 (dk_at dksX1_cut_8 0 rfl rfl)
theorem dX1_cut_188 : decode cX1_cut 188 = .ok (.putfield 99, 3) := dk_181 0 99 (dk_at dksX1_cut_8 1 rfl rfl)
theorem dX1_cut_191 : decode cX1_cut 191 = .ok (.aload_n 3, 1) := dk_45 (dk_at dksX1_cut_8 4 rfl rfl)
theorem dX1_cut_192 : decode cX1_cut 192 = .ok (.getfield 99, 3) := dk_180 0 99 (dk_at dksX1_cut_8 5 rfl rfl)
theorem dX1_cut_195 : decode cX1_cut 195 = .ok (.ifCond .ne 7, 3) := dk_154 0 7 (dk_at dksX1_cut_8 8 rfl rfl)
theorem dX1_cut_198 : decode cX1_cut 198 = .ok (.aload_n 3, 1) := dk_45 (dk_at dksX1_cut_8 11 rfl rfl)
theorem dX1_cut_199 : decode cX1_cut 199 = .ok (.invokevirtual 126, 3) := dk_182 0 126 (dk_at dksX1_cut_8 12 rfl rfl)
theorem dX1_cut_202 : decode cX1_cut 202 = .ok (.iload 7, 2) := dk_21 7 (dk_at dksX1_cut_8 15 rfl rfl)
theorem dX1_cut_204 : decode cX1_cut 204 = .ok (.ireturn, 1) := dk_172 (dk_at dksX1_cut_8 17 rfl rfl)
abbrev cX1_send : ByteArray := prog_1_method_16_code
def yX1_send : MethodName := ⟨RX1, "send", "(II)I"⟩
def dkwX1_send_2 : List UInt8 := [25, 4, 180, 0, 139, 172]
abbrev dktX1_send_2 : List UInt8 := dkwX1_send_2 ++ []
def dkwX1_send_1 : List UInt8 := [3, 184, 0, 60, 45, 4, 181, 0, 133, 45, 28, 181, 0, 136, 45, 25, 4, 180, 0, 139, 181, 0, 142]
abbrev dktX1_send_1 : List UInt8 := dkwX1_send_1 ++ dktX1_send_2
def dkwX1_send_0 : List UInt8 := [42, 27, 182, 0, 129, 78, 42, 28, 182, 0, 82, 58, 4, 45, 180, 0, 133, 154, 0, 7, 4, 167, 0, 4]
abbrev dktX1_send_0 : List UInt8 := dkwX1_send_0 ++ dktX1_send_1
theorem dksX1_send_0 : cX1_send.data.toList.drop 0 = dktX1_send_0 := by decide +kernel
theorem dksX1_send_1 : cX1_send.data.toList.drop 24 = dktX1_send_1 := dk_seg dksX1_send_0 24 rfl rfl
theorem dksX1_send_2 : cX1_send.data.toList.drop 47 = dktX1_send_2 := dk_seg dksX1_send_1 23 rfl rfl
theorem dX1_send_0 : decode cX1_send 0 = .ok (.aload_n 0, 1) := dk_42 (dk_at dksX1_send_0 0 rfl rfl)
theorem dX1_send_1 : decode cX1_send 1 = .ok (.iload_n 1, 1) := dk_27 (dk_at dksX1_send_0 1 rfl rfl)
theorem dX1_send_2 : decode cX1_send 2 = .ok (.invokevirtual 129, 3) := dk_182 0 129 (dk_at dksX1_send_0 2 rfl rfl)
theorem dX1_send_5 : decode cX1_send 5 = .ok (.astore_n 3, 1) := dk_78 (dk_at dksX1_send_0 5 rfl rfl)
theorem dX1_send_6 : decode cX1_send 6 = .ok (.aload_n 0, 1) := dk_42 (dk_at dksX1_send_0 6 rfl rfl)
theorem dX1_send_7 : decode cX1_send 7 = .ok (.iload_n 2, 1) := dk_28 (dk_at dksX1_send_0 7 rfl rfl)
theorem dX1_send_8 : decode cX1_send 8 = .ok (.invokevirtual 82, 3) := dk_182 0 82 (dk_at dksX1_send_0 8 rfl rfl)
theorem dX1_send_11 : decode cX1_send 11 = .ok (.astore 4, 2) := dk_58 4 (dk_at dksX1_send_0 11 rfl rfl)
theorem dX1_send_13 : decode cX1_send 13 = .ok (.aload_n 3, 1) := dk_45 (dk_at dksX1_send_0 13 rfl rfl)
theorem dX1_send_14 : decode cX1_send 14 = .ok (.getfield 133, 3) := dk_180 0 133 (dk_at dksX1_send_0 14 rfl rfl)
theorem dX1_send_17 : decode cX1_send 17 = .ok (.ifCond .ne 7, 3) := dk_154 0 7 (dk_at dksX1_send_0 17 rfl rfl)
theorem dX1_send_20 : decode cX1_send 20 = .ok (.iconst 1, 1) := dk_4 (dk_at dksX1_send_0 20 rfl rfl)
theorem dX1_send_21 : decode cX1_send 21 = .ok (.goto 4, 3) := dk_167 0 4 (dk_at dksX1_send_0 21 rfl rfl)
theorem dX1_send_24 : decode cX1_send 24 = .ok (.iconst 0, 1) := dk_3 (dk_at dksX1_send_1 0 rfl rfl)
theorem dX1_send_25 : decode cX1_send 25 = .ok (.invokestatic 60, 3) := dk_184 0 60 (dk_at dksX1_send_1 1 rfl rfl)
theorem dX1_send_28 : decode cX1_send 28 = .ok (.aload_n 3, 1) := dk_45 (dk_at dksX1_send_1 4 rfl rfl)
theorem dX1_send_29 : decode cX1_send 29 = .ok (.iconst 1, 1) := dk_4 (dk_at dksX1_send_1 5 rfl rfl)
theorem dX1_send_30 : decode cX1_send 30 = .ok (.putfield 133, 3) := dk_181 0 133 (dk_at dksX1_send_1 6 rfl rfl)
theorem dX1_send_33 : decode cX1_send 33 = .ok (.aload_n 3, 1) := dk_45 (dk_at dksX1_send_1 9 rfl rfl)
theorem dX1_send_34 : decode cX1_send 34 = .ok (.iload_n 2, 1) := dk_28 (dk_at dksX1_send_1 10 rfl rfl)
theorem dX1_send_35 : decode cX1_send 35 = .ok (.putfield 136, 3) := dk_181 0 136 (dk_at dksX1_send_1 11 rfl rfl)
theorem dX1_send_38 : decode cX1_send 38 = .ok (.aload_n 3, 1) := dk_45 (dk_at dksX1_send_1 14 rfl rfl)
theorem dX1_send_39 : decode cX1_send 39 = .ok (.aload 4, 2) := dk_25 4 (dk_at dksX1_send_1 15 rfl rfl)
theorem dX1_send_41 : decode cX1_send 41 = .ok (.getfield 139, 3) := dk_180 0 139 (dk_at dksX1_send_1 17 rfl rfl)
theorem dX1_send_44 : decode cX1_send 44 = .ok (.putfield 142, 3) := dk_181 0 142 (dk_at dksX1_send_1 20 rfl rfl)
theorem dX1_send_47 : decode cX1_send 47 = .ok (.aload 4, 2) := dk_25 4 (dk_at dksX1_send_2 0 rfl rfl)
theorem dX1_send_49 : decode cX1_send 49 = .ok (.getfield 139, 3) := dk_180 0 139 (dk_at dksX1_send_2 2 rfl rfl)
theorem dX1_send_52 : decode cX1_send 52 = .ok (.ireturn, 1) := dk_172 (dk_at dksX1_send_2 5 rfl rfl)
abbrev cX1_truckAt : ByteArray := prog_1_method_11_code
def yX1_truckAt : MethodName := ⟨RX1, "truckAt", "(I)LCanecrush$Truck;"⟩
def dkwX1_truckAt_1 : List UInt8 := [182, 0, 78, 192, 0, 75, 176]
abbrev dktX1_truckAt_1 : List UInt8 := dkwX1_truckAt_1 ++ []
def dkwX1_truckAt_0 : List UInt8 := [27, 42, 180, 0, 34, 180, 0, 72, 182, 0, 54, 184, 0, 42, 42, 180, 0, 34, 180, 0, 72, 27]
abbrev dktX1_truckAt_0 : List UInt8 := dkwX1_truckAt_0 ++ dktX1_truckAt_1
theorem dksX1_truckAt_0 : cX1_truckAt.data.toList.drop 0 = dktX1_truckAt_0 := by decide +kernel
theorem dksX1_truckAt_1 : cX1_truckAt.data.toList.drop 22 = dktX1_truckAt_1 := dk_seg dksX1_truckAt_0 22 rfl rfl
theorem dX1_truckAt_0 : decode cX1_truckAt 0 = .ok (.iload_n 1, 1) := dk_27 (dk_at dksX1_truckAt_0 0 rfl rfl)
theorem dX1_truckAt_1 : decode cX1_truckAt 1 = .ok (.aload_n 0, 1) := dk_42 (dk_at dksX1_truckAt_0 1 rfl rfl)
theorem dX1_truckAt_2 : decode cX1_truckAt 2 = .ok (.getfield 34, 3) := dk_180 0 34 (dk_at dksX1_truckAt_0 2 rfl rfl)
theorem dX1_truckAt_5 : decode cX1_truckAt 5 = .ok (.getfield 72, 3) := dk_180 0 72 (dk_at dksX1_truckAt_0 5 rfl rfl)
theorem dX1_truckAt_8 : decode cX1_truckAt 8 = .ok (.invokevirtual 54, 3) := dk_182 0 54 (dk_at dksX1_truckAt_0 8 rfl rfl)
theorem dX1_truckAt_11 : decode cX1_truckAt 11 = .ok (.invokestatic 42, 3) := dk_184 0 42 (dk_at dksX1_truckAt_0 11 rfl rfl)
theorem dX1_truckAt_14 : decode cX1_truckAt 14 = .ok (.aload_n 0, 1) := dk_42 (dk_at dksX1_truckAt_0 14 rfl rfl)
theorem dX1_truckAt_15 : decode cX1_truckAt 15 = .ok (.getfield 34, 3) := dk_180 0 34 (dk_at dksX1_truckAt_0 15 rfl rfl)
theorem dX1_truckAt_18 : decode cX1_truckAt 18 = .ok (.getfield 72, 3) := dk_180 0 72 (dk_at dksX1_truckAt_0 18 rfl rfl)
theorem dX1_truckAt_21 : decode cX1_truckAt 21 = .ok (.iload_n 1, 1) := dk_27 (dk_at dksX1_truckAt_0 21 rfl rfl)
theorem dX1_truckAt_22 : decode cX1_truckAt 22 = .ok (.invokevirtual 78, 3) := dk_182 0 78 (dk_at dksX1_truckAt_1 0 rfl rfl)
theorem dX1_truckAt_25 : decode cX1_truckAt 25 = .ok (.checkcast 75, 3) := dk_192 0 75 (dk_at dksX1_truckAt_1 3 rfl rfl)
theorem dX1_truckAt_28 : decode cX1_truckAt 28 = .ok (.areturn, 1) := dk_176 (dk_at dksX1_truckAt_1 6 rfl rfl)
abbrev cX1_recall : ByteArray := prog_1_method_17_code
def yX1_recall : MethodName := ⟨RX1, "recall", "(I)I"⟩
def dkwX1_recall_1 : List UInt8 := [180, 0, 136, 62, 44, 182, 0, 145, 29, 172]
abbrev dktX1_recall_1 : List UInt8 := dkwX1_recall_1 ++ []
def dkwX1_recall_0 : List UInt8 := [42, 27, 182, 0, 129, 77, 44, 180, 0, 133, 4, 160, 0, 7, 4, 167, 0, 4, 3, 184, 0, 60, 44]
abbrev dktX1_recall_0 : List UInt8 := dkwX1_recall_0 ++ dktX1_recall_1
theorem dksX1_recall_0 : cX1_recall.data.toList.drop 0 = dktX1_recall_0 := by decide +kernel
theorem dksX1_recall_1 : cX1_recall.data.toList.drop 23 = dktX1_recall_1 := dk_seg dksX1_recall_0 23 rfl rfl
theorem dX1_recall_0 : decode cX1_recall 0 = .ok (.aload_n 0, 1) := dk_42 (dk_at dksX1_recall_0 0 rfl rfl)
theorem dX1_recall_1 : decode cX1_recall 1 = .ok (.iload_n 1, 1) := dk_27 (dk_at dksX1_recall_0 1 rfl rfl)
theorem dX1_recall_2 : decode cX1_recall 2 = .ok (.invokevirtual 129, 3) := dk_182 0 129 (dk_at dksX1_recall_0 2 rfl rfl)
theorem dX1_recall_5 : decode cX1_recall 5 = .ok (.astore_n 2, 1) := dk_77 (dk_at dksX1_recall_0 5 rfl rfl)
theorem dX1_recall_6 : decode cX1_recall 6 = .ok (.aload_n 2, 1) := dk_44 (dk_at dksX1_recall_0 6 rfl rfl)
theorem dX1_recall_7 : decode cX1_recall 7 = .ok (.getfield 133, 3) := dk_180 0 133 (dk_at dksX1_recall_0 7 rfl rfl)
theorem dX1_recall_10 : decode cX1_recall 10 = .ok (.iconst 1, 1) := dk_4 (dk_at dksX1_recall_0 10 rfl rfl)
theorem dX1_recall_11 : decode cX1_recall 11 = .ok (.if_icmp .ne 7, 3) := dk_160 0 7 (dk_at dksX1_recall_0 11 rfl rfl)
theorem dX1_recall_14 : decode cX1_recall 14 = .ok (.iconst 1, 1) := dk_4 (dk_at dksX1_recall_0 14 rfl rfl)
theorem dX1_recall_15 : decode cX1_recall 15 = .ok (.goto 4, 3) := dk_167 0 4 (dk_at dksX1_recall_0 15 rfl rfl)
theorem dX1_recall_18 : decode cX1_recall 18 = .ok (.iconst 0, 1) := dk_3 (dk_at dksX1_recall_0 18 rfl rfl)
theorem dX1_recall_19 : decode cX1_recall 19 = .ok (.invokestatic 60, 3) := dk_184 0 60 (dk_at dksX1_recall_0 19 rfl rfl)
theorem dX1_recall_22 : decode cX1_recall 22 = .ok (.aload_n 2, 1) := dk_44 (dk_at dksX1_recall_0 22 rfl rfl)
theorem dX1_recall_23 : decode cX1_recall 23 = .ok (.getfield 136, 3) := dk_180 0 136 (dk_at dksX1_recall_1 0 rfl rfl)
theorem dX1_recall_26 : decode cX1_recall 26 = .ok (.istore_n 3, 1) := dk_62 (dk_at dksX1_recall_1 3 rfl rfl)
theorem dX1_recall_27 : decode cX1_recall 27 = .ok (.aload_n 2, 1) := dk_44 (dk_at dksX1_recall_1 4 rfl rfl)
theorem dX1_recall_28 : decode cX1_recall 28 = .ok (.invokevirtual 145, 3) := dk_182 0 145 (dk_at dksX1_recall_1 5 rfl rfl)
theorem dX1_recall_31 : decode cX1_recall 31 = .ok (.iload_n 3, 1) := dk_29 (dk_at dksX1_recall_1 8 rfl rfl)
theorem dX1_recall_32 : decode cX1_recall 32 = .ok (.ireturn, 1) := dk_172 (dk_at dksX1_recall_1 9 rfl rfl)
abbrev cX1_start : ByteArray := prog_1_method_18_code
def yX1_start : MethodName := ⟨RX1, "start", "()I"⟩
def dkwX1_start_2 : List UInt8 := [16, 10, 182, 0, 157, 172]
abbrev dktX1_start_2 : List UInt8 := dkwX1_start_2 ++ []
def dkwX1_start_1 : List UInt8 := [181, 0, 148, 42, 180, 0, 34, 5, 181, 0, 151, 42, 180, 0, 34, 3, 181, 0, 154, 42, 180, 0, 34]
abbrev dktX1_start_1 : List UInt8 := dkwX1_start_1 ++ dktX1_start_2
def dkwX1_start_0 : List UInt8 := [42, 180, 0, 34, 180, 0, 148, 154, 0, 7, 4, 167, 0, 4, 3, 184, 0, 60, 42, 180, 0, 34, 4]
abbrev dktX1_start_0 : List UInt8 := dkwX1_start_0 ++ dktX1_start_1
theorem dksX1_start_0 : cX1_start.data.toList.drop 0 = dktX1_start_0 := by decide +kernel
theorem dksX1_start_1 : cX1_start.data.toList.drop 23 = dktX1_start_1 := dk_seg dksX1_start_0 23 rfl rfl
theorem dksX1_start_2 : cX1_start.data.toList.drop 46 = dktX1_start_2 := dk_seg dksX1_start_1 23 rfl rfl
theorem dX1_start_0 : decode cX1_start 0 = .ok (.aload_n 0, 1) := dk_42 (dk_at dksX1_start_0 0 rfl rfl)
theorem dX1_start_1 : decode cX1_start 1 = .ok (.getfield 34, 3) := dk_180 0 34 (dk_at dksX1_start_0 1 rfl rfl)
theorem dX1_start_4 : decode cX1_start 4 = .ok (.getfield 148, 3) := dk_180 0 148 (dk_at dksX1_start_0 4 rfl rfl)
theorem dX1_start_7 : decode cX1_start 7 = .ok (.ifCond .ne 7, 3) := dk_154 0 7 (dk_at dksX1_start_0 7 rfl rfl)
theorem dX1_start_10 : decode cX1_start 10 = .ok (.iconst 1, 1) := dk_4 (dk_at dksX1_start_0 10 rfl rfl)
theorem dX1_start_11 : decode cX1_start 11 = .ok (.goto 4, 3) := dk_167 0 4 (dk_at dksX1_start_0 11 rfl rfl)
theorem dX1_start_14 : decode cX1_start 14 = .ok (.iconst 0, 1) := dk_3 (dk_at dksX1_start_0 14 rfl rfl)
theorem dX1_start_15 : decode cX1_start 15 = .ok (.invokestatic 60, 3) := dk_184 0 60 (dk_at dksX1_start_0 15 rfl rfl)
theorem dX1_start_18 : decode cX1_start 18 = .ok (.aload_n 0, 1) := dk_42 (dk_at dksX1_start_0 18 rfl rfl)
theorem dX1_start_19 : decode cX1_start 19 = .ok (.getfield 34, 3) := dk_180 0 34 (dk_at dksX1_start_0 19 rfl rfl)
theorem dX1_start_22 : decode cX1_start 22 = .ok (.iconst 1, 1) := dk_4 (dk_at dksX1_start_0 22 rfl rfl)
theorem dX1_start_23 : decode cX1_start 23 = .ok (.putfield 148, 3) := dk_181 0 148 (dk_at dksX1_start_1 0 rfl rfl)
theorem dX1_start_26 : decode cX1_start 26 = .ok (.aload_n 0, 1) := dk_42 (dk_at dksX1_start_1 3 rfl rfl)
theorem dX1_start_27 : decode cX1_start 27 = .ok (.getfield 34, 3) := dk_180 0 34 (dk_at dksX1_start_1 4 rfl rfl)
theorem dX1_start_30 : decode cX1_start 30 = .ok (.iconst 2, 1) := dk_5 (dk_at dksX1_start_1 7 rfl rfl)
theorem dX1_start_31 : decode cX1_start 31 = .ok (.putfield 151, 3) := dk_181 0 151 (dk_at dksX1_start_1 8 rfl rfl)
theorem dX1_start_34 : decode cX1_start 34 = .ok (.aload_n 0, 1) := dk_42 (dk_at dksX1_start_1 11 rfl rfl)
theorem dX1_start_35 : decode cX1_start 35 = .ok (.getfield 34, 3) := dk_180 0 34 (dk_at dksX1_start_1 12 rfl rfl)
theorem dX1_start_38 : decode cX1_start 38 = .ok (.iconst 0, 1) := dk_3 (dk_at dksX1_start_1 15 rfl rfl)
theorem dX1_start_39 : decode cX1_start 39 = .ok (.putfield 154, 3) := dk_181 0 154 (dk_at dksX1_start_1 16 rfl rfl)
theorem dX1_start_42 : decode cX1_start 42 = .ok (.aload_n 0, 1) := dk_42 (dk_at dksX1_start_1 19 rfl rfl)
theorem dX1_start_43 : decode cX1_start 43 = .ok (.getfield 34, 3) := dk_180 0 34 (dk_at dksX1_start_1 20 rfl rfl)
theorem dX1_start_46 : decode cX1_start 46 = .ok (.bipush 10, 2) := dk_16 10 (dk_at dksX1_start_2 0 rfl rfl)
theorem dX1_start_48 : decode cX1_start 48 = .ok (.invokevirtual 157, 3) := dk_182 0 157 (dk_at dksX1_start_2 2 rfl rfl)
theorem dX1_start_51 : decode cX1_start 51 = .ok (.ireturn, 1) := dk_172 (dk_at dksX1_start_2 5 rfl rfl)
abbrev cX1_boil : ByteArray := prog_1_method_19_code
def yX1_boil : MethodName := ⟨RX1, "boil", "(I)I"⟩
def dkwX1_boil_8 : List UInt8 := [42, 180, 0, 34, 7, 28, 104, 182, 0, 157, 172]
abbrev dktX1_boil_8 : List UInt8 := dkwX1_boil_8 ++ []
def dkwX1_boil_7 : List UInt8 := [180, 0, 161, 16, 30, 28, 104, 96, 181, 0, 161, 42, 89, 180, 0, 173, 16, 70, 28, 104, 96, 181, 0, 173]
abbrev dktX1_boil_7 : List UInt8 := dkwX1_boil_7 ++ dktX1_boil_8
def dkwX1_boil_6 : List UInt8 := [181, 0, 167, 167, 0, 45, 42, 89, 180, 0, 167, 16, 100, 28, 104, 100, 181, 0, 167, 42, 180, 0, 34, 89]
abbrev dktX1_boil_6 : List UInt8 := dkwX1_boil_6 ++ dktX1_boil_7
def dkwX1_boil_5 : List UInt8 := [42, 89, 180, 0, 170, 16, 45, 28, 104, 96, 181, 0, 170, 42, 89, 180, 0, 167, 16, 55, 28, 104, 96]
abbrev dktX1_boil_5 : List UInt8 := dkwX1_boil_5 ++ dktX1_boil_6
def dkwX1_boil_4 : List UInt8 := [181, 0, 164, 167, 0, 92, 27, 4, 160, 0, 45, 42, 89, 180, 0, 164, 16, 100, 28, 104, 100, 181, 0, 164]
abbrev dktX1_boil_4 : List UInt8 := dkwX1_boil_4 ++ dktX1_boil_5
def dkwX1_boil_3 : List UInt8 := [89, 180, 0, 170, 16, 60, 28, 104, 96, 181, 0, 170, 42, 89, 180, 0, 164, 16, 40, 28, 104, 96]
abbrev dktX1_boil_3 : List UInt8 := dkwX1_boil_3 ++ dktX1_boil_4
def dkwX1_boil_2 : List UInt8 := [184, 0, 60, 27, 154, 0, 48, 42, 180, 0, 34, 89, 180, 0, 161, 16, 100, 28, 104, 100, 181, 0, 161, 42]
abbrev dktX1_boil_2 : List UInt8 := dkwX1_boil_2 ++ dktX1_boil_3
def dkwX1_boil_1 : List UInt8 := [42, 180, 0, 164, 167, 0, 7, 42, 180, 0, 167, 16, 100, 108, 61, 28, 158, 0, 7, 4, 167, 0, 4, 3]
abbrev dktX1_boil_1 : List UInt8 := dkwX1_boil_1 ++ dktX1_boil_2
def dkwX1_boil_0 : List UInt8 := [27, 6, 184, 0, 42, 27, 154, 0, 13, 42, 180, 0, 34, 180, 0, 161, 167, 0, 19, 27, 4, 160, 0, 10]
abbrev dktX1_boil_0 : List UInt8 := dkwX1_boil_0 ++ dktX1_boil_1
theorem dksX1_boil_0 : cX1_boil.data.toList.drop 0 = dktX1_boil_0 := by decide +kernel
theorem dksX1_boil_1 : cX1_boil.data.toList.drop 24 = dktX1_boil_1 := dk_seg dksX1_boil_0 24 rfl rfl
theorem dksX1_boil_2 : cX1_boil.data.toList.drop 48 = dktX1_boil_2 := dk_seg dksX1_boil_1 24 rfl rfl
theorem dksX1_boil_3 : cX1_boil.data.toList.drop 72 = dktX1_boil_3 := dk_seg dksX1_boil_2 24 rfl rfl
theorem dksX1_boil_4 : cX1_boil.data.toList.drop 94 = dktX1_boil_4 := dk_seg dksX1_boil_3 22 rfl rfl
theorem dksX1_boil_5 : cX1_boil.data.toList.drop 118 = dktX1_boil_5 := dk_seg dksX1_boil_4 24 rfl rfl
theorem dksX1_boil_6 : cX1_boil.data.toList.drop 141 = dktX1_boil_6 := dk_seg dksX1_boil_5 23 rfl rfl
theorem dksX1_boil_7 : cX1_boil.data.toList.drop 165 = dktX1_boil_7 := dk_seg dksX1_boil_6 24 rfl rfl
theorem dksX1_boil_8 : cX1_boil.data.toList.drop 189 = dktX1_boil_8 := dk_seg dksX1_boil_7 24 rfl rfl
theorem dX1_boil_0 : decode cX1_boil 0 = .ok (.iload_n 1, 1) := dk_27 (dk_at dksX1_boil_0 0 rfl rfl)
theorem dX1_boil_1 : decode cX1_boil 1 = .ok (.iconst 3, 1) := dk_6 (dk_at dksX1_boil_0 1 rfl rfl)
theorem dX1_boil_2 : decode cX1_boil 2 = .ok (.invokestatic 42, 3) := dk_184 0 42 (dk_at dksX1_boil_0 2 rfl rfl)
theorem dX1_boil_5 : decode cX1_boil 5 = .ok (.iload_n 1, 1) := dk_27 (dk_at dksX1_boil_0 5 rfl rfl)
theorem dX1_boil_6 : decode cX1_boil 6 = .ok (.ifCond .ne 13, 3) := dk_154 0 13 (dk_at dksX1_boil_0 6 rfl rfl)
theorem dX1_boil_9 : decode cX1_boil 9 = .ok (.aload_n 0, 1) := dk_42 (dk_at dksX1_boil_0 9 rfl rfl)
theorem dX1_boil_10 : decode cX1_boil 10 = .ok (.getfield 34, 3) := dk_180 0 34 (dk_at dksX1_boil_0 10 rfl rfl)
theorem dX1_boil_13 : decode cX1_boil 13 = .ok (.getfield 161, 3) := dk_180 0 161 (dk_at dksX1_boil_0 13 rfl rfl)
theorem dX1_boil_16 : decode cX1_boil 16 = .ok (.goto 19, 3) := dk_167 0 19 (dk_at dksX1_boil_0 16 rfl rfl)
theorem dX1_boil_19 : decode cX1_boil 19 = .ok (.iload_n 1, 1) := dk_27 (dk_at dksX1_boil_0 19 rfl rfl)
theorem dX1_boil_20 : decode cX1_boil 20 = .ok (.iconst 1, 1) := dk_4 (dk_at dksX1_boil_0 20 rfl rfl)
theorem dX1_boil_21 : decode cX1_boil 21 = .ok (.if_icmp .ne 10, 3) := dk_160 0 10 (dk_at dksX1_boil_0 21 rfl rfl)
theorem dX1_boil_24 : decode cX1_boil 24 = .ok (.aload_n 0, 1) := dk_42 (dk_at dksX1_boil_1 0 rfl rfl)
theorem dX1_boil_25 : decode cX1_boil 25 = .ok (.getfield 164, 3) := dk_180 0 164 (dk_at dksX1_boil_1 1 rfl rfl)
theorem dX1_boil_28 : decode cX1_boil 28 = .ok (.goto 7, 3) := dk_167 0 7 (dk_at dksX1_boil_1 4 rfl rfl)
theorem dX1_boil_31 : decode cX1_boil 31 = .ok (.aload_n 0, 1) := dk_42 (dk_at dksX1_boil_1 7 rfl rfl)
theorem dX1_boil_32 : decode cX1_boil 32 = .ok (.getfield 167, 3) := dk_180 0 167 (dk_at dksX1_boil_1 8 rfl rfl)
theorem dX1_boil_35 : decode cX1_boil 35 = .ok (.bipush 100, 2) := dk_16 100 (dk_at dksX1_boil_1 11 rfl rfl)
theorem dX1_boil_37 : decode cX1_boil 37 = .ok (.idiv, 1) := dk_108 (dk_at dksX1_boil_1 13 rfl rfl)
theorem dX1_boil_38 : decode cX1_boil 38 = .ok (.istore_n 2, 1) := dk_61 (dk_at dksX1_boil_1 14 rfl rfl)
theorem dX1_boil_39 : decode cX1_boil 39 = .ok (.iload_n 2, 1) := dk_28 (dk_at dksX1_boil_1 15 rfl rfl)
theorem dX1_boil_40 : decode cX1_boil 40 = .ok (.ifCond .le 7, 3) := dk_158 0 7 (dk_at dksX1_boil_1 16 rfl rfl)
theorem dX1_boil_43 : decode cX1_boil 43 = .ok (.iconst 1, 1) := dk_4 (dk_at dksX1_boil_1 19 rfl rfl)
theorem dX1_boil_44 : decode cX1_boil 44 = .ok (.goto 4, 3) := dk_167 0 4 (dk_at dksX1_boil_1 20 rfl rfl)
theorem dX1_boil_47 : decode cX1_boil 47 = .ok (.iconst 0, 1) := dk_3 (dk_at dksX1_boil_1 23 rfl rfl)
theorem dX1_boil_48 : decode cX1_boil 48 = .ok (.invokestatic 60, 3) := dk_184 0 60 (dk_at dksX1_boil_2 0 rfl rfl)
theorem dX1_boil_51 : decode cX1_boil 51 = .ok (.iload_n 1, 1) := dk_27 (dk_at dksX1_boil_2 3 rfl rfl)
theorem dX1_boil_52 : decode cX1_boil 52 = .ok (.ifCond .ne 48, 3) := dk_154 0 48 (dk_at dksX1_boil_2 4 rfl rfl)
theorem dX1_boil_55 : decode cX1_boil 55 = .ok (.aload_n 0, 1) := dk_42 (dk_at dksX1_boil_2 7 rfl rfl)
theorem dX1_boil_56 : decode cX1_boil 56 = .ok (.getfield 34, 3) := dk_180 0 34 (dk_at dksX1_boil_2 8 rfl rfl)
theorem dX1_boil_59 : decode cX1_boil 59 = .ok (.dup, 1) := dk_89 (dk_at dksX1_boil_2 11 rfl rfl)
theorem dX1_boil_60 : decode cX1_boil 60 = .ok (.getfield 161, 3) := dk_180 0 161 (dk_at dksX1_boil_2 12 rfl rfl)
theorem dX1_boil_63 : decode cX1_boil 63 = .ok (.bipush 100, 2) := dk_16 100 (dk_at dksX1_boil_2 15 rfl rfl)
theorem dX1_boil_65 : decode cX1_boil 65 = .ok (.iload_n 2, 1) := dk_28 (dk_at dksX1_boil_2 17 rfl rfl)
theorem dX1_boil_66 : decode cX1_boil 66 = .ok (.imul, 1) := dk_104 (dk_at dksX1_boil_2 18 rfl rfl)
theorem dX1_boil_67 : decode cX1_boil 67 = .ok (.isub, 1) := dk_100 (dk_at dksX1_boil_2 19 rfl rfl)
theorem dX1_boil_68 : decode cX1_boil 68 = .ok (.putfield 161, 3) := dk_181 0 161 (dk_at dksX1_boil_2 20 rfl rfl)
theorem dX1_boil_71 : decode cX1_boil 71 = .ok (.aload_n 0, 1) := dk_42 (dk_at dksX1_boil_2 23 rfl rfl)
theorem dX1_boil_72 : decode cX1_boil 72 = .ok (.dup, 1) := dk_89 (dk_at dksX1_boil_3 0 rfl rfl)
theorem dX1_boil_73 : decode cX1_boil 73 = .ok (.getfield 170, 3) := dk_180 0 170 (dk_at dksX1_boil_3 1 rfl rfl)
theorem dX1_boil_76 : decode cX1_boil 76 = .ok (.bipush 60, 2) := dk_16 60 (dk_at dksX1_boil_3 4 rfl rfl)
theorem dX1_boil_78 : decode cX1_boil 78 = .ok (.iload_n 2, 1) := dk_28 (dk_at dksX1_boil_3 6 rfl rfl)
theorem dX1_boil_79 : decode cX1_boil 79 = .ok (.imul, 1) := dk_104 (dk_at dksX1_boil_3 7 rfl rfl)
theorem dX1_boil_80 : decode cX1_boil 80 = .ok (.iadd, 1) := dk_96 (dk_at dksX1_boil_3 8 rfl rfl)
theorem dX1_boil_81 : decode cX1_boil 81 = .ok (.putfield 170, 3) := dk_181 0 170 (dk_at dksX1_boil_3 9 rfl rfl)
theorem dX1_boil_84 : decode cX1_boil 84 = .ok (.aload_n 0, 1) := dk_42 (dk_at dksX1_boil_3 12 rfl rfl)
theorem dX1_boil_85 : decode cX1_boil 85 = .ok (.dup, 1) := dk_89 (dk_at dksX1_boil_3 13 rfl rfl)
theorem dX1_boil_86 : decode cX1_boil 86 = .ok (.getfield 164, 3) := dk_180 0 164 (dk_at dksX1_boil_3 14 rfl rfl)
theorem dX1_boil_89 : decode cX1_boil 89 = .ok (.bipush 40, 2) := dk_16 40 (dk_at dksX1_boil_3 17 rfl rfl)
theorem dX1_boil_91 : decode cX1_boil 91 = .ok (.iload_n 2, 1) := dk_28 (dk_at dksX1_boil_3 19 rfl rfl)
theorem dX1_boil_92 : decode cX1_boil 92 = .ok (.imul, 1) := dk_104 (dk_at dksX1_boil_3 20 rfl rfl)
theorem dX1_boil_93 : decode cX1_boil 93 = .ok (.iadd, 1) := dk_96 (dk_at dksX1_boil_3 21 rfl rfl)
theorem dX1_boil_94 : decode cX1_boil 94 = .ok (.putfield 164, 3) := dk_181 0 164 (dk_at dksX1_boil_4 0 rfl rfl)
theorem dX1_boil_97 : decode cX1_boil 97 = .ok (.goto 92, 3) := dk_167 0 92 (dk_at dksX1_boil_4 3 rfl rfl)
theorem dX1_boil_100 : decode cX1_boil 100 = .ok (.iload_n 1, 1) := dk_27 (dk_at dksX1_boil_4 6 rfl rfl)
theorem dX1_boil_101 : decode cX1_boil 101 = .ok (.iconst 1, 1) := dk_4 (dk_at dksX1_boil_4 7 rfl rfl)
theorem dX1_boil_102 : decode cX1_boil 102 = .ok (.if_icmp .ne 45, 3) := dk_160 0 45 (dk_at dksX1_boil_4 8 rfl rfl)
theorem dX1_boil_105 : decode cX1_boil 105 = .ok (.aload_n 0, 1) := dk_42 (dk_at dksX1_boil_4 11 rfl rfl)
theorem dX1_boil_106 : decode cX1_boil 106 = .ok (.dup, 1) := dk_89 (dk_at dksX1_boil_4 12 rfl rfl)
theorem dX1_boil_107 : decode cX1_boil 107 = .ok (.getfield 164, 3) := dk_180 0 164 (dk_at dksX1_boil_4 13 rfl rfl)
theorem dX1_boil_110 : decode cX1_boil 110 = .ok (.bipush 100, 2) := dk_16 100 (dk_at dksX1_boil_4 16 rfl rfl)
theorem dX1_boil_112 : decode cX1_boil 112 = .ok (.iload_n 2, 1) := dk_28 (dk_at dksX1_boil_4 18 rfl rfl)
theorem dX1_boil_113 : decode cX1_boil 113 = .ok (.imul, 1) := dk_104 (dk_at dksX1_boil_4 19 rfl rfl)
theorem dX1_boil_114 : decode cX1_boil 114 = .ok (.isub, 1) := dk_100 (dk_at dksX1_boil_4 20 rfl rfl)
theorem dX1_boil_115 : decode cX1_boil 115 = .ok (.putfield 164, 3) := dk_181 0 164 (dk_at dksX1_boil_4 21 rfl rfl)
theorem dX1_boil_118 : decode cX1_boil 118 = .ok (.aload_n 0, 1) := dk_42 (dk_at dksX1_boil_5 0 rfl rfl)
theorem dX1_boil_119 : decode cX1_boil 119 = .ok (.dup, 1) := dk_89 (dk_at dksX1_boil_5 1 rfl rfl)
theorem dX1_boil_120 : decode cX1_boil 120 = .ok (.getfield 170, 3) := dk_180 0 170 (dk_at dksX1_boil_5 2 rfl rfl)
theorem dX1_boil_123 : decode cX1_boil 123 = .ok (.bipush 45, 2) := dk_16 45 (dk_at dksX1_boil_5 5 rfl rfl)
theorem dX1_boil_125 : decode cX1_boil 125 = .ok (.iload_n 2, 1) := dk_28 (dk_at dksX1_boil_5 7 rfl rfl)
theorem dX1_boil_126 : decode cX1_boil 126 = .ok (.imul, 1) := dk_104 (dk_at dksX1_boil_5 8 rfl rfl)
theorem dX1_boil_127 : decode cX1_boil 127 = .ok (.iadd, 1) := dk_96 (dk_at dksX1_boil_5 9 rfl rfl)
theorem dX1_boil_128 : decode cX1_boil 128 = .ok (.putfield 170, 3) := dk_181 0 170 (dk_at dksX1_boil_5 10 rfl rfl)
theorem dX1_boil_131 : decode cX1_boil 131 = .ok (.aload_n 0, 1) := dk_42 (dk_at dksX1_boil_5 13 rfl rfl)
theorem dX1_boil_132 : decode cX1_boil 132 = .ok (.dup, 1) := dk_89 (dk_at dksX1_boil_5 14 rfl rfl)
theorem dX1_boil_133 : decode cX1_boil 133 = .ok (.getfield 167, 3) := dk_180 0 167 (dk_at dksX1_boil_5 15 rfl rfl)
theorem dX1_boil_136 : decode cX1_boil 136 = .ok (.bipush 55, 2) := dk_16 55 (dk_at dksX1_boil_5 18 rfl rfl)
theorem dX1_boil_138 : decode cX1_boil 138 = .ok (.iload_n 2, 1) := dk_28 (dk_at dksX1_boil_5 20 rfl rfl)
theorem dX1_boil_139 : decode cX1_boil 139 = .ok (.imul, 1) := dk_104 (dk_at dksX1_boil_5 21 rfl rfl)
theorem dX1_boil_140 : decode cX1_boil 140 = .ok (.iadd, 1) := dk_96 (dk_at dksX1_boil_5 22 rfl rfl)
theorem dX1_boil_141 : decode cX1_boil 141 = .ok (.putfield 167, 3) := dk_181 0 167 (dk_at dksX1_boil_6 0 rfl rfl)
theorem dX1_boil_144 : decode cX1_boil 144 = .ok (.goto 45, 3) := dk_167 0 45 (dk_at dksX1_boil_6 3 rfl rfl)
theorem dX1_boil_147 : decode cX1_boil 147 = .ok (.aload_n 0, 1) := dk_42 (dk_at dksX1_boil_6 6 rfl rfl)
theorem dX1_boil_148 : decode cX1_boil 148 = .ok (.dup, 1) := dk_89 (dk_at dksX1_boil_6 7 rfl rfl)
theorem dX1_boil_149 : decode cX1_boil 149 = .ok (.getfield 167, 3) := dk_180 0 167 (dk_at dksX1_boil_6 8 rfl rfl)
theorem dX1_boil_152 : decode cX1_boil 152 = .ok (.bipush 100, 2) := dk_16 100 (dk_at dksX1_boil_6 11 rfl rfl)
theorem dX1_boil_154 : decode cX1_boil 154 = .ok (.iload_n 2, 1) := dk_28 (dk_at dksX1_boil_6 13 rfl rfl)
theorem dX1_boil_155 : decode cX1_boil 155 = .ok (.imul, 1) := dk_104 (dk_at dksX1_boil_6 14 rfl rfl)
theorem dX1_boil_156 : decode cX1_boil 156 = .ok (.isub, 1) := dk_100 (dk_at dksX1_boil_6 15 rfl rfl)
theorem dX1_boil_157 : decode cX1_boil 157 = .ok (.putfield 167, 3) := dk_181 0 167 (dk_at dksX1_boil_6 16 rfl rfl)
theorem dX1_boil_160 : decode cX1_boil 160 = .ok (.aload_n 0, 1) := dk_42 (dk_at dksX1_boil_6 19 rfl rfl)
theorem dX1_boil_161 : decode cX1_boil 161 = .ok (.getfield 34, 3) := dk_180 0 34 (dk_at dksX1_boil_6 20 rfl rfl)
theorem dX1_boil_164 : decode cX1_boil 164 = .ok (.dup, 1) := dk_89 (dk_at dksX1_boil_6 23 rfl rfl)
theorem dX1_boil_165 : decode cX1_boil 165 = .ok (.getfield 161, 3) := dk_180 0 161 (dk_at dksX1_boil_7 0 rfl rfl)
theorem dX1_boil_168 : decode cX1_boil 168 = .ok (.bipush 30, 2) := dk_16 30 (dk_at dksX1_boil_7 3 rfl rfl)
theorem dX1_boil_170 : decode cX1_boil 170 = .ok (.iload_n 2, 1) := dk_28 (dk_at dksX1_boil_7 5 rfl rfl)
theorem dX1_boil_171 : decode cX1_boil 171 = .ok (.imul, 1) := dk_104 (dk_at dksX1_boil_7 6 rfl rfl)
theorem dX1_boil_172 : decode cX1_boil 172 = .ok (.iadd, 1) := dk_96 (dk_at dksX1_boil_7 7 rfl rfl)
theorem dX1_boil_173 : decode cX1_boil 173 = .ok (.putfield 161, 3) := dk_181 0 161 (dk_at dksX1_boil_7 8 rfl rfl)
theorem dX1_boil_176 : decode cX1_boil 176 = .ok (.aload_n 0, 1) := dk_42 (dk_at dksX1_boil_7 11 rfl rfl)
theorem dX1_boil_177 : decode cX1_boil 177 = .ok (.dup, 1) := dk_89 (dk_at dksX1_boil_7 12 rfl rfl)
theorem dX1_boil_178 : decode cX1_boil 178 = .ok (.getfield 173, 3) := dk_180 0 173 (dk_at dksX1_boil_7 13 rfl rfl)
theorem dX1_boil_181 : decode cX1_boil 181 = .ok (.bipush 70, 2) := dk_16 70 (dk_at dksX1_boil_7 16 rfl rfl)
theorem dX1_boil_183 : decode cX1_boil 183 = .ok (.iload_n 2, 1) := dk_28 (dk_at dksX1_boil_7 18 rfl rfl)
theorem dX1_boil_184 : decode cX1_boil 184 = .ok (.imul, 1) := dk_104 (dk_at dksX1_boil_7 19 rfl rfl)
theorem dX1_boil_185 : decode cX1_boil 185 = .ok (.iadd, 1) := dk_96 (dk_at dksX1_boil_7 20 rfl rfl)
theorem dX1_boil_186 : decode cX1_boil 186 = .ok (.putfield 173, 3) := dk_181 0 173 (dk_at dksX1_boil_7 21 rfl rfl)
theorem dX1_boil_189 : decode cX1_boil 189 = .ok (.aload_n 0, 1) := dk_42 (dk_at dksX1_boil_8 0 rfl rfl)
theorem dX1_boil_190 : decode cX1_boil 190 = .ok (.getfield 34, 3) := dk_180 0 34 (dk_at dksX1_boil_8 1 rfl rfl)
theorem dX1_boil_193 : decode cX1_boil 193 = .ok (.iconst 4, 1) := dk_7 (dk_at dksX1_boil_8 4 rfl rfl)
theorem dX1_boil_194 : decode cX1_boil 194 = .ok (.iload_n 2, 1) := dk_28 (dk_at dksX1_boil_8 5 rfl rfl)
theorem dX1_boil_195 : decode cX1_boil 195 = .ok (.imul, 1) := dk_104 (dk_at dksX1_boil_8 6 rfl rfl)
theorem dX1_boil_196 : decode cX1_boil 196 = .ok (.invokevirtual 157, 3) := dk_182 0 157 (dk_at dksX1_boil_8 7 rfl rfl)
theorem dX1_boil_199 : decode cX1_boil 199 = .ok (.ireturn, 1) := dk_172 (dk_at dksX1_boil_8 10 rfl rfl)
abbrev cX1_distil : ByteArray := prog_1_method_20_code
def yX1_distil : MethodName := ⟨RX1, "distil", "()I"⟩
def dkwX1_distil_2 : List UInt8 := [42, 89, 180, 0, 179, 16, 38, 27, 104, 96, 181, 0, 179, 42, 180, 0, 176, 172]
abbrev dktX1_distil_2 : List UInt8 := dkwX1_distil_2 ++ []
def dkwX1_distil_1 : List UInt8 := [180, 0, 173, 16, 50, 27, 104, 100, 181, 0, 173, 42, 89, 180, 0, 176, 16, 12, 27, 104, 96, 181, 0, 176]
abbrev dktX1_distil_1 : List UInt8 := dkwX1_distil_1 ++ dktX1_distil_2
def dkwX1_distil_0 : List UInt8 := [42, 180, 0, 173, 16, 50, 108, 60, 27, 158, 0, 7, 4, 167, 0, 4, 3, 184, 0, 60, 42, 89]
abbrev dktX1_distil_0 : List UInt8 := dkwX1_distil_0 ++ dktX1_distil_1
theorem dksX1_distil_0 : cX1_distil.data.toList.drop 0 = dktX1_distil_0 := by decide +kernel
theorem dksX1_distil_1 : cX1_distil.data.toList.drop 22 = dktX1_distil_1 := dk_seg dksX1_distil_0 22 rfl rfl
theorem dksX1_distil_2 : cX1_distil.data.toList.drop 46 = dktX1_distil_2 := dk_seg dksX1_distil_1 24 rfl rfl
theorem dX1_distil_0 : decode cX1_distil 0 = .ok (.aload_n 0, 1) := dk_42 (dk_at dksX1_distil_0 0 rfl rfl)
theorem dX1_distil_1 : decode cX1_distil 1 = .ok (.getfield 173, 3) := dk_180 0 173 (dk_at dksX1_distil_0 1 rfl rfl)
theorem dX1_distil_4 : decode cX1_distil 4 = .ok (.bipush 50, 2) := dk_16 50 (dk_at dksX1_distil_0 4 rfl rfl)
theorem dX1_distil_6 : decode cX1_distil 6 = .ok (.idiv, 1) := dk_108 (dk_at dksX1_distil_0 6 rfl rfl)
theorem dX1_distil_7 : decode cX1_distil 7 = .ok (.istore_n 1, 1) := dk_60 (dk_at dksX1_distil_0 7 rfl rfl)
theorem dX1_distil_8 : decode cX1_distil 8 = .ok (.iload_n 1, 1) := dk_27 (dk_at dksX1_distil_0 8 rfl rfl)
theorem dX1_distil_9 : decode cX1_distil 9 = .ok (.ifCond .le 7, 3) := dk_158 0 7 (dk_at dksX1_distil_0 9 rfl rfl)
theorem dX1_distil_12 : decode cX1_distil 12 = .ok (.iconst 1, 1) := dk_4 (dk_at dksX1_distil_0 12 rfl rfl)
theorem dX1_distil_13 : decode cX1_distil 13 = .ok (.goto 4, 3) := dk_167 0 4 (dk_at dksX1_distil_0 13 rfl rfl)
theorem dX1_distil_16 : decode cX1_distil 16 = .ok (.iconst 0, 1) := dk_3 (dk_at dksX1_distil_0 16 rfl rfl)
theorem dX1_distil_17 : decode cX1_distil 17 = .ok (.invokestatic 60, 3) := dk_184 0 60 (dk_at dksX1_distil_0 17 rfl rfl)
theorem dX1_distil_20 : decode cX1_distil 20 = .ok (.aload_n 0, 1) := dk_42 (dk_at dksX1_distil_0 20 rfl rfl)
theorem dX1_distil_21 : decode cX1_distil 21 = .ok (.dup, 1) := dk_89 (dk_at dksX1_distil_0 21 rfl rfl)
theorem dX1_distil_22 : decode cX1_distil 22 = .ok (.getfield 173, 3) := dk_180 0 173 (dk_at dksX1_distil_1 0 rfl rfl)
theorem dX1_distil_25 : decode cX1_distil 25 = .ok (.bipush 50, 2) := dk_16 50 (dk_at dksX1_distil_1 3 rfl rfl)
theorem dX1_distil_27 : decode cX1_distil 27 = .ok (.iload_n 1, 1) := dk_27 (dk_at dksX1_distil_1 5 rfl rfl)
theorem dX1_distil_28 : decode cX1_distil 28 = .ok (.imul, 1) := dk_104 (dk_at dksX1_distil_1 6 rfl rfl)
theorem dX1_distil_29 : decode cX1_distil 29 = .ok (.isub, 1) := dk_100 (dk_at dksX1_distil_1 7 rfl rfl)
theorem dX1_distil_30 : decode cX1_distil 30 = .ok (.putfield 173, 3) := dk_181 0 173 (dk_at dksX1_distil_1 8 rfl rfl)
theorem dX1_distil_33 : decode cX1_distil 33 = .ok (.aload_n 0, 1) := dk_42 (dk_at dksX1_distil_1 11 rfl rfl)
theorem dX1_distil_34 : decode cX1_distil 34 = .ok (.dup, 1) := dk_89 (dk_at dksX1_distil_1 12 rfl rfl)
theorem dX1_distil_35 : decode cX1_distil 35 = .ok (.getfield 176, 3) := dk_180 0 176 (dk_at dksX1_distil_1 13 rfl rfl)
theorem dX1_distil_38 : decode cX1_distil 38 = .ok (.bipush 12, 2) := dk_16 12 (dk_at dksX1_distil_1 16 rfl rfl)
theorem dX1_distil_40 : decode cX1_distil 40 = .ok (.iload_n 1, 1) := dk_27 (dk_at dksX1_distil_1 18 rfl rfl)
theorem dX1_distil_41 : decode cX1_distil 41 = .ok (.imul, 1) := dk_104 (dk_at dksX1_distil_1 19 rfl rfl)
theorem dX1_distil_42 : decode cX1_distil 42 = .ok (.iadd, 1) := dk_96 (dk_at dksX1_distil_1 20 rfl rfl)
theorem dX1_distil_43 : decode cX1_distil 43 = .ok (.putfield 176, 3) := dk_181 0 176 (dk_at dksX1_distil_1 21 rfl rfl)
theorem dX1_distil_46 : decode cX1_distil 46 = .ok (.aload_n 0, 1) := dk_42 (dk_at dksX1_distil_2 0 rfl rfl)
theorem dX1_distil_47 : decode cX1_distil 47 = .ok (.dup, 1) := dk_89 (dk_at dksX1_distil_2 1 rfl rfl)
theorem dX1_distil_48 : decode cX1_distil 48 = .ok (.getfield 179, 3) := dk_180 0 179 (dk_at dksX1_distil_2 2 rfl rfl)
theorem dX1_distil_51 : decode cX1_distil 51 = .ok (.bipush 38, 2) := dk_16 38 (dk_at dksX1_distil_2 5 rfl rfl)
theorem dX1_distil_53 : decode cX1_distil 53 = .ok (.iload_n 1, 1) := dk_27 (dk_at dksX1_distil_2 7 rfl rfl)
theorem dX1_distil_54 : decode cX1_distil 54 = .ok (.imul, 1) := dk_104 (dk_at dksX1_distil_2 8 rfl rfl)
theorem dX1_distil_55 : decode cX1_distil 55 = .ok (.iadd, 1) := dk_96 (dk_at dksX1_distil_2 9 rfl rfl)
theorem dX1_distil_56 : decode cX1_distil 56 = .ok (.putfield 179, 3) := dk_181 0 179 (dk_at dksX1_distil_2 10 rfl rfl)
theorem dX1_distil_59 : decode cX1_distil 59 = .ok (.aload_n 0, 1) := dk_42 (dk_at dksX1_distil_2 13 rfl rfl)
theorem dX1_distil_60 : decode cX1_distil 60 = .ok (.getfield 176, 3) := dk_180 0 176 (dk_at dksX1_distil_2 14 rfl rfl)
theorem dX1_distil_63 : decode cX1_distil 63 = .ok (.ireturn, 1) := dk_172 (dk_at dksX1_distil_2 17 rfl rfl)
abbrev cX1_sell : ByteArray := prog_1_method_21_code
def yX1_sell : MethodName := ⟨RX1, "sell", "(II)I"⟩
def dkwX1_sell_6 : List UInt8 := [42, 180, 0, 34, 180, 0, 185, 172]
abbrev dktX1_sell_6 : List UInt8 := dkwX1_sell_6 ++ []
def dkwX1_sell_5 : List UInt8 := [28, 27, 154, 0, 7, 6, 167, 0, 13, 27, 4, 160, 0, 7, 8, 167, 0, 4, 4, 104, 96, 181, 0, 185]
abbrev dktX1_sell_5 : List UInt8 := dkwX1_sell_5 ++ dktX1_sell_6
def dkwX1_sell_4 : List UInt8 := [167, 0, 16, 42, 180, 0, 34, 89, 180, 0, 182, 28, 100, 181, 0, 182, 42, 180, 0, 34, 89, 180, 0, 185]
abbrev dktX1_sell_4 : List UInt8 := dkwX1_sell_4 ++ dktX1_sell_5
def dkwX1_sell_3 : List UInt8 := [100, 181, 0, 170, 167, 0, 34, 27, 4, 160, 0, 16, 42, 89, 180, 0, 176, 28, 100, 181, 0, 176]
abbrev dktX1_sell_3 : List UInt8 := dkwX1_sell_3 ++ dktX1_sell_4
def dkwX1_sell_2 : List UInt8 := [180, 0, 182, 163, 0, 7, 4, 167, 0, 4, 3, 184, 0, 60, 27, 154, 0, 16, 42, 89, 180, 0, 170, 28]
abbrev dktX1_sell_2 : List UInt8 := dkwX1_sell_2 ++ dktX1_sell_3
def dkwX1_sell_1 : List UInt8 := [180, 0, 170, 167, 0, 22, 27, 4, 160, 0, 10, 42, 180, 0, 176, 167, 0, 10, 42, 180, 0, 34]
abbrev dktX1_sell_1 : List UInt8 := dkwX1_sell_1 ++ dktX1_sell_2
def dkwX1_sell_0 : List UInt8 := [27, 6, 184, 0, 42, 28, 4, 161, 0, 7, 4, 167, 0, 4, 3, 184, 0, 46, 28, 27, 154, 0, 10, 42]
abbrev dktX1_sell_0 : List UInt8 := dkwX1_sell_0 ++ dktX1_sell_1
theorem dksX1_sell_0 : cX1_sell.data.toList.drop 0 = dktX1_sell_0 := by decide +kernel
theorem dksX1_sell_1 : cX1_sell.data.toList.drop 24 = dktX1_sell_1 := dk_seg dksX1_sell_0 24 rfl rfl
theorem dksX1_sell_2 : cX1_sell.data.toList.drop 46 = dktX1_sell_2 := dk_seg dksX1_sell_1 22 rfl rfl
theorem dksX1_sell_3 : cX1_sell.data.toList.drop 70 = dktX1_sell_3 := dk_seg dksX1_sell_2 24 rfl rfl
theorem dksX1_sell_4 : cX1_sell.data.toList.drop 92 = dktX1_sell_4 := dk_seg dksX1_sell_3 22 rfl rfl
theorem dksX1_sell_5 : cX1_sell.data.toList.drop 116 = dktX1_sell_5 := dk_seg dksX1_sell_4 24 rfl rfl
theorem dksX1_sell_6 : cX1_sell.data.toList.drop 140 = dktX1_sell_6 := dk_seg dksX1_sell_5 24 rfl rfl
theorem dX1_sell_0 : decode cX1_sell 0 = .ok (.iload_n 1, 1) := dk_27 (dk_at dksX1_sell_0 0 rfl rfl)
theorem dX1_sell_1 : decode cX1_sell 1 = .ok (.iconst 3, 1) := dk_6 (dk_at dksX1_sell_0 1 rfl rfl)
theorem dX1_sell_2 : decode cX1_sell 2 = .ok (.invokestatic 42, 3) := dk_184 0 42 (dk_at dksX1_sell_0 2 rfl rfl)
theorem dX1_sell_5 : decode cX1_sell 5 = .ok (.iload_n 2, 1) := dk_28 (dk_at dksX1_sell_0 5 rfl rfl)
theorem dX1_sell_6 : decode cX1_sell 6 = .ok (.iconst 1, 1) := dk_4 (dk_at dksX1_sell_0 6 rfl rfl)
theorem dX1_sell_7 : decode cX1_sell 7 = .ok (.if_icmp .lt 7, 3) := dk_161 0 7 (dk_at dksX1_sell_0 7 rfl rfl)
theorem dX1_sell_10 : decode cX1_sell 10 = .ok (.iconst 1, 1) := dk_4 (dk_at dksX1_sell_0 10 rfl rfl)
theorem dX1_sell_11 : decode cX1_sell 11 = .ok (.goto 4, 3) := dk_167 0 4 (dk_at dksX1_sell_0 11 rfl rfl)
theorem dX1_sell_14 : decode cX1_sell 14 = .ok (.iconst 0, 1) := dk_3 (dk_at dksX1_sell_0 14 rfl rfl)
theorem dX1_sell_15 : decode cX1_sell 15 = .ok (.invokestatic 46, 3) := dk_184 0 46 (dk_at dksX1_sell_0 15 rfl rfl)
theorem dX1_sell_18 : decode cX1_sell 18 = .ok (.iload_n 2, 1) := dk_28 (dk_at dksX1_sell_0 18 rfl rfl)
theorem dX1_sell_19 : decode cX1_sell 19 = .ok (.iload_n 1, 1) := dk_27 (dk_at dksX1_sell_0 19 rfl rfl)
theorem dX1_sell_20 : decode cX1_sell 20 = .ok (.ifCond .ne 10, 3) := dk_154 0 10 (dk_at dksX1_sell_0 20 rfl rfl)
theorem dX1_sell_23 : decode cX1_sell 23 = .ok (.aload_n 0, 1) := dk_42 (dk_at dksX1_sell_0 23 rfl rfl)
theorem dX1_sell_24 : decode cX1_sell 24 = .ok (.getfield 170, 3) := dk_180 0 170 (dk_at dksX1_sell_1 0 rfl rfl)
theorem dX1_sell_27 : decode cX1_sell 27 = .ok (.goto 22, 3) := dk_167 0 22 (dk_at dksX1_sell_1 3 rfl rfl)
theorem dX1_sell_30 : decode cX1_sell 30 = .ok (.iload_n 1, 1) := dk_27 (dk_at dksX1_sell_1 6 rfl rfl)
theorem dX1_sell_31 : decode cX1_sell 31 = .ok (.iconst 1, 1) := dk_4 (dk_at dksX1_sell_1 7 rfl rfl)
theorem dX1_sell_32 : decode cX1_sell 32 = .ok (.if_icmp .ne 10, 3) := dk_160 0 10 (dk_at dksX1_sell_1 8 rfl rfl)
theorem dX1_sell_35 : decode cX1_sell 35 = .ok (.aload_n 0, 1) := dk_42 (dk_at dksX1_sell_1 11 rfl rfl)
theorem dX1_sell_36 : decode cX1_sell 36 = .ok (.getfield 176, 3) := dk_180 0 176 (dk_at dksX1_sell_1 12 rfl rfl)
theorem dX1_sell_39 : decode cX1_sell 39 = .ok (.goto 10, 3) := dk_167 0 10 (dk_at dksX1_sell_1 15 rfl rfl)
theorem dX1_sell_42 : decode cX1_sell 42 = .ok (.aload_n 0, 1) := dk_42 (dk_at dksX1_sell_1 18 rfl rfl)
theorem dX1_sell_43 : decode cX1_sell 43 = .ok (.getfield 34, 3) := dk_180 0 34 (dk_at dksX1_sell_1 19 rfl rfl)
theorem dX1_sell_46 : decode cX1_sell 46 = .ok (.getfield 182, 3) := dk_180 0 182 (dk_at dksX1_sell_2 0 rfl rfl)
theorem dX1_sell_49 : decode cX1_sell 49 = .ok (.if_icmp .gt 7, 3) := dk_163 0 7 (dk_at dksX1_sell_2 3 rfl rfl)
theorem dX1_sell_52 : decode cX1_sell 52 = .ok (.iconst 1, 1) := dk_4 (dk_at dksX1_sell_2 6 rfl rfl)
theorem dX1_sell_53 : decode cX1_sell 53 = .ok (.goto 4, 3) := dk_167 0 4 (dk_at dksX1_sell_2 7 rfl rfl)
theorem dX1_sell_56 : decode cX1_sell 56 = .ok (.iconst 0, 1) := dk_3 (dk_at dksX1_sell_2 10 rfl rfl)
theorem dX1_sell_57 : decode cX1_sell 57 = .ok (.invokestatic 60, 3) := dk_184 0 60 (dk_at dksX1_sell_2 11 rfl rfl)
theorem dX1_sell_60 : decode cX1_sell 60 = .ok (.iload_n 1, 1) := dk_27 (dk_at dksX1_sell_2 14 rfl rfl)
theorem dX1_sell_61 : decode cX1_sell 61 = .ok (.ifCond .ne 16, 3) := dk_154 0 16 (dk_at dksX1_sell_2 15 rfl rfl)
theorem dX1_sell_64 : decode cX1_sell 64 = .ok (.aload_n 0, 1) := dk_42 (dk_at dksX1_sell_2 18 rfl rfl)
theorem dX1_sell_65 : decode cX1_sell 65 = .ok (.dup, 1) := dk_89 (dk_at dksX1_sell_2 19 rfl rfl)
theorem dX1_sell_66 : decode cX1_sell 66 = .ok (.getfield 170, 3) := dk_180 0 170 (dk_at dksX1_sell_2 20 rfl rfl)
theorem dX1_sell_69 : decode cX1_sell 69 = .ok (.iload_n 2, 1) := dk_28 (dk_at dksX1_sell_2 23 rfl rfl)
theorem dX1_sell_70 : decode cX1_sell 70 = .ok (.isub, 1) := dk_100 (dk_at dksX1_sell_3 0 rfl rfl)
theorem dX1_sell_71 : decode cX1_sell 71 = .ok (.putfield 170, 3) := dk_181 0 170 (dk_at dksX1_sell_3 1 rfl rfl)
theorem dX1_sell_74 : decode cX1_sell 74 = .ok (.goto 34, 3) := dk_167 0 34 (dk_at dksX1_sell_3 4 rfl rfl)
theorem dX1_sell_77 : decode cX1_sell 77 = .ok (.iload_n 1, 1) := dk_27 (dk_at dksX1_sell_3 7 rfl rfl)
theorem dX1_sell_78 : decode cX1_sell 78 = .ok (.iconst 1, 1) := dk_4 (dk_at dksX1_sell_3 8 rfl rfl)
theorem dX1_sell_79 : decode cX1_sell 79 = .ok (.if_icmp .ne 16, 3) := dk_160 0 16 (dk_at dksX1_sell_3 9 rfl rfl)
theorem dX1_sell_82 : decode cX1_sell 82 = .ok (.aload_n 0, 1) := dk_42 (dk_at dksX1_sell_3 12 rfl rfl)
theorem dX1_sell_83 : decode cX1_sell 83 = .ok (.dup, 1) := dk_89 (dk_at dksX1_sell_3 13 rfl rfl)
theorem dX1_sell_84 : decode cX1_sell 84 = .ok (.getfield 176, 3) := dk_180 0 176 (dk_at dksX1_sell_3 14 rfl rfl)
theorem dX1_sell_87 : decode cX1_sell 87 = .ok (.iload_n 2, 1) := dk_28 (dk_at dksX1_sell_3 17 rfl rfl)
theorem dX1_sell_88 : decode cX1_sell 88 = .ok (.isub, 1) := dk_100 (dk_at dksX1_sell_3 18 rfl rfl)
theorem dX1_sell_89 : decode cX1_sell 89 = .ok (.putfield 176, 3) := dk_181 0 176 (dk_at dksX1_sell_3 19 rfl rfl)
theorem dX1_sell_92 : decode cX1_sell 92 = .ok (.goto 16, 3) := dk_167 0 16 (dk_at dksX1_sell_4 0 rfl rfl)
theorem dX1_sell_95 : decode cX1_sell 95 = .ok (.aload_n 0, 1) := dk_42 (dk_at dksX1_sell_4 3 rfl rfl)
theorem dX1_sell_96 : decode cX1_sell 96 = .ok (.getfield 34, 3) := dk_180 0 34 (dk_at dksX1_sell_4 4 rfl rfl)
theorem dX1_sell_99 : decode cX1_sell 99 = .ok (.dup, 1) := dk_89 (dk_at dksX1_sell_4 7 rfl rfl)
theorem dX1_sell_100 : decode cX1_sell 100 = .ok (.getfield 182, 3) := dk_180 0 182 (dk_at dksX1_sell_4 8 rfl rfl)
theorem dX1_sell_103 : decode cX1_sell 103 = .ok (.iload_n 2, 1) := dk_28 (dk_at dksX1_sell_4 11 rfl rfl)
theorem dX1_sell_104 : decode cX1_sell 104 = .ok (.isub, 1) := dk_100 (dk_at dksX1_sell_4 12 rfl rfl)
theorem dX1_sell_105 : decode cX1_sell 105 = .ok (.putfield 182, 3) := dk_181 0 182 (dk_at dksX1_sell_4 13 rfl rfl)
theorem dX1_sell_108 : decode cX1_sell 108 = .ok (.aload_n 0, 1) := dk_42 (dk_at dksX1_sell_4 16 rfl rfl)
theorem dX1_sell_109 : decode cX1_sell 109 = .ok (.getfield 34, 3) := dk_180 0 34 (dk_at dksX1_sell_4 17 rfl rfl)
theorem dX1_sell_112 : decode cX1_sell 112 = .ok (.dup, 1) := dk_89 (dk_at dksX1_sell_4 20 rfl rfl)
theorem dX1_sell_113 : decode cX1_sell 113 = .ok (.getfield 185, 3) := dk_180 0 185 (dk_at dksX1_sell_4 21 rfl rfl)
theorem dX1_sell_116 : decode cX1_sell 116 = .ok (.iload_n 2, 1) := dk_28 (dk_at dksX1_sell_5 0 rfl rfl)
theorem dX1_sell_117 : decode cX1_sell 117 = .ok (.iload_n 1, 1) := dk_27 (dk_at dksX1_sell_5 1 rfl rfl)
theorem dX1_sell_118 : decode cX1_sell 118 = .ok (.ifCond .ne 7, 3) := dk_154 0 7 (dk_at dksX1_sell_5 2 rfl rfl)
theorem dX1_sell_121 : decode cX1_sell 121 = .ok (.iconst 3, 1) := dk_6 (dk_at dksX1_sell_5 5 rfl rfl)
theorem dX1_sell_122 : decode cX1_sell 122 = .ok (.goto 13, 3) := dk_167 0 13 (dk_at dksX1_sell_5 6 rfl rfl)
theorem dX1_sell_125 : decode cX1_sell 125 = .ok (.iload_n 1, 1) := dk_27 (dk_at dksX1_sell_5 9 rfl rfl)
theorem dX1_sell_126 : decode cX1_sell 126 = .ok (.iconst 1, 1) := dk_4 (dk_at dksX1_sell_5 10 rfl rfl)
theorem dX1_sell_127 : decode cX1_sell 127 = .ok (.if_icmp .ne 7, 3) := dk_160 0 7 (dk_at dksX1_sell_5 11 rfl rfl)
theorem dX1_sell_130 : decode cX1_sell 130 = .ok (.iconst 5, 1) := dk_8 (dk_at dksX1_sell_5 14 rfl rfl)
theorem dX1_sell_131 : decode cX1_sell 131 = .ok (.goto 4, 3) := dk_167 0 4 (dk_at dksX1_sell_5 15 rfl rfl)
theorem dX1_sell_134 : decode cX1_sell 134 = .ok (.iconst 1, 1) := dk_4 (dk_at dksX1_sell_5 18 rfl rfl)
theorem dX1_sell_135 : decode cX1_sell 135 = .ok (.imul, 1) := dk_104 (dk_at dksX1_sell_5 19 rfl rfl)
theorem dX1_sell_136 : decode cX1_sell 136 = .ok (.iadd, 1) := dk_96 (dk_at dksX1_sell_5 20 rfl rfl)
theorem dX1_sell_137 : decode cX1_sell 137 = .ok (.putfield 185, 3) := dk_181 0 185 (dk_at dksX1_sell_5 21 rfl rfl)
theorem dX1_sell_140 : decode cX1_sell 140 = .ok (.aload_n 0, 1) := dk_42 (dk_at dksX1_sell_6 0 rfl rfl)
theorem dX1_sell_141 : decode cX1_sell 141 = .ok (.getfield 34, 3) := dk_180 0 34 (dk_at dksX1_sell_6 1 rfl rfl)
theorem dX1_sell_144 : decode cX1_sell 144 = .ok (.getfield 185, 3) := dk_180 0 185 (dk_at dksX1_sell_6 4 rfl rfl)
theorem dX1_sell_147 : decode cX1_sell 147 = .ok (.ireturn, 1) := dk_172 (dk_at dksX1_sell_6 7 rfl rfl)
abbrev cX1_pay : ByteArray := prog_1_method_22_code
def yX1_pay : MethodName := ⟨RX1, "pay", "(I)I"⟩
def dkwX1_pay_6 : List UInt8 := [27, 21, 4, 100, 100, 181, 0, 185, 21, 4, 172]
abbrev dktX1_pay_6 : List UInt8 := dkwX1_pay_6 ++ []
def dkwX1_pay_5 : List UInt8 := [180, 0, 34, 180, 0, 188, 21, 5, 3, 79, 132, 5, 1, 167, 255, 198, 42, 180, 0, 34, 89, 180, 0, 185]
abbrev dktX1_pay_5 : List UInt8 := dkwX1_pay_5 ++ dktX1_pay_6
def dkwX1_pay_4 : List UInt8 := [109, 136, 54, 6, 42, 180, 0, 38, 21, 5, 92, 46, 21, 6, 96, 79, 21, 4, 21, 6, 100, 54, 4, 42]
abbrev dktX1_pay_4 : List UInt8 := dkwX1_pay_4 ++ dktX1_pay_5
def dkwX1_pay_3 : List UInt8 := [3, 54, 5, 21, 5, 7, 162, 0, 58, 27, 133, 42, 180, 0, 34, 180, 0, 188, 21, 5, 46, 133, 105, 32]
abbrev dktX1_pay_3 : List UInt8 := dkwX1_pay_3 ++ dktX1_pay_4
def dkwX1_pay_2 : List UInt8 := [180, 0, 185, 27, 161, 0, 13, 32, 9, 148, 158, 0, 7, 4, 167, 0, 4, 3, 184, 0, 60, 27, 54, 4]
abbrev dktX1_pay_2 : List UInt8 := dkwX1_pay_2 ++ dktX1_pay_3
def dkwX1_pay_1 : List UInt8 := [180, 0, 34, 180, 0, 188, 21, 4, 46, 133, 97, 65, 132, 4, 1, 167, 255, 233, 42, 180, 0, 34]
abbrev dktX1_pay_1 : List UInt8 := dkwX1_pay_1 ++ dktX1_pay_2
def dkwX1_pay_0 : List UInt8 := [4, 17, 39, 15, 27, 184, 0, 22, 184, 0, 46, 9, 65, 3, 54, 4, 21, 4, 7, 162, 0, 23, 32, 42]
abbrev dktX1_pay_0 : List UInt8 := dkwX1_pay_0 ++ dktX1_pay_1
theorem dksX1_pay_0 : cX1_pay.data.toList.drop 0 = dktX1_pay_0 := by decide +kernel
theorem dksX1_pay_1 : cX1_pay.data.toList.drop 24 = dktX1_pay_1 := dk_seg dksX1_pay_0 24 rfl rfl
theorem dksX1_pay_2 : cX1_pay.data.toList.drop 46 = dktX1_pay_2 := dk_seg dksX1_pay_1 22 rfl rfl
theorem dksX1_pay_3 : cX1_pay.data.toList.drop 70 = dktX1_pay_3 := dk_seg dksX1_pay_2 24 rfl rfl
theorem dksX1_pay_4 : cX1_pay.data.toList.drop 94 = dktX1_pay_4 := dk_seg dksX1_pay_3 24 rfl rfl
theorem dksX1_pay_5 : cX1_pay.data.toList.drop 118 = dktX1_pay_5 := dk_seg dksX1_pay_4 24 rfl rfl
theorem dksX1_pay_6 : cX1_pay.data.toList.drop 142 = dktX1_pay_6 := dk_seg dksX1_pay_5 24 rfl rfl
theorem dX1_pay_0 : decode cX1_pay 0 = .ok (.iconst 1, 1) := dk_4 (dk_at dksX1_pay_0 0 rfl rfl)
theorem dX1_pay_1 : decode cX1_pay 1 = .ok (.sipush 9999, 3) := dk_17 39 15 (dk_at dksX1_pay_0 1 rfl rfl)
theorem dX1_pay_4 : decode cX1_pay 4 = .ok (.iload_n 1, 1) := dk_27 (dk_at dksX1_pay_0 4 rfl rfl)
theorem dX1_pay_5 : decode cX1_pay 5 = .ok (.invokestatic 22, 3) := dk_184 0 22 (dk_at dksX1_pay_0 5 rfl rfl)
theorem dX1_pay_8 : decode cX1_pay 8 = .ok (.invokestatic 46, 3) := dk_184 0 46 (dk_at dksX1_pay_0 8 rfl rfl)
theorem dX1_pay_11 : decode cX1_pay 11 = .ok (.lconst 0, 1) := dk_9 (dk_at dksX1_pay_0 11 rfl rfl)
theorem dX1_pay_12 : decode cX1_pay 12 = .ok (.lstore_n 2, 1) := dk_65 (dk_at dksX1_pay_0 12 rfl rfl)
theorem dX1_pay_13 : decode cX1_pay 13 = .ok (.iconst 0, 1) := dk_3 (dk_at dksX1_pay_0 13 rfl rfl)
theorem dX1_pay_14 : decode cX1_pay 14 = .ok (.istore 4, 2) := dk_54 4 (dk_at dksX1_pay_0 14 rfl rfl)
theorem dX1_pay_16 : decode cX1_pay 16 = .ok (.iload 4, 2) := dk_21 4 (dk_at dksX1_pay_0 16 rfl rfl)
theorem dX1_pay_18 : decode cX1_pay 18 = .ok (.iconst 4, 1) := dk_7 (dk_at dksX1_pay_0 18 rfl rfl)
theorem dX1_pay_19 : decode cX1_pay 19 = .ok (.if_icmp .ge 23, 3) := dk_162 0 23 (dk_at dksX1_pay_0 19 rfl rfl)
theorem dX1_pay_22 : decode cX1_pay 22 = .ok (.lload_n 2, 1) := dk_32 (dk_at dksX1_pay_0 22 rfl rfl)
theorem dX1_pay_23 : decode cX1_pay 23 = .ok (.aload_n 0, 1) := dk_42 (dk_at dksX1_pay_0 23 rfl rfl)
theorem dX1_pay_24 : decode cX1_pay 24 = .ok (.getfield 34, 3) := dk_180 0 34 (dk_at dksX1_pay_1 0 rfl rfl)
theorem dX1_pay_27 : decode cX1_pay 27 = .ok (.getfield 188, 3) := dk_180 0 188 (dk_at dksX1_pay_1 3 rfl rfl)
theorem dX1_pay_30 : decode cX1_pay 30 = .ok (.iload 4, 2) := dk_21 4 (dk_at dksX1_pay_1 6 rfl rfl)
theorem dX1_pay_32 : decode cX1_pay 32 = .ok (.iaload, 1) := dk_46 (dk_at dksX1_pay_1 8 rfl rfl)
theorem dX1_pay_33 : decode cX1_pay 33 = .ok (.i2l, 1) := dk_133 (dk_at dksX1_pay_1 9 rfl rfl)
theorem dX1_pay_34 : decode cX1_pay 34 = .ok (.ladd, 1) := dk_97 (dk_at dksX1_pay_1 10 rfl rfl)
theorem dX1_pay_35 : decode cX1_pay 35 = .ok (.lstore_n 2, 1) := dk_65 (dk_at dksX1_pay_1 11 rfl rfl)
theorem dX1_pay_36 : decode cX1_pay 36 = .ok (.iinc 4 1, 3) := dk_132 4 1 (dk_at dksX1_pay_1 12 rfl rfl)
theorem dX1_pay_39 : decode cX1_pay 39 = .ok (.goto (-23), 3) := dk_167 255 233 (dk_at dksX1_pay_1 15 rfl rfl)
theorem dX1_pay_42 : decode cX1_pay 42 = .ok (.aload_n 0, 1) := dk_42 (dk_at dksX1_pay_1 18 rfl rfl)
theorem dX1_pay_43 : decode cX1_pay 43 = .ok (.getfield 34, 3) := dk_180 0 34 (dk_at dksX1_pay_1 19 rfl rfl)
theorem dX1_pay_46 : decode cX1_pay 46 = .ok (.getfield 185, 3) := dk_180 0 185 (dk_at dksX1_pay_2 0 rfl rfl)
theorem dX1_pay_49 : decode cX1_pay 49 = .ok (.iload_n 1, 1) := dk_27 (dk_at dksX1_pay_2 3 rfl rfl)
theorem dX1_pay_50 : decode cX1_pay 50 = .ok (.if_icmp .lt 13, 3) := dk_161 0 13 (dk_at dksX1_pay_2 4 rfl rfl)
theorem dX1_pay_53 : decode cX1_pay 53 = .ok (.lload_n 2, 1) := dk_32 (dk_at dksX1_pay_2 7 rfl rfl)
theorem dX1_pay_54 : decode cX1_pay 54 = .ok (.lconst 0, 1) := dk_9 (dk_at dksX1_pay_2 8 rfl rfl)
theorem dX1_pay_55 : decode cX1_pay 55 = .ok (.lcmp, 1) := dk_148 (dk_at dksX1_pay_2 9 rfl rfl)
theorem dX1_pay_56 : decode cX1_pay 56 = .ok (.ifCond .le 7, 3) := dk_158 0 7 (dk_at dksX1_pay_2 10 rfl rfl)
theorem dX1_pay_59 : decode cX1_pay 59 = .ok (.iconst 1, 1) := dk_4 (dk_at dksX1_pay_2 13 rfl rfl)
theorem dX1_pay_60 : decode cX1_pay 60 = .ok (.goto 4, 3) := dk_167 0 4 (dk_at dksX1_pay_2 14 rfl rfl)
theorem dX1_pay_63 : decode cX1_pay 63 = .ok (.iconst 0, 1) := dk_3 (dk_at dksX1_pay_2 17 rfl rfl)
theorem dX1_pay_64 : decode cX1_pay 64 = .ok (.invokestatic 60, 3) := dk_184 0 60 (dk_at dksX1_pay_2 18 rfl rfl)
theorem dX1_pay_67 : decode cX1_pay 67 = .ok (.iload_n 1, 1) := dk_27 (dk_at dksX1_pay_2 21 rfl rfl)
theorem dX1_pay_68 : decode cX1_pay 68 = .ok (.istore 4, 2) := dk_54 4 (dk_at dksX1_pay_2 22 rfl rfl)
theorem dX1_pay_70 : decode cX1_pay 70 = .ok (.iconst 0, 1) := dk_3 (dk_at dksX1_pay_3 0 rfl rfl)
theorem dX1_pay_71 : decode cX1_pay 71 = .ok (.istore 5, 2) := dk_54 5 (dk_at dksX1_pay_3 1 rfl rfl)
theorem dX1_pay_73 : decode cX1_pay 73 = .ok (.iload 5, 2) := dk_21 5 (dk_at dksX1_pay_3 3 rfl rfl)
theorem dX1_pay_75 : decode cX1_pay 75 = .ok (.iconst 4, 1) := dk_7 (dk_at dksX1_pay_3 5 rfl rfl)
theorem dX1_pay_76 : decode cX1_pay 76 = .ok (.if_icmp .ge 58, 3) := dk_162 0 58 (dk_at dksX1_pay_3 6 rfl rfl)
theorem dX1_pay_79 : decode cX1_pay 79 = .ok (.iload_n 1, 1) := dk_27 (dk_at dksX1_pay_3 9 rfl rfl)
theorem dX1_pay_80 : decode cX1_pay 80 = .ok (.i2l, 1) := dk_133 (dk_at dksX1_pay_3 10 rfl rfl)
theorem dX1_pay_81 : decode cX1_pay 81 = .ok (.aload_n 0, 1) := dk_42 (dk_at dksX1_pay_3 11 rfl rfl)
theorem dX1_pay_82 : decode cX1_pay 82 = .ok (.getfield 34, 3) := dk_180 0 34 (dk_at dksX1_pay_3 12 rfl rfl)
theorem dX1_pay_85 : decode cX1_pay 85 = .ok (.getfield 188, 3) := dk_180 0 188 (dk_at dksX1_pay_3 15 rfl rfl)
theorem dX1_pay_88 : decode cX1_pay 88 = .ok (.iload 5, 2) := dk_21 5 (dk_at dksX1_pay_3 18 rfl rfl)
theorem dX1_pay_90 : decode cX1_pay 90 = .ok (.iaload, 1) := dk_46 (dk_at dksX1_pay_3 20 rfl rfl)
theorem dX1_pay_91 : decode cX1_pay 91 = .ok (.i2l, 1) := dk_133 (dk_at dksX1_pay_3 21 rfl rfl)
theorem dX1_pay_92 : decode cX1_pay 92 = .ok (.lmul, 1) := dk_105 (dk_at dksX1_pay_3 22 rfl rfl)
theorem dX1_pay_93 : decode cX1_pay 93 = .ok (.lload_n 2, 1) := dk_32 (dk_at dksX1_pay_3 23 rfl rfl)
theorem dX1_pay_94 : decode cX1_pay 94 = .ok (.ldiv, 1) := dk_109 (dk_at dksX1_pay_4 0 rfl rfl)
theorem dX1_pay_95 : decode cX1_pay 95 = .ok (.l2i, 1) := dk_136 (dk_at dksX1_pay_4 1 rfl rfl)
theorem dX1_pay_96 : decode cX1_pay 96 = .ok (.istore 6, 2) := dk_54 6 (dk_at dksX1_pay_4 2 rfl rfl)
theorem dX1_pay_98 : decode cX1_pay 98 = .ok (.aload_n 0, 1) := dk_42 (dk_at dksX1_pay_4 4 rfl rfl)
theorem dX1_pay_99 : decode cX1_pay 99 = .ok (.getfield 38, 3) := dk_180 0 38 (dk_at dksX1_pay_4 5 rfl rfl)
theorem dX1_pay_102 : decode cX1_pay 102 = .ok (.iload 5, 2) := dk_21 5 (dk_at dksX1_pay_4 8 rfl rfl)
theorem dX1_pay_104 : decode cX1_pay 104 = .ok (.dup2, 1) := dk_92 (dk_at dksX1_pay_4 10 rfl rfl)
theorem dX1_pay_105 : decode cX1_pay 105 = .ok (.iaload, 1) := dk_46 (dk_at dksX1_pay_4 11 rfl rfl)
theorem dX1_pay_106 : decode cX1_pay 106 = .ok (.iload 6, 2) := dk_21 6 (dk_at dksX1_pay_4 12 rfl rfl)
theorem dX1_pay_108 : decode cX1_pay 108 = .ok (.iadd, 1) := dk_96 (dk_at dksX1_pay_4 14 rfl rfl)
theorem dX1_pay_109 : decode cX1_pay 109 = .ok (.iastore, 1) := dk_79 (dk_at dksX1_pay_4 15 rfl rfl)
theorem dX1_pay_110 : decode cX1_pay 110 = .ok (.iload 4, 2) := dk_21 4 (dk_at dksX1_pay_4 16 rfl rfl)
theorem dX1_pay_112 : decode cX1_pay 112 = .ok (.iload 6, 2) := dk_21 6 (dk_at dksX1_pay_4 18 rfl rfl)
theorem dX1_pay_114 : decode cX1_pay 114 = .ok (.isub, 1) := dk_100 (dk_at dksX1_pay_4 20 rfl rfl)
theorem dX1_pay_115 : decode cX1_pay 115 = .ok (.istore 4, 2) := dk_54 4 (dk_at dksX1_pay_4 21 rfl rfl)
theorem dX1_pay_117 : decode cX1_pay 117 = .ok (.aload_n 0, 1) := dk_42 (dk_at dksX1_pay_4 23 rfl rfl)
theorem dX1_pay_118 : decode cX1_pay 118 = .ok (.getfield 34, 3) := dk_180 0 34 (dk_at dksX1_pay_5 0 rfl rfl)
theorem dX1_pay_121 : decode cX1_pay 121 = .ok (.getfield 188, 3) := dk_180 0 188 (dk_at dksX1_pay_5 3 rfl rfl)
theorem dX1_pay_124 : decode cX1_pay 124 = .ok (.iload 5, 2) := dk_21 5 (dk_at dksX1_pay_5 6 rfl rfl)
theorem dX1_pay_126 : decode cX1_pay 126 = .ok (.iconst 0, 1) := dk_3 (dk_at dksX1_pay_5 8 rfl rfl)
theorem dX1_pay_127 : decode cX1_pay 127 = .ok (.iastore, 1) := dk_79 (dk_at dksX1_pay_5 9 rfl rfl)
theorem dX1_pay_128 : decode cX1_pay 128 = .ok (.iinc 5 1, 3) := dk_132 5 1 (dk_at dksX1_pay_5 10 rfl rfl)
theorem dX1_pay_131 : decode cX1_pay 131 = .ok (.goto (-58), 3) := dk_167 255 198 (dk_at dksX1_pay_5 13 rfl rfl)
theorem dX1_pay_134 : decode cX1_pay 134 = .ok (.aload_n 0, 1) := dk_42 (dk_at dksX1_pay_5 16 rfl rfl)
theorem dX1_pay_135 : decode cX1_pay 135 = .ok (.getfield 34, 3) := dk_180 0 34 (dk_at dksX1_pay_5 17 rfl rfl)
theorem dX1_pay_138 : decode cX1_pay 138 = .ok (.dup, 1) := dk_89 (dk_at dksX1_pay_5 20 rfl rfl)
theorem dX1_pay_139 : decode cX1_pay 139 = .ok (.getfield 185, 3) := dk_180 0 185 (dk_at dksX1_pay_5 21 rfl rfl)
theorem dX1_pay_142 : decode cX1_pay 142 = .ok (.iload_n 1, 1) := dk_27 (dk_at dksX1_pay_6 0 rfl rfl)
theorem dX1_pay_143 : decode cX1_pay 143 = .ok (.iload 4, 2) := dk_21 4 (dk_at dksX1_pay_6 1 rfl rfl)
theorem dX1_pay_145 : decode cX1_pay 145 = .ok (.isub, 1) := dk_100 (dk_at dksX1_pay_6 3 rfl rfl)
theorem dX1_pay_146 : decode cX1_pay 146 = .ok (.isub, 1) := dk_100 (dk_at dksX1_pay_6 4 rfl rfl)
theorem dX1_pay_147 : decode cX1_pay 147 = .ok (.putfield 185, 3) := dk_181 0 185 (dk_at dksX1_pay_6 5 rfl rfl)
theorem dX1_pay_150 : decode cX1_pay 150 = .ok (.iload 4, 2) := dk_21 4 (dk_at dksX1_pay_6 8 rfl rfl)
theorem dX1_pay_152 : decode cX1_pay 152 = .ok (.ireturn, 1) := dk_172 (dk_at dksX1_pay_6 10 rfl rfl)
abbrev cX1_pass : ByteArray := prog_1_method_23_code
def yX1_pass : MethodName := ⟨RX1, "pass", "(III)I"⟩
def dkwX1_pass_2 : List UInt8 := [182, 0, 195, 96, 54, 4, 132, 5, 1, 167, 255, 233, 21, 4, 172]
abbrev dktX1_pass_2 : List UInt8 := dkwX1_pass_2 ++ []
def dkwX1_pass_1 : List UInt8 := [184, 0, 46, 3, 54, 4, 3, 54, 5, 21, 5, 27, 162, 0, 23, 21, 4, 42, 180, 0, 34, 28, 29]
abbrev dktX1_pass_1 : List UInt8 := dkwX1_pass_1 ++ dktX1_pass_2
def dkwX1_pass_0 : List UInt8 := [4, 16, 72, 27, 184, 0, 22, 153, 0, 15, 28, 29, 184, 0, 191, 153, 0, 7, 4, 167, 0, 4, 3]
abbrev dktX1_pass_0 : List UInt8 := dkwX1_pass_0 ++ dktX1_pass_1
theorem dksX1_pass_0 : cX1_pass.data.toList.drop 0 = dktX1_pass_0 := by decide +kernel
theorem dksX1_pass_1 : cX1_pass.data.toList.drop 23 = dktX1_pass_1 := dk_seg dksX1_pass_0 23 rfl rfl
theorem dksX1_pass_2 : cX1_pass.data.toList.drop 46 = dktX1_pass_2 := dk_seg dksX1_pass_1 23 rfl rfl
theorem dX1_pass_0 : decode cX1_pass 0 = .ok (.iconst 1, 1) := dk_4 (dk_at dksX1_pass_0 0 rfl rfl)
theorem dX1_pass_1 : decode cX1_pass 1 = .ok (.bipush 72, 2) := dk_16 72 (dk_at dksX1_pass_0 1 rfl rfl)
theorem dX1_pass_3 : decode cX1_pass 3 = .ok (.iload_n 1, 1) := dk_27 (dk_at dksX1_pass_0 3 rfl rfl)
theorem dX1_pass_4 : decode cX1_pass 4 = .ok (.invokestatic 22, 3) := dk_184 0 22 (dk_at dksX1_pass_0 4 rfl rfl)
theorem dX1_pass_7 : decode cX1_pass 7 = .ok (.ifCond .eq 15, 3) := dk_153 0 15 (dk_at dksX1_pass_0 7 rfl rfl)
theorem dX1_pass_10 : decode cX1_pass 10 = .ok (.iload_n 2, 1) := dk_28 (dk_at dksX1_pass_0 10 rfl rfl)
theorem dX1_pass_11 : decode cX1_pass 11 = .ok (.iload_n 3, 1) := dk_29 (dk_at dksX1_pass_0 11 rfl rfl)
theorem dX1_pass_12 : decode cX1_pass 12 = .ok (.invokestatic 191, 3) := dk_184 0 191 (dk_at dksX1_pass_0 12 rfl rfl)
theorem dX1_pass_15 : decode cX1_pass 15 = .ok (.ifCond .eq 7, 3) := dk_153 0 7 (dk_at dksX1_pass_0 15 rfl rfl)
theorem dX1_pass_18 : decode cX1_pass 18 = .ok (.iconst 1, 1) := dk_4 (dk_at dksX1_pass_0 18 rfl rfl)
theorem dX1_pass_19 : decode cX1_pass 19 = .ok (.goto 4, 3) := dk_167 0 4 (dk_at dksX1_pass_0 19 rfl rfl)
theorem dX1_pass_22 : decode cX1_pass 22 = .ok (.iconst 0, 1) := dk_3 (dk_at dksX1_pass_0 22 rfl rfl)
theorem dX1_pass_23 : decode cX1_pass 23 = .ok (.invokestatic 46, 3) := dk_184 0 46 (dk_at dksX1_pass_1 0 rfl rfl)
theorem dX1_pass_26 : decode cX1_pass 26 = .ok (.iconst 0, 1) := dk_3 (dk_at dksX1_pass_1 3 rfl rfl)
theorem dX1_pass_27 : decode cX1_pass 27 = .ok (.istore 4, 2) := dk_54 4 (dk_at dksX1_pass_1 4 rfl rfl)
theorem dX1_pass_29 : decode cX1_pass 29 = .ok (.iconst 0, 1) := dk_3 (dk_at dksX1_pass_1 6 rfl rfl)
theorem dX1_pass_30 : decode cX1_pass 30 = .ok (.istore 5, 2) := dk_54 5 (dk_at dksX1_pass_1 7 rfl rfl)
theorem dX1_pass_32 : decode cX1_pass 32 = .ok (.iload 5, 2) := dk_21 5 (dk_at dksX1_pass_1 9 rfl rfl)
theorem dX1_pass_34 : decode cX1_pass 34 = .ok (.iload_n 1, 1) := dk_27 (dk_at dksX1_pass_1 11 rfl rfl)
theorem dX1_pass_35 : decode cX1_pass 35 = .ok (.if_icmp .ge 23, 3) := dk_162 0 23 (dk_at dksX1_pass_1 12 rfl rfl)
theorem dX1_pass_38 : decode cX1_pass 38 = .ok (.iload 4, 2) := dk_21 4 (dk_at dksX1_pass_1 15 rfl rfl)
theorem dX1_pass_40 : decode cX1_pass 40 = .ok (.aload_n 0, 1) := dk_42 (dk_at dksX1_pass_1 17 rfl rfl)
theorem dX1_pass_41 : decode cX1_pass 41 = .ok (.getfield 34, 3) := dk_180 0 34 (dk_at dksX1_pass_1 18 rfl rfl)
theorem dX1_pass_44 : decode cX1_pass 44 = .ok (.iload_n 2, 1) := dk_28 (dk_at dksX1_pass_1 21 rfl rfl)
theorem dX1_pass_45 : decode cX1_pass 45 = .ok (.iload_n 3, 1) := dk_29 (dk_at dksX1_pass_1 22 rfl rfl)
theorem dX1_pass_46 : decode cX1_pass 46 = .ok (.invokevirtual 195, 3) := dk_182 0 195 (dk_at dksX1_pass_2 0 rfl rfl)
theorem dX1_pass_49 : decode cX1_pass 49 = .ok (.iadd, 1) := dk_96 (dk_at dksX1_pass_2 3 rfl rfl)
theorem dX1_pass_50 : decode cX1_pass 50 = .ok (.istore 4, 2) := dk_54 4 (dk_at dksX1_pass_2 4 rfl rfl)
theorem dX1_pass_52 : decode cX1_pass 52 = .ok (.iinc 5 1, 3) := dk_132 5 1 (dk_at dksX1_pass_2 6 rfl rfl)
theorem dX1_pass_55 : decode cX1_pass 55 = .ok (.goto (-23), 3) := dk_167 255 233 (dk_at dksX1_pass_2 9 rfl rfl)
theorem dX1_pass_58 : decode cX1_pass 58 = .ok (.iload 4, 2) := dk_21 4 (dk_at dksX1_pass_2 12 rfl rfl)
theorem dX1_pass_60 : decode cX1_pass 60 = .ok (.ireturn, 1) := dk_172 (dk_at dksX1_pass_2 14 rfl rfl)
abbrev cX1_isWeather : ByteArray := prog_1_method_6_code
def yX1_isWeather : MethodName := ⟨RX1, "isWeather", "(II)Z"⟩
def dkwX1_isWeather_1 : List UInt8 := [167, 0, 4, 3, 172]
abbrev dktX1_isWeather_1 : List UInt8 := dkwX1_isWeather_1 ++ []
def dkwX1_isWeather_0 : List UInt8 := [16, 251, 16, 45, 26, 184, 0, 22, 153, 0, 17, 3, 16, 9, 27, 184, 0, 22, 153, 0, 7, 4]
abbrev dktX1_isWeather_0 : List UInt8 := dkwX1_isWeather_0 ++ dktX1_isWeather_1
theorem dksX1_isWeather_0 : cX1_isWeather.data.toList.drop 0 = dktX1_isWeather_0 := by decide +kernel
theorem dksX1_isWeather_1 : cX1_isWeather.data.toList.drop 22 = dktX1_isWeather_1 := dk_seg dksX1_isWeather_0 22 rfl rfl
theorem dX1_isWeather_0 : decode cX1_isWeather 0 = .ok (.bipush (-5), 2) := dk_16 251 (dk_at dksX1_isWeather_0 0 rfl rfl)
theorem dX1_isWeather_2 : decode cX1_isWeather 2 = .ok (.bipush 45, 2) := dk_16 45 (dk_at dksX1_isWeather_0 2 rfl rfl)
theorem dX1_isWeather_4 : decode cX1_isWeather 4 = .ok (.iload_n 0, 1) := dk_26 (dk_at dksX1_isWeather_0 4 rfl rfl)
theorem dX1_isWeather_5 : decode cX1_isWeather 5 = .ok (.invokestatic 22, 3) := dk_184 0 22 (dk_at dksX1_isWeather_0 5 rfl rfl)
theorem dX1_isWeather_8 : decode cX1_isWeather 8 = .ok (.ifCond .eq 17, 3) := dk_153 0 17 (dk_at dksX1_isWeather_0 8 rfl rfl)
theorem dX1_isWeather_11 : decode cX1_isWeather 11 = .ok (.iconst 0, 1) := dk_3 (dk_at dksX1_isWeather_0 11 rfl rfl)
theorem dX1_isWeather_12 : decode cX1_isWeather 12 = .ok (.bipush 9, 2) := dk_16 9 (dk_at dksX1_isWeather_0 12 rfl rfl)
theorem dX1_isWeather_14 : decode cX1_isWeather 14 = .ok (.iload_n 1, 1) := dk_27 (dk_at dksX1_isWeather_0 14 rfl rfl)
theorem dX1_isWeather_15 : decode cX1_isWeather 15 = .ok (.invokestatic 22, 3) := dk_184 0 22 (dk_at dksX1_isWeather_0 15 rfl rfl)
theorem dX1_isWeather_18 : decode cX1_isWeather 18 = .ok (.ifCond .eq 7, 3) := dk_153 0 7 (dk_at dksX1_isWeather_0 18 rfl rfl)
theorem dX1_isWeather_21 : decode cX1_isWeather 21 = .ok (.iconst 1, 1) := dk_4 (dk_at dksX1_isWeather_0 21 rfl rfl)
theorem dX1_isWeather_22 : decode cX1_isWeather 22 = .ok (.goto 4, 3) := dk_167 0 4 (dk_at dksX1_isWeather_1 0 rfl rfl)
theorem dX1_isWeather_25 : decode cX1_isWeather 25 = .ok (.iconst 0, 1) := dk_3 (dk_at dksX1_isWeather_1 3 rfl rfl)
theorem dX1_isWeather_26 : decode cX1_isWeather 26 = .ok (.ireturn, 1) := dk_172 (dk_at dksX1_isWeather_1 4 rfl rfl)
abbrev cX1_ofField : ByteArray := prog_1_method_26_code
def yX1_ofField : MethodName := ⟨RX1, "ofField", "(II)I"⟩
def dkwX1_ofField_0 : List UInt8 := [42, 27, 182, 0, 82, 87, 3, 16, 11, 28, 184, 0, 22, 184, 0, 46, 42, 27, 28, 182, 0, 218, 172]
abbrev dktX1_ofField_0 : List UInt8 := dkwX1_ofField_0 ++ []
theorem dksX1_ofField_0 : cX1_ofField.data.toList.drop 0 = dktX1_ofField_0 := by decide +kernel
theorem dX1_ofField_0 : decode cX1_ofField 0 = .ok (.aload_n 0, 1) := dk_42 (dk_at dksX1_ofField_0 0 rfl rfl)
theorem dX1_ofField_1 : decode cX1_ofField 1 = .ok (.iload_n 1, 1) := dk_27 (dk_at dksX1_ofField_0 1 rfl rfl)
theorem dX1_ofField_2 : decode cX1_ofField 2 = .ok (.invokevirtual 82, 3) := dk_182 0 82 (dk_at dksX1_ofField_0 2 rfl rfl)
theorem dX1_ofField_5 : decode cX1_ofField 5 = .ok (.pop, 1) := dk_87 (dk_at dksX1_ofField_0 5 rfl rfl)
theorem dX1_ofField_6 : decode cX1_ofField 6 = .ok (.iconst 0, 1) := dk_3 (dk_at dksX1_ofField_0 6 rfl rfl)
theorem dX1_ofField_7 : decode cX1_ofField 7 = .ok (.bipush 11, 2) := dk_16 11 (dk_at dksX1_ofField_0 7 rfl rfl)
theorem dX1_ofField_9 : decode cX1_ofField 9 = .ok (.iload_n 2, 1) := dk_28 (dk_at dksX1_ofField_0 9 rfl rfl)
theorem dX1_ofField_10 : decode cX1_ofField 10 = .ok (.invokestatic 22, 3) := dk_184 0 22 (dk_at dksX1_ofField_0 10 rfl rfl)
theorem dX1_ofField_13 : decode cX1_ofField 13 = .ok (.invokestatic 46, 3) := dk_184 0 46 (dk_at dksX1_ofField_0 13 rfl rfl)
theorem dX1_ofField_16 : decode cX1_ofField 16 = .ok (.aload_n 0, 1) := dk_42 (dk_at dksX1_ofField_0 16 rfl rfl)
theorem dX1_ofField_17 : decode cX1_ofField 17 = .ok (.iload_n 1, 1) := dk_27 (dk_at dksX1_ofField_0 17 rfl rfl)
theorem dX1_ofField_18 : decode cX1_ofField 18 = .ok (.iload_n 2, 1) := dk_28 (dk_at dksX1_ofField_0 18 rfl rfl)
theorem dX1_ofField_19 : decode cX1_ofField 19 = .ok (.invokevirtual 218, 3) := dk_182 0 218 (dk_at dksX1_ofField_0 19 rfl rfl)
theorem dX1_ofField_22 : decode cX1_ofField 22 = .ok (.ireturn, 1) := dk_172 (dk_at dksX1_ofField_0 22 rfl rfl)
abbrev cX1_ofLoad : ByteArray := prog_1_method_29_code
def yX1_ofLoad : MethodName := ⟨RX1, "ofLoad", "(II)I"⟩
def dkwX1_ofLoad_0 : List UInt8 := [42, 27, 182, 0, 234, 3, 16, 6, 28, 184, 0, 22, 184, 0, 46, 42, 27, 28, 182, 0, 238, 172]
abbrev dktX1_ofLoad_0 : List UInt8 := dkwX1_ofLoad_0 ++ []
theorem dksX1_ofLoad_0 : cX1_ofLoad.data.toList.drop 0 = dktX1_ofLoad_0 := by decide +kernel
theorem dX1_ofLoad_0 : decode cX1_ofLoad 0 = .ok (.aload_n 0, 1) := dk_42 (dk_at dksX1_ofLoad_0 0 rfl rfl)
theorem dX1_ofLoad_1 : decode cX1_ofLoad 1 = .ok (.iload_n 1, 1) := dk_27 (dk_at dksX1_ofLoad_0 1 rfl rfl)
theorem dX1_ofLoad_2 : decode cX1_ofLoad 2 = .ok (.invokevirtual 234, 3) := dk_182 0 234 (dk_at dksX1_ofLoad_0 2 rfl rfl)
theorem dX1_ofLoad_5 : decode cX1_ofLoad 5 = .ok (.iconst 0, 1) := dk_3 (dk_at dksX1_ofLoad_0 5 rfl rfl)
theorem dX1_ofLoad_6 : decode cX1_ofLoad 6 = .ok (.bipush 6, 2) := dk_16 6 (dk_at dksX1_ofLoad_0 6 rfl rfl)
theorem dX1_ofLoad_8 : decode cX1_ofLoad 8 = .ok (.iload_n 2, 1) := dk_28 (dk_at dksX1_ofLoad_0 8 rfl rfl)
theorem dX1_ofLoad_9 : decode cX1_ofLoad 9 = .ok (.invokestatic 22, 3) := dk_184 0 22 (dk_at dksX1_ofLoad_0 9 rfl rfl)
theorem dX1_ofLoad_12 : decode cX1_ofLoad 12 = .ok (.invokestatic 46, 3) := dk_184 0 46 (dk_at dksX1_ofLoad_0 12 rfl rfl)
theorem dX1_ofLoad_15 : decode cX1_ofLoad 15 = .ok (.aload_n 0, 1) := dk_42 (dk_at dksX1_ofLoad_0 15 rfl rfl)
theorem dX1_ofLoad_16 : decode cX1_ofLoad 16 = .ok (.iload_n 1, 1) := dk_27 (dk_at dksX1_ofLoad_0 16 rfl rfl)
theorem dX1_ofLoad_17 : decode cX1_ofLoad 17 = .ok (.iload_n 2, 1) := dk_28 (dk_at dksX1_ofLoad_0 17 rfl rfl)
theorem dX1_ofLoad_18 : decode cX1_ofLoad 18 = .ok (.invokevirtual 238, 3) := dk_182 0 238 (dk_at dksX1_ofLoad_0 18 rfl rfl)
theorem dX1_ofLoad_21 : decode cX1_ofLoad 21 = .ok (.ireturn, 1) := dk_172 (dk_at dksX1_ofLoad_0 21 rfl rfl)
abbrev cX1_requireLoad : ByteArray := prog_1_method_28_code
def yX1_requireLoad : MethodName := ⟨RX1, "requireLoad", "(I)V"⟩
def dkwX1_requireLoad_0 : List UInt8 := [27, 42, 180, 0, 34, 180, 0, 109, 182, 0, 54, 184, 0, 42, 177]
abbrev dktX1_requireLoad_0 : List UInt8 := dkwX1_requireLoad_0 ++ []
theorem dksX1_requireLoad_0 : cX1_requireLoad.data.toList.drop 0 = dktX1_requireLoad_0 := by decide +kernel
theorem dX1_requireLoad_0 : decode cX1_requireLoad 0 = .ok (.iload_n 1, 1) := dk_27 (dk_at dksX1_requireLoad_0 0 rfl rfl)
theorem dX1_requireLoad_1 : decode cX1_requireLoad 1 = .ok (.aload_n 0, 1) := dk_42 (dk_at dksX1_requireLoad_0 1 rfl rfl)
theorem dX1_requireLoad_2 : decode cX1_requireLoad 2 = .ok (.getfield 34, 3) := dk_180 0 34 (dk_at dksX1_requireLoad_0 2 rfl rfl)
theorem dX1_requireLoad_5 : decode cX1_requireLoad 5 = .ok (.getfield 109, 3) := dk_180 0 109 (dk_at dksX1_requireLoad_0 5 rfl rfl)
theorem dX1_requireLoad_8 : decode cX1_requireLoad 8 = .ok (.invokevirtual 54, 3) := dk_182 0 54 (dk_at dksX1_requireLoad_0 8 rfl rfl)
theorem dX1_requireLoad_11 : decode cX1_requireLoad 11 = .ok (.invokestatic 42, 3) := dk_184 0 42 (dk_at dksX1_requireLoad_0 11 rfl rfl)
theorem dX1_requireLoad_14 : decode cX1_requireLoad 14 = .ok (.return_, 1) := dk_177 (dk_at dksX1_requireLoad_0 14 rfl rfl)
abbrev cX1_ofTruck : ByteArray := prog_1_method_31_code
def yX1_ofTruck : MethodName := ⟨RX1, "ofTruck", "(II)I"⟩
def dkwX1_ofTruck_0 : List UInt8 := [42, 27, 182, 0, 129, 87, 3, 6, 28, 184, 0, 22, 184, 0, 46, 42, 27, 28, 182, 0, 244, 172]
abbrev dktX1_ofTruck_0 : List UInt8 := dkwX1_ofTruck_0 ++ []
theorem dksX1_ofTruck_0 : cX1_ofTruck.data.toList.drop 0 = dktX1_ofTruck_0 := by decide +kernel
theorem dX1_ofTruck_0 : decode cX1_ofTruck 0 = .ok (.aload_n 0, 1) := dk_42 (dk_at dksX1_ofTruck_0 0 rfl rfl)
theorem dX1_ofTruck_1 : decode cX1_ofTruck 1 = .ok (.iload_n 1, 1) := dk_27 (dk_at dksX1_ofTruck_0 1 rfl rfl)
theorem dX1_ofTruck_2 : decode cX1_ofTruck 2 = .ok (.invokevirtual 129, 3) := dk_182 0 129 (dk_at dksX1_ofTruck_0 2 rfl rfl)
theorem dX1_ofTruck_5 : decode cX1_ofTruck 5 = .ok (.pop, 1) := dk_87 (dk_at dksX1_ofTruck_0 5 rfl rfl)
theorem dX1_ofTruck_6 : decode cX1_ofTruck 6 = .ok (.iconst 0, 1) := dk_3 (dk_at dksX1_ofTruck_0 6 rfl rfl)
theorem dX1_ofTruck_7 : decode cX1_ofTruck 7 = .ok (.iconst 3, 1) := dk_6 (dk_at dksX1_ofTruck_0 7 rfl rfl)
theorem dX1_ofTruck_8 : decode cX1_ofTruck 8 = .ok (.iload_n 2, 1) := dk_28 (dk_at dksX1_ofTruck_0 8 rfl rfl)
theorem dX1_ofTruck_9 : decode cX1_ofTruck 9 = .ok (.invokestatic 22, 3) := dk_184 0 22 (dk_at dksX1_ofTruck_0 9 rfl rfl)
theorem dX1_ofTruck_12 : decode cX1_ofTruck 12 = .ok (.invokestatic 46, 3) := dk_184 0 46 (dk_at dksX1_ofTruck_0 12 rfl rfl)
theorem dX1_ofTruck_15 : decode cX1_ofTruck 15 = .ok (.aload_n 0, 1) := dk_42 (dk_at dksX1_ofTruck_0 15 rfl rfl)
theorem dX1_ofTruck_16 : decode cX1_ofTruck 16 = .ok (.iload_n 1, 1) := dk_27 (dk_at dksX1_ofTruck_0 16 rfl rfl)
theorem dX1_ofTruck_17 : decode cX1_ofTruck 17 = .ok (.iload_n 2, 1) := dk_28 (dk_at dksX1_ofTruck_0 17 rfl rfl)
theorem dX1_ofTruck_18 : decode cX1_ofTruck 18 = .ok (.invokevirtual 244, 3) := dk_182 0 244 (dk_at dksX1_ofTruck_0 18 rfl rfl)
theorem dX1_ofTruck_21 : decode cX1_ofTruck 21 = .ok (.ireturn, 1) := dk_172 (dk_at dksX1_ofTruck_0 21 rfl rfl)
abbrev cX1_ofGrower : ByteArray := prog_1_method_33_code
def yX1_ofGrower : MethodName := ⟨RX1, "ofGrower", "(II)I"⟩
def dkwX1_ofGrower_0 : List UInt8 := [27, 7, 184, 0, 42, 3, 6, 28, 184, 0, 22, 184, 0, 46, 42, 27, 28, 182, 0, 253, 172]
abbrev dktX1_ofGrower_0 : List UInt8 := dkwX1_ofGrower_0 ++ []
theorem dksX1_ofGrower_0 : cX1_ofGrower.data.toList.drop 0 = dktX1_ofGrower_0 := by decide +kernel
theorem dX1_ofGrower_0 : decode cX1_ofGrower 0 = .ok (.iload_n 1, 1) := dk_27 (dk_at dksX1_ofGrower_0 0 rfl rfl)
theorem dX1_ofGrower_1 : decode cX1_ofGrower 1 = .ok (.iconst 4, 1) := dk_7 (dk_at dksX1_ofGrower_0 1 rfl rfl)
theorem dX1_ofGrower_2 : decode cX1_ofGrower 2 = .ok (.invokestatic 42, 3) := dk_184 0 42 (dk_at dksX1_ofGrower_0 2 rfl rfl)
theorem dX1_ofGrower_5 : decode cX1_ofGrower 5 = .ok (.iconst 0, 1) := dk_3 (dk_at dksX1_ofGrower_0 5 rfl rfl)
theorem dX1_ofGrower_6 : decode cX1_ofGrower 6 = .ok (.iconst 3, 1) := dk_6 (dk_at dksX1_ofGrower_0 6 rfl rfl)
theorem dX1_ofGrower_7 : decode cX1_ofGrower 7 = .ok (.iload_n 2, 1) := dk_28 (dk_at dksX1_ofGrower_0 7 rfl rfl)
theorem dX1_ofGrower_8 : decode cX1_ofGrower 8 = .ok (.invokestatic 22, 3) := dk_184 0 22 (dk_at dksX1_ofGrower_0 8 rfl rfl)
theorem dX1_ofGrower_11 : decode cX1_ofGrower 11 = .ok (.invokestatic 46, 3) := dk_184 0 46 (dk_at dksX1_ofGrower_0 11 rfl rfl)
theorem dX1_ofGrower_14 : decode cX1_ofGrower 14 = .ok (.aload_n 0, 1) := dk_42 (dk_at dksX1_ofGrower_0 14 rfl rfl)
theorem dX1_ofGrower_15 : decode cX1_ofGrower 15 = .ok (.iload_n 1, 1) := dk_27 (dk_at dksX1_ofGrower_0 15 rfl rfl)
theorem dX1_ofGrower_16 : decode cX1_ofGrower 16 = .ok (.iload_n 2, 1) := dk_28 (dk_at dksX1_ofGrower_0 16 rfl rfl)
theorem dX1_ofGrower_17 : decode cX1_ofGrower 17 = .ok (.invokevirtual 253, 3) := dk_182 0 253 (dk_at dksX1_ofGrower_0 17 rfl rfl)
theorem dX1_ofGrower_20 : decode cX1_ofGrower 20 = .ok (.ireturn, 1) := dk_172 (dk_at dksX1_ofGrower_0 20 rfl rfl)
abbrev cX1_many : ByteArray := prog_1_method_35_code
def yX1_many : MethodName := ⟨RX1, "many", "(I)I"⟩
def dkwX1_many_0 : List UInt8 := [3, 16, 19, 27, 184, 0, 22, 184, 0, 46, 42, 27, 182, 1, 15, 172]
abbrev dktX1_many_0 : List UInt8 := dkwX1_many_0 ++ []
theorem dksX1_many_0 : cX1_many.data.toList.drop 0 = dktX1_many_0 := by decide +kernel
theorem dX1_many_0 : decode cX1_many 0 = .ok (.iconst 0, 1) := dk_3 (dk_at dksX1_many_0 0 rfl rfl)
theorem dX1_many_1 : decode cX1_many 1 = .ok (.bipush 19, 2) := dk_16 19 (dk_at dksX1_many_0 1 rfl rfl)
theorem dX1_many_3 : decode cX1_many 3 = .ok (.iload_n 1, 1) := dk_27 (dk_at dksX1_many_0 3 rfl rfl)
theorem dX1_many_4 : decode cX1_many 4 = .ok (.invokestatic 22, 3) := dk_184 0 22 (dk_at dksX1_many_0 4 rfl rfl)
theorem dX1_many_7 : decode cX1_many 7 = .ok (.invokestatic 46, 3) := dk_184 0 46 (dk_at dksX1_many_0 7 rfl rfl)
theorem dX1_many_10 : decode cX1_many 10 = .ok (.aload_n 0, 1) := dk_42 (dk_at dksX1_many_0 10 rfl rfl)
theorem dX1_many_11 : decode cX1_many 11 = .ok (.iload_n 1, 1) := dk_27 (dk_at dksX1_many_0 11 rfl rfl)
theorem dX1_many_12 : decode cX1_many 12 = .ok (.invokevirtual 271, 3) := dk_182 1 15 (dk_at dksX1_many_0 12 rfl rfl)
theorem dX1_many_15 : decode cX1_many 15 = .ok (.ireturn, 1) := dk_172 (dk_at dksX1_many_0 15 rfl rfl)
abbrev cX1_crushedIn : ByteArray := prog_1_method_39_code
def yX1_crushedIn : MethodName := ⟨RX1, "crushedIn", "(II)I"⟩
def dkwX1_crushedIn_0 : List UInt8 := [42, 27, 182, 0, 234, 28, 184, 1, 26, 184, 0, 46, 42, 27, 28, 182, 1, 30, 172]
abbrev dktX1_crushedIn_0 : List UInt8 := dkwX1_crushedIn_0 ++ []
theorem dksX1_crushedIn_0 : cX1_crushedIn.data.toList.drop 0 = dktX1_crushedIn_0 := by decide +kernel
theorem dX1_crushedIn_0 : decode cX1_crushedIn 0 = .ok (.aload_n 0, 1) := dk_42 (dk_at dksX1_crushedIn_0 0 rfl rfl)
theorem dX1_crushedIn_1 : decode cX1_crushedIn 1 = .ok (.iload_n 1, 1) := dk_27 (dk_at dksX1_crushedIn_0 1 rfl rfl)
theorem dX1_crushedIn_2 : decode cX1_crushedIn 2 = .ok (.invokevirtual 234, 3) := dk_182 0 234 (dk_at dksX1_crushedIn_0 2 rfl rfl)
theorem dX1_crushedIn_5 : decode cX1_crushedIn 5 = .ok (.iload_n 2, 1) := dk_28 (dk_at dksX1_crushedIn_0 5 rfl rfl)
theorem dX1_crushedIn_6 : decode cX1_crushedIn 6 = .ok (.invokestatic 282, 3) := dk_184 1 26 (dk_at dksX1_crushedIn_0 6 rfl rfl)
theorem dX1_crushedIn_9 : decode cX1_crushedIn 9 = .ok (.invokestatic 46, 3) := dk_184 0 46 (dk_at dksX1_crushedIn_0 9 rfl rfl)
theorem dX1_crushedIn_12 : decode cX1_crushedIn 12 = .ok (.aload_n 0, 1) := dk_42 (dk_at dksX1_crushedIn_0 12 rfl rfl)
theorem dX1_crushedIn_13 : decode cX1_crushedIn 13 = .ok (.iload_n 1, 1) := dk_27 (dk_at dksX1_crushedIn_0 13 rfl rfl)
theorem dX1_crushedIn_14 : decode cX1_crushedIn 14 = .ok (.iload_n 2, 1) := dk_28 (dk_at dksX1_crushedIn_0 14 rfl rfl)
theorem dX1_crushedIn_15 : decode cX1_crushedIn 15 = .ok (.invokevirtual 286, 3) := dk_182 1 30 (dk_at dksX1_crushedIn_0 15 rfl rfl)
theorem dX1_crushedIn_18 : decode cX1_crushedIn 18 = .ok (.ireturn, 1) := dk_172 (dk_at dksX1_crushedIn_0 18 rfl rfl)
abbrev cX1_areHours : ByteArray := prog_1_method_37_code
def yX1_areHours : MethodName := ⟨RX1, "areHours", "(I)Z"⟩
def dkwX1_areHours_0 : List UInt8 := [4, 16, 120, 26, 184, 0, 22, 172]
abbrev dktX1_areHours_0 : List UInt8 := dkwX1_areHours_0 ++ []
theorem dksX1_areHours_0 : cX1_areHours.data.toList.drop 0 = dktX1_areHours_0 := by decide +kernel
theorem dX1_areHours_0 : decode cX1_areHours 0 = .ok (.iconst 1, 1) := dk_4 (dk_at dksX1_areHours_0 0 rfl rfl)
theorem dX1_areHours_1 : decode cX1_areHours 1 = .ok (.bipush 120, 2) := dk_16 120 (dk_at dksX1_areHours_0 1 rfl rfl)
theorem dX1_areHours_3 : decode cX1_areHours 3 = .ok (.iload_n 0, 1) := dk_26 (dk_at dksX1_areHours_0 3 rfl rfl)
theorem dX1_areHours_4 : decode cX1_areHours 4 = .ok (.invokestatic 22, 3) := dk_184 0 22 (dk_at dksX1_areHours_0 4 rfl rfl)
theorem dX1_areHours_7 : decode cX1_areHours 7 = .ok (.ireturn, 1) := dk_172 (dk_at dksX1_areHours_0 7 rfl rfl)
abbrev cX1_stopsIn : ByteArray := prog_1_method_41_code
def yX1_stopsIn : MethodName := ⟨RX1, "stopsIn", "(I)I"⟩
def dkwX1_stopsIn_0 : List UInt8 := [27, 184, 1, 26, 184, 0, 46, 42, 27, 182, 1, 33, 172]
abbrev dktX1_stopsIn_0 : List UInt8 := dkwX1_stopsIn_0 ++ []
theorem dksX1_stopsIn_0 : cX1_stopsIn.data.toList.drop 0 = dktX1_stopsIn_0 := by decide +kernel
theorem dX1_stopsIn_0 : decode cX1_stopsIn 0 = .ok (.iload_n 1, 1) := dk_27 (dk_at dksX1_stopsIn_0 0 rfl rfl)
theorem dX1_stopsIn_1 : decode cX1_stopsIn 1 = .ok (.invokestatic 282, 3) := dk_184 1 26 (dk_at dksX1_stopsIn_0 1 rfl rfl)
theorem dX1_stopsIn_4 : decode cX1_stopsIn 4 = .ok (.invokestatic 46, 3) := dk_184 0 46 (dk_at dksX1_stopsIn_0 4 rfl rfl)
theorem dX1_stopsIn_7 : decode cX1_stopsIn 7 = .ok (.aload_n 0, 1) := dk_42 (dk_at dksX1_stopsIn_0 7 rfl rfl)
theorem dX1_stopsIn_8 : decode cX1_stopsIn 8 = .ok (.iload_n 1, 1) := dk_27 (dk_at dksX1_stopsIn_0 8 rfl rfl)
theorem dX1_stopsIn_9 : decode cX1_stopsIn 9 = .ok (.invokevirtual 289, 3) := dk_182 1 33 (dk_at dksX1_stopsIn_0 9 rfl rfl)
theorem dX1_stopsIn_12 : decode cX1_stopsIn 12 = .ok (.ireturn, 1) := dk_172 (dk_at dksX1_stopsIn_0 12 rfl rfl)
abbrev cX1_bestOrder : ByteArray := prog_1_method_43_code
def yX1_bestOrder : MethodName := ⟨RX1, "bestOrder", "(I)I"⟩
def dkwX1_bestOrder_0 : List UInt8 := [27, 184, 1, 26, 184, 0, 46, 42, 27, 182, 1, 36, 172]
abbrev dktX1_bestOrder_0 : List UInt8 := dkwX1_bestOrder_0 ++ []
theorem dksX1_bestOrder_0 : cX1_bestOrder.data.toList.drop 0 = dktX1_bestOrder_0 := by decide +kernel
theorem dX1_bestOrder_0 : decode cX1_bestOrder 0 = .ok (.iload_n 1, 1) := dk_27 (dk_at dksX1_bestOrder_0 0 rfl rfl)
theorem dX1_bestOrder_1 : decode cX1_bestOrder 1 = .ok (.invokestatic 282, 3) := dk_184 1 26 (dk_at dksX1_bestOrder_0 1 rfl rfl)
theorem dX1_bestOrder_4 : decode cX1_bestOrder 4 = .ok (.invokestatic 46, 3) := dk_184 0 46 (dk_at dksX1_bestOrder_0 4 rfl rfl)
theorem dX1_bestOrder_7 : decode cX1_bestOrder 7 = .ok (.aload_n 0, 1) := dk_42 (dk_at dksX1_bestOrder_0 7 rfl rfl)
theorem dX1_bestOrder_8 : decode cX1_bestOrder 8 = .ok (.iload_n 1, 1) := dk_27 (dk_at dksX1_bestOrder_0 8 rfl rfl)
theorem dX1_bestOrder_9 : decode cX1_bestOrder 9 = .ok (.invokevirtual 292, 3) := dk_182 1 36 (dk_at dksX1_bestOrder_0 9 rfl rfl)
theorem dX1_bestOrder_12 : decode cX1_bestOrder 12 = .ok (.ireturn, 1) := dk_172 (dk_at dksX1_bestOrder_0 12 rfl rfl)
abbrev cX1_bestDay : ByteArray := prog_1_method_45_code
def yX1_bestDay : MethodName := ⟨RX1, "bestDay", "(IIII)I"⟩
def dkwX1_bestDay_1 : List UInt8 := [153, 0, 7, 4, 167, 0, 4, 3, 184, 0, 46, 42, 27, 28, 29, 21, 4, 182, 1, 45, 172]
abbrev dktX1_bestDay_1 : List UInt8 := dkwX1_bestDay_1 ++ []
def dkwX1_bestDay_0 : List UInt8 := [42, 27, 182, 0, 82, 87, 4, 16, 60, 28, 184, 0, 22, 153, 0, 16, 29, 21, 4, 184, 0, 191]
abbrev dktX1_bestDay_0 : List UInt8 := dkwX1_bestDay_0 ++ dktX1_bestDay_1
theorem dksX1_bestDay_0 : cX1_bestDay.data.toList.drop 0 = dktX1_bestDay_0 := by decide +kernel
theorem dksX1_bestDay_1 : cX1_bestDay.data.toList.drop 22 = dktX1_bestDay_1 := dk_seg dksX1_bestDay_0 22 rfl rfl
theorem dX1_bestDay_0 : decode cX1_bestDay 0 = .ok (.aload_n 0, 1) := dk_42 (dk_at dksX1_bestDay_0 0 rfl rfl)
theorem dX1_bestDay_1 : decode cX1_bestDay 1 = .ok (.iload_n 1, 1) := dk_27 (dk_at dksX1_bestDay_0 1 rfl rfl)
theorem dX1_bestDay_2 : decode cX1_bestDay 2 = .ok (.invokevirtual 82, 3) := dk_182 0 82 (dk_at dksX1_bestDay_0 2 rfl rfl)
theorem dX1_bestDay_5 : decode cX1_bestDay 5 = .ok (.pop, 1) := dk_87 (dk_at dksX1_bestDay_0 5 rfl rfl)
theorem dX1_bestDay_6 : decode cX1_bestDay 6 = .ok (.iconst 1, 1) := dk_4 (dk_at dksX1_bestDay_0 6 rfl rfl)
theorem dX1_bestDay_7 : decode cX1_bestDay 7 = .ok (.bipush 60, 2) := dk_16 60 (dk_at dksX1_bestDay_0 7 rfl rfl)
theorem dX1_bestDay_9 : decode cX1_bestDay 9 = .ok (.iload_n 2, 1) := dk_28 (dk_at dksX1_bestDay_0 9 rfl rfl)
theorem dX1_bestDay_10 : decode cX1_bestDay 10 = .ok (.invokestatic 22, 3) := dk_184 0 22 (dk_at dksX1_bestDay_0 10 rfl rfl)
theorem dX1_bestDay_13 : decode cX1_bestDay 13 = .ok (.ifCond .eq 16, 3) := dk_153 0 16 (dk_at dksX1_bestDay_0 13 rfl rfl)
theorem dX1_bestDay_16 : decode cX1_bestDay 16 = .ok (.iload_n 3, 1) := dk_29 (dk_at dksX1_bestDay_0 16 rfl rfl)
theorem dX1_bestDay_17 : decode cX1_bestDay 17 = .ok (.iload 4, 2) := dk_21 4 (dk_at dksX1_bestDay_0 17 rfl rfl)
theorem dX1_bestDay_19 : decode cX1_bestDay 19 = .ok (.invokestatic 191, 3) := dk_184 0 191 (dk_at dksX1_bestDay_0 19 rfl rfl)
theorem dX1_bestDay_22 : decode cX1_bestDay 22 = .ok (.ifCond .eq 7, 3) := dk_153 0 7 (dk_at dksX1_bestDay_1 0 rfl rfl)
theorem dX1_bestDay_25 : decode cX1_bestDay 25 = .ok (.iconst 1, 1) := dk_4 (dk_at dksX1_bestDay_1 3 rfl rfl)
theorem dX1_bestDay_26 : decode cX1_bestDay 26 = .ok (.goto 4, 3) := dk_167 0 4 (dk_at dksX1_bestDay_1 4 rfl rfl)
theorem dX1_bestDay_29 : decode cX1_bestDay 29 = .ok (.iconst 0, 1) := dk_3 (dk_at dksX1_bestDay_1 7 rfl rfl)
theorem dX1_bestDay_30 : decode cX1_bestDay 30 = .ok (.invokestatic 46, 3) := dk_184 0 46 (dk_at dksX1_bestDay_1 8 rfl rfl)
theorem dX1_bestDay_33 : decode cX1_bestDay 33 = .ok (.aload_n 0, 1) := dk_42 (dk_at dksX1_bestDay_1 11 rfl rfl)
theorem dX1_bestDay_34 : decode cX1_bestDay 34 = .ok (.iload_n 1, 1) := dk_27 (dk_at dksX1_bestDay_1 12 rfl rfl)
theorem dX1_bestDay_35 : decode cX1_bestDay 35 = .ok (.iload_n 2, 1) := dk_28 (dk_at dksX1_bestDay_1 13 rfl rfl)
theorem dX1_bestDay_36 : decode cX1_bestDay 36 = .ok (.iload_n 3, 1) := dk_29 (dk_at dksX1_bestDay_1 14 rfl rfl)
theorem dX1_bestDay_37 : decode cX1_bestDay 37 = .ok (.iload 4, 2) := dk_21 4 (dk_at dksX1_bestDay_1 15 rfl rfl)
theorem dX1_bestDay_39 : decode cX1_bestDay 39 = .ok (.invokevirtual 301, 3) := dk_182 1 45 (dk_at dksX1_bestDay_1 17 rfl rfl)
theorem dX1_bestDay_42 : decode cX1_bestDay 42 = .ok (.ireturn, 1) := dk_172 (dk_at dksX1_bestDay_1 20 rfl rfl)
theorem q50 : (Jvm.Cond.initialized "Canecrush") ∈ lw_all := lw_g (lw_at lw_m1 1 rfl) rfl
theorem q81 : (Jvm.Cond.instantiable "Canecrush" (10 : Nat)) ∈ lw_all := lw_g (lw_at lw_m1 32 rfl) rfl
theorem q83 : (Jvm.Cond.instanceMethod ({ cls := "Canecrush", name := "<init>", desc := "()V" } : Jvm.MethodName)) ∈ lw_all := lw_g (lw_at lw_m1 34 rfl) rfl
theorem q84 : (Jvm.Cond.code ({ cls := "Canecrush", name := "<init>", desc := "()V" } : Jvm.MethodName) prog_1_method_7_code (1 : Nat) (Option.none : Option Jvm.ClassFile.FieldType)) ∈ lw_all := lw_g (lw_at lw_m1 35 rfl) rfl
theorem q85 : (Jvm.Cond.methodLink "Canecrush" (28 : Nat) ({ cls := "java/lang/Object", name := "<init>", desc := "()V" } : Jvm.MethodName)) ∈ lw_all := lw_g (lw_at lw_m1 36 rfl) rfl
theorem q88 : (Jvm.Cond.classLink "Canecrush" (31 : Nat) "Canecrush$Works") ∈ lw_all := lw_g (lw_at lw_m1 39 rfl) rfl
theorem q90 : (Jvm.Cond.methodLinkNest "Canecrush" (33 : Nat) ({ cls := "Canecrush$Works", name := "<init>", desc := "()V" } : Jvm.MethodName) "Canecrush") ∈ lw_tbl := lw_at lw_m1 41 rfl
theorem q121 : (Jvm.Cond.fieldLinkNest "Canecrush" (50 : Nat) "Canecrush$Works" "fields" "Ljava/util/ArrayList;" "Canecrush") ∈ lw_tbl := lw_at lw_m1 72 rfl
theorem q123 : (Jvm.Cond.fieldLinkNest "Canecrush" (72 : Nat) "Canecrush$Works" "trucks" "Ljava/util/ArrayList;" "Canecrush") ∈ lw_tbl := lw_at lw_m1 74 rfl
theorem q125 : (Jvm.Cond.fieldLinkNest "Canecrush" (109 : Nat) "Canecrush$Works" "loads" "Ljava/util/ArrayList;" "Canecrush") ∈ lw_tbl := lw_at lw_m1 76 rfl
theorem q127 : (Jvm.Cond.fieldLinkNest "Canecrush" (247 : Nat) "Canecrush$Works" "dayTons" "[I" "Canecrush") ∈ lw_tbl := lw_at lw_m1 78 rfl
theorem q129 : (Jvm.Cond.fieldLinkNest "Canecrush" (250 : Nat) "Canecrush$Works" "allTons" "[I" "Canecrush") ∈ lw_tbl := lw_at lw_m1 80 rfl
theorem q131 : (Jvm.Cond.fieldLinkNest "Canecrush" (188 : Nat) "Canecrush$Works" "points" "[I" "Canecrush") ∈ lw_tbl := lw_at lw_m1 82 rfl
theorem q133 : (Jvm.Cond.fieldLinkNest "Canecrush" (117 : Nat) "Canecrush$Works" "hour" "I" "Canecrush") ∈ lw_tbl := lw_at lw_m1 84 rfl
theorem q136 : (Jvm.Cond.fieldLinkNest "Canecrush" (148 : Nat) "Canecrush$Works" "mill" "I" "Canecrush") ∈ lw_tbl := lw_at lw_m1 87 rfl
theorem q138 : (Jvm.Cond.fieldLinkNest "Canecrush" (151 : Nat) "Canecrush$Works" "starting" "I" "Canecrush") ∈ lw_tbl := lw_at lw_m1 89 rfl
theorem q140 : (Jvm.Cond.fieldLinkNest "Canecrush" (154 : Nat) "Canecrush$Works" "idle" "I" "Canecrush") ∈ lw_tbl := lw_at lw_m1 91 rfl
theorem q142 : (Jvm.Cond.fieldLinkNest "Canecrush" (259 : Nat) "Canecrush$Works" "idled" "I" "Canecrush") ∈ lw_tbl := lw_at lw_m1 93 rfl
theorem q144 : (Jvm.Cond.fieldLinkNest "Canecrush" (262 : Nat) "Canecrush$Works" "stops" "I" "Canecrush") ∈ lw_tbl := lw_at lw_m1 95 rfl
theorem q146 : (Jvm.Cond.fieldLinkNest "Canecrush" (93 : Nat) "Canecrush$Works" "rate" "I" "Canecrush") ∈ lw_tbl := lw_at lw_m1 97 rfl
theorem q148 : (Jvm.Cond.fieldLinkNest "Canecrush" (96 : Nat) "Canecrush$Works" "water" "I" "Canecrush") ∈ lw_tbl := lw_at lw_m1 99 rfl
theorem q150 : (Jvm.Cond.fieldLinkNest "Canecrush" (90 : Nat) "Canecrush$Works" "order" "I" "Canecrush") ∈ lw_tbl := lw_at lw_m1 101 rfl
theorem q152 : (Jvm.Cond.fieldLinkNest "Canecrush" (161 : Nat) "Canecrush$Works" "syrup" "I" "Canecrush") ∈ lw_tbl := lw_at lw_m1 103 rfl
theorem q154 : (Jvm.Cond.fieldLinkNest "Canecrush" (268 : Nat) "Canecrush$Works" "lost" "I" "Canecrush") ∈ lw_tbl := lw_at lw_m1 105 rfl
theorem q156 : (Jvm.Cond.fieldLinkNest "Canecrush" (182 : Nat) "Canecrush$Works" "fibre" "I" "Canecrush") ∈ lw_tbl := lw_at lw_m1 107 rfl
theorem q158 : (Jvm.Cond.fieldLinkNest "Canecrush" (265 : Nat) "Canecrush$Works" "oil" "I" "Canecrush") ∈ lw_tbl := lw_at lw_m1 109 rfl
theorem q160 : (Jvm.Cond.fieldLinkNest "Canecrush" (185 : Nat) "Canecrush$Works" "money" "I" "Canecrush") ∈ lw_tbl := lw_at lw_m1 111 rfl
theorem q162 : (Jvm.Cond.fieldLinkNest "Canecrush" (274 : Nat) "Canecrush$Works" "sweetTons" "J" "Canecrush") ∈ lw_tbl := lw_at lw_m1 113 rfl
theorem q209 : (Jvm.Cond.fieldLink "Canecrush" (34 : Nat) "Canecrush" "works" "LCanecrush$Works;") ∈ lw_all := lw_g (lw_at lw_m1 160 rfl) rfl
theorem q210 : (Jvm.Cond.fieldLink "Canecrush" (38 : Nat) "Canecrush" "paid" "[I") ∈ lw_all := lw_g (lw_at lw_m1 161 rfl) rfl
theorem q211 : (Jvm.Cond.fieldLink "Canecrush" (164 : Nat) "Canecrush" "green" "I") ∈ lw_all := lw_g (lw_at lw_m1 162 rfl) rfl
theorem q212 : (Jvm.Cond.fieldLink "Canecrush" (167 : Nat) "Canecrush" "brown" "I") ∈ lw_all := lw_g (lw_at lw_m1 163 rfl) rfl
theorem q213 : (Jvm.Cond.fieldLink "Canecrush" (173 : Nat) "Canecrush" "molasses" "I") ∈ lw_all := lw_g (lw_at lw_m1 164 rfl) rfl
theorem q214 : (Jvm.Cond.fieldLink "Canecrush" (170 : Nat) "Canecrush" "crystal" "I") ∈ lw_all := lw_g (lw_at lw_m1 165 rfl) rfl
theorem q215 : (Jvm.Cond.fieldLink "Canecrush" (176 : Nat) "Canecrush" "spirit" "I") ∈ lw_all := lw_g (lw_at lw_m1 166 rfl) rfl
theorem q216 : (Jvm.Cond.fieldLink "Canecrush" (179 : Nat) "Canecrush" "slops" "I") ∈ lw_all := lw_g (lw_at lw_m1 167 rfl) rfl
theorem q217 : (Jvm.Cond.fieldLink "Canecrush" (123 : Nat) "Canecrush" "left" "I") ∈ lw_all := lw_g (lw_at lw_m1 168 rfl) rfl
theorem q218 : (Jvm.Cond.fieldLink "Canecrush" (305 : Nat) "Canecrush" "sum" "J") ∈ lw_all := lw_g (lw_at lw_m1 169 rfl) rfl
theorem q219 : (Jvm.Cond.laysFinal "Canecrush" "Canecrush" "works" "LCanecrush$Works;") ∈ lw_all := lw_g (lw_at lw_m1 170 rfl) rfl
theorem q220 : (Jvm.Cond.soleField "Canecrush" "works") ∈ lw_all := lw_g (lw_at lw_m1 171 rfl) rfl
theorem q221 : (Jvm.Cond.laysFinal "Canecrush" "Canecrush" "paid" "[I") ∈ lw_all := lw_g (lw_at lw_m1 172 rfl) rfl
theorem q222 : (Jvm.Cond.soleField "Canecrush" "paid") ∈ lw_all := lw_g (lw_at lw_m1 173 rfl) rfl
theorem q223 : (Jvm.Cond.lays "Canecrush" "Canecrush" "green" "I") ∈ lw_all := lw_g (lw_at lw_m1 174 rfl) rfl
theorem q224 : (Jvm.Cond.soleField "Canecrush" "green") ∈ lw_all := lw_g (lw_at lw_m1 175 rfl) rfl
theorem q225 : (Jvm.Cond.lays "Canecrush" "Canecrush" "brown" "I") ∈ lw_all := lw_g (lw_at lw_m1 176 rfl) rfl
theorem q226 : (Jvm.Cond.soleField "Canecrush" "brown") ∈ lw_all := lw_g (lw_at lw_m1 177 rfl) rfl
theorem q227 : (Jvm.Cond.lays "Canecrush" "Canecrush" "molasses" "I") ∈ lw_all := lw_g (lw_at lw_m1 178 rfl) rfl
theorem q228 : (Jvm.Cond.soleField "Canecrush" "molasses") ∈ lw_all := lw_g (lw_at lw_m1 179 rfl) rfl
theorem q229 : (Jvm.Cond.lays "Canecrush" "Canecrush" "crystal" "I") ∈ lw_all := lw_g (lw_at lw_m1 180 rfl) rfl
theorem q230 : (Jvm.Cond.soleField "Canecrush" "crystal") ∈ lw_all := lw_g (lw_at lw_m1 181 rfl) rfl
theorem q231 : (Jvm.Cond.lays "Canecrush" "Canecrush" "spirit" "I") ∈ lw_all := lw_g (lw_at lw_m1 182 rfl) rfl
theorem q232 : (Jvm.Cond.soleField "Canecrush" "spirit") ∈ lw_all := lw_g (lw_at lw_m1 183 rfl) rfl
theorem q233 : (Jvm.Cond.lays "Canecrush" "Canecrush" "slops" "I") ∈ lw_all := lw_g (lw_at lw_m1 184 rfl) rfl
theorem q234 : (Jvm.Cond.soleField "Canecrush" "slops") ∈ lw_all := lw_g (lw_at lw_m1 185 rfl) rfl
theorem q235 : (Jvm.Cond.lays "Canecrush" "Canecrush" "left" "I") ∈ lw_all := lw_g (lw_at lw_m1 186 rfl) rfl
theorem q236 : (Jvm.Cond.soleField "Canecrush" "left") ∈ lw_all := lw_g (lw_at lw_m1 187 rfl) rfl
theorem q237 : (Jvm.Cond.lays "Canecrush" "Canecrush" "sum" "J") ∈ lw_all := lw_g (lw_at lw_m1 188 rfl) rfl
theorem q238 : (Jvm.Cond.soleField "Canecrush" "sum") ∈ lw_all := lw_g (lw_at lw_m1 189 rfl) rfl
theorem q239 : (Jvm.Cond.superclass "Canecrush" "java/lang/Object") ∈ lw_all := lw_g (lw_at lw_m1 190 rfl) rfl
theorem q241 : (Jvm.Cond.instanceMethod ({ cls := "Canecrush", name := "meanSweet", desc := "()D" } : Jvm.MethodName)) ∈ lw_all := lw_g (lw_at lw_m1 192 rfl) rfl
theorem q242 : (Jvm.Cond.selects "Canecrush" ({ cls := "Canecrush", name := "meanSweet", desc := "()D" } : Jvm.MethodName) ({ cls := "Canecrush", name := "meanSweet", desc := "()D" } : Jvm.MethodName)) ∈ lw_all := lw_g (lw_at lw_m1 193 rfl) rfl
theorem q243 : (Jvm.Cond.code ({ cls := "Canecrush", name := "meanSweet", desc := "()D" } : Jvm.MethodName) prog_1_method_36_code (3 : Nat) (Option.some Jvm.ClassFile.FieldType.double)) ∈ lw_all := lw_g (lw_at lw_m1 194 rfl) rfl
theorem q245 : (Jvm.Cond.instanceMethod ({ cls := "Canecrush", name := "digest", desc := "()J" } : Jvm.MethodName)) ∈ lw_all := lw_g (lw_at lw_m1 196 rfl) rfl
theorem q246 : (Jvm.Cond.selects "Canecrush" ({ cls := "Canecrush", name := "digest", desc := "()J" } : Jvm.MethodName) ({ cls := "Canecrush", name := "digest", desc := "()J" } : Jvm.MethodName)) ∈ lw_all := lw_g (lw_at lw_m1 197 rfl) rfl
theorem q247 : (Jvm.Cond.code ({ cls := "Canecrush", name := "digest", desc := "()J" } : Jvm.MethodName) prog_1_method_47_code (3 : Nat) (Option.some Jvm.ClassFile.FieldType.long)) ∈ lw_all := lw_g (lw_at lw_m1 198 rfl) rfl
theorem q248 : (Jvm.Cond.constantLong "Canecrush" (310 : Nat) (58204 : Int64)) ∈ lw_all := lw_g (lw_at lw_m1 199 rfl) rfl
theorem q249 : (Jvm.Cond.methodLink "Canecrush" (271 : Nat) ({ cls := "Canecrush", name := "manyNow", desc := "(I)I" } : Jvm.MethodName)) ∈ lw_all := lw_g (lw_at lw_m1 200 rfl) rfl
theorem q250 : (Jvm.Cond.privateMethod ({ cls := "Canecrush", name := "manyNow", desc := "(I)I" } : Jvm.MethodName)) ∈ lw_tbl := lw_at lw_m1 201 rfl
theorem q251 : (Jvm.Cond.instanceMethod ({ cls := "Canecrush", name := "manyNow", desc := "(I)I" } : Jvm.MethodName)) ∈ lw_all := lw_g (lw_at lw_m1 202 rfl) rfl
theorem q252 : (Jvm.Cond.code ({ cls := "Canecrush", name := "manyNow", desc := "(I)I" } : Jvm.MethodName) prog_1_method_34_code (2 : Nat) (Option.some Jvm.ClassFile.FieldType.int)) ∈ lw_all := lw_g (lw_at lw_m1 203 rfl) rfl
theorem q253 : (Jvm.Cond.methodLink "Canecrush" (54 : Nat) ({ cls := "java/util/ArrayList", name := "size", desc := "()I" } : Jvm.MethodName)) ∈ lw_all := lw_g (lw_at lw_m1 204 rfl) rfl
theorem q257 : (Jvm.Cond.methodLink "Canecrush" (256 : Nat) ({ cls := "Canecrush$Works", name := "inYard", desc := "()I" } : Jvm.MethodName)) ∈ lw_all := lw_g (lw_at lw_m1 208 rfl) rfl
theorem q277 : (Jvm.Cond.methodLink "Canecrush" (312 : Nat) ({ cls := "Canecrush", name := "add", desc := "(I)V" } : Jvm.MethodName)) ∈ lw_all := lw_g (lw_at lw_m1 228 rfl) rfl
theorem q278 : (Jvm.Cond.privateMethod ({ cls := "Canecrush", name := "add", desc := "(I)V" } : Jvm.MethodName)) ∈ lw_tbl := lw_at lw_m1 229 rfl
theorem q279 : (Jvm.Cond.instanceMethod ({ cls := "Canecrush", name := "add", desc := "(I)V" } : Jvm.MethodName)) ∈ lw_all := lw_g (lw_at lw_m1 230 rfl) rfl
theorem q280 : (Jvm.Cond.code ({ cls := "Canecrush", name := "add", desc := "(I)V" } : Jvm.MethodName) prog_1_method_46_code (2 : Nat) (Option.none : Option Jvm.ClassFile.FieldType)) ∈ lw_all := lw_g (lw_at lw_m1 231 rfl) rfl
theorem q281 : (Jvm.Cond.constantLong "Canecrush" (308 : Nat) (31 : Int64)) ∈ lw_all := lw_g (lw_at lw_m1 232 rfl) rfl
theorem q282 : (Jvm.Cond.methodLink "Canecrush" (218 : Nat) ({ cls := "Canecrush", name := "ofFieldNow", desc := "(II)I" } : Jvm.MethodName)) ∈ lw_all := lw_g (lw_at lw_m1 233 rfl) rfl
theorem q283 : (Jvm.Cond.privateMethod ({ cls := "Canecrush", name := "ofFieldNow", desc := "(II)I" } : Jvm.MethodName)) ∈ lw_tbl := lw_at lw_m1 234 rfl
theorem q284 : (Jvm.Cond.instanceMethod ({ cls := "Canecrush", name := "ofFieldNow", desc := "(II)I" } : Jvm.MethodName)) ∈ lw_all := lw_g (lw_at lw_m1 235 rfl) rfl
theorem q285 : (Jvm.Cond.code ({ cls := "Canecrush", name := "ofFieldNow", desc := "(II)I" } : Jvm.MethodName) prog_1_method_25_code (4 : Nat) (Option.some Jvm.ClassFile.FieldType.int)) ∈ lw_all := lw_g (lw_at lw_m1 236 rfl) rfl
theorem q286 : (Jvm.Cond.methodLink "Canecrush" (78 : Nat) ({ cls := "java/util/ArrayList", name := "get", desc := "(I)Ljava/lang/Object;" } : Jvm.MethodName)) ∈ lw_all := lw_g (lw_at lw_m1 237 rfl) rfl
theorem q287 : (Jvm.Cond.classLink "Canecrush" (63 : Nat) "Canecrush$Field") ∈ lw_all := lw_g (lw_at lw_m1 238 rfl) rfl
theorem q288 : (Jvm.Cond.methodLink "Canecrush" (215 : Nat) ({ cls := "Canecrush", name := "lying", desc := "(I)I" } : Jvm.MethodName)) ∈ lw_all := lw_g (lw_at lw_m1 239 rfl) rfl
theorem q289 : (Jvm.Cond.privateMethod ({ cls := "Canecrush", name := "lying", desc := "(I)I" } : Jvm.MethodName)) ∈ lw_tbl := lw_at lw_m2 0 rfl
theorem q290 : (Jvm.Cond.instanceMethod ({ cls := "Canecrush", name := "lying", desc := "(I)I" } : Jvm.MethodName)) ∈ lw_all := lw_g (lw_at lw_m2 1 rfl) rfl
theorem q291 : (Jvm.Cond.code ({ cls := "Canecrush", name := "lying", desc := "(I)I" } : Jvm.MethodName) prog_1_method_24_code (4 : Nat) (Option.some Jvm.ClassFile.FieldType.int)) ∈ lw_all := lw_g (lw_at lw_m2 2 rfl) rfl
theorem q292 : (Jvm.Cond.classLink "Canecrush" (112 : Nat) "Canecrush$Load") ∈ lw_all := lw_g (lw_at lw_m2 3 rfl) rfl
theorem q293 : (Jvm.Cond.methodLink "Canecrush" (301 : Nat) ({ cls := "Canecrush", name := "dayNow", desc := "(IIII)I" } : Jvm.MethodName)) ∈ lw_all := lw_g (lw_at lw_m2 4 rfl) rfl
theorem q294 : (Jvm.Cond.privateMethod ({ cls := "Canecrush", name := "dayNow", desc := "(IIII)I" } : Jvm.MethodName)) ∈ lw_tbl := lw_at lw_m2 5 rfl
theorem q295 : (Jvm.Cond.instanceMethod ({ cls := "Canecrush", name := "dayNow", desc := "(IIII)I" } : Jvm.MethodName)) ∈ lw_all := lw_g (lw_at lw_m2 6 rfl) rfl
theorem q296 : (Jvm.Cond.code ({ cls := "Canecrush", name := "dayNow", desc := "(IIII)I" } : Jvm.MethodName) prog_1_method_44_code (10 : Nat) (Option.some Jvm.ClassFile.FieldType.int)) ∈ lw_all := lw_g (lw_at lw_m2 7 rfl) rfl
theorem q297 : (Jvm.Cond.methodLink "Canecrush" (295 : Nat) ({ cls := "Canecrush$Field", name := "copy", desc := "()LCanecrush$Field;" } : Jvm.MethodName)) ∈ lw_all := lw_g (lw_at lw_m2 8 rfl) rfl
theorem q309 : (Jvm.Cond.fieldLinkNest "Canecrush" (200 : Nat) "Canecrush$Field" "grower" "I" "Canecrush") ∈ lw_tbl := lw_at lw_m2 20 rfl
theorem q311 : (Jvm.Cond.fieldLinkNest "Canecrush" (203 : Nat) "Canecrush$Field" "area" "I" "Canecrush") ∈ lw_tbl := lw_at lw_m2 22 rfl
theorem q314 : (Jvm.Cond.fieldLinkNest "Canecrush" (139 : Nat) "Canecrush$Field" "far" "I" "Canecrush") ∈ lw_tbl := lw_at lw_m2 25 rfl
theorem q316 : (Jvm.Cond.fieldLinkNest "Canecrush" (99 : Nat) "Canecrush$Field" "cane" "I" "Canecrush") ∈ lw_tbl := lw_at lw_m2 27 rfl
theorem q318 : (Jvm.Cond.fieldLinkNest "Canecrush" (114 : Nat) "Canecrush$Field" "sweet" "I" "Canecrush") ∈ lw_tbl := lw_at lw_m2 29 rfl
theorem q320 : (Jvm.Cond.fieldLinkNest "Canecrush" (206 : Nat) "Canecrush$Field" "age" "I" "Canecrush") ∈ lw_tbl := lw_at lw_m2 31 rfl
theorem q322 : (Jvm.Cond.fieldLinkNest "Canecrush" (209 : Nat) "Canecrush$Field" "ratoons" "I" "Canecrush") ∈ lw_tbl := lw_at lw_m2 33 rfl
theorem q324 : (Jvm.Cond.fieldLinkNest "Canecrush" (86 : Nat) "Canecrush$Field" "smut" "I" "Canecrush") ∈ lw_tbl := lw_at lw_m2 35 rfl
theorem q327 : (Jvm.Cond.fieldLinkNest "Canecrush" (106 : Nat) "Canecrush$Field" "isLodged" "Z" "Canecrush") ∈ lw_tbl := lw_at lw_m2 38 rfl
theorem q329 : (Jvm.Cond.fieldLinkNest "Canecrush" (212 : Nat) "Canecrush$Field" "isFrosted" "Z" "Canecrush") ∈ lw_tbl := lw_at lw_m2 40 rfl
theorem q331 : (Jvm.Cond.fieldLinkNest "Canecrush" (102 : Nat) "Canecrush$Field" "isBurnt" "Z" "Canecrush") ∈ lw_tbl := lw_at lw_m2 42 rfl
theorem q355 : (Jvm.Cond.methodLink "Canecrush" (68 : Nat) ({ cls := "java/util/ArrayList", name := "add", desc := "(Ljava/lang/Object;)Z" } : Jvm.MethodName)) ∈ lw_all := lw_g (lw_at lw_m2 66 rfl) rfl
theorem q387 : (Jvm.Cond.selects "Canecrush" ({ cls := "java/lang/Object", name := "getClass", desc := "()Ljava/lang/Class;" } : Jvm.MethodName) ({ cls := "java/lang/Object", name := "getClass", desc := "()Ljava/lang/Class;" } : Jvm.MethodName)) ∈ lw_all := lw_g (lw_at lw_m2 98 rfl) rfl
theorem q418 : (Jvm.Cond.methodLink "Canecrush" (298 : Nat) ({ cls := "Canecrush$Works", name := "endFields", desc := "(II)V" } : Jvm.MethodName)) ∈ lw_all := lw_g (lw_at lw_m2 129 rfl) rfl
theorem q438 : (Jvm.Cond.static ({ cls := "Canecrush", name := "held", desc := "(III)I" } : Jvm.MethodName)) ∈ lw_all := lw_g (lw_at lw_m2 149 rfl) rfl
theorem q439 : (Jvm.Cond.code ({ cls := "Canecrush", name := "held", desc := "(III)I" } : Jvm.MethodName) prog_1_method_5_code (3 : Nat) (Option.some Jvm.ClassFile.FieldType.int)) ∈ lw_all := lw_g (lw_at lw_m2 150 rfl) rfl
theorem q440 : (Jvm.Cond.methodLink "Canecrush" (13 : Nat) ({ cls := "java/lang/Math", name := "min", desc := "(II)I" } : Jvm.MethodName)) ∈ lw_all := lw_g (lw_at lw_m2 151 rfl) rfl
theorem q441 : (Jvm.Cond.methodLink "Canecrush" (19 : Nat) ({ cls := "java/lang/Math", name := "max", desc := "(II)I" } : Jvm.MethodName)) ∈ lw_all := lw_g (lw_at lw_m2 152 rfl) rfl
theorem q442 : (Jvm.Cond.methodLink "Canecrush" (238 : Nat) ({ cls := "Canecrush", name := "ofLoadNow", desc := "(II)I" } : Jvm.MethodName)) ∈ lw_all := lw_g (lw_at lw_m2 153 rfl) rfl
theorem q443 : (Jvm.Cond.privateMethod ({ cls := "Canecrush", name := "ofLoadNow", desc := "(II)I" } : Jvm.MethodName)) ∈ lw_tbl := lw_at lw_m2 154 rfl
theorem q444 : (Jvm.Cond.instanceMethod ({ cls := "Canecrush", name := "ofLoadNow", desc := "(II)I" } : Jvm.MethodName)) ∈ lw_all := lw_g (lw_at lw_m2 155 rfl) rfl
theorem q445 : (Jvm.Cond.code ({ cls := "Canecrush", name := "ofLoadNow", desc := "(II)I" } : Jvm.MethodName) prog_1_method_27_code (4 : Nat) (Option.some Jvm.ClassFile.FieldType.int)) ∈ lw_all := lw_g (lw_at lw_m2 156 rfl) rfl
theorem q446 : (Jvm.Cond.methodLink "Canecrush" (244 : Nat) ({ cls := "Canecrush", name := "ofTruckNow", desc := "(II)I" } : Jvm.MethodName)) ∈ lw_all := lw_g (lw_at lw_m2 157 rfl) rfl
theorem q447 : (Jvm.Cond.privateMethod ({ cls := "Canecrush", name := "ofTruckNow", desc := "(II)I" } : Jvm.MethodName)) ∈ lw_tbl := lw_at lw_m2 158 rfl
theorem q448 : (Jvm.Cond.instanceMethod ({ cls := "Canecrush", name := "ofTruckNow", desc := "(II)I" } : Jvm.MethodName)) ∈ lw_all := lw_g (lw_at lw_m2 159 rfl) rfl
theorem q449 : (Jvm.Cond.code ({ cls := "Canecrush", name := "ofTruckNow", desc := "(II)I" } : Jvm.MethodName) prog_1_method_30_code (4 : Nat) (Option.some Jvm.ClassFile.FieldType.int)) ∈ lw_all := lw_g (lw_at lw_m2 160 rfl) rfl
theorem q450 : (Jvm.Cond.classLink "Canecrush" (75 : Nat) "Canecrush$Truck") ∈ lw_all := lw_g (lw_at lw_m2 161 rfl) rfl
theorem q451 : (Jvm.Cond.methodLink "Canecrush" (253 : Nat) ({ cls := "Canecrush", name := "ofGrowerNow", desc := "(II)I" } : Jvm.MethodName)) ∈ lw_all := lw_g (lw_at lw_m2 162 rfl) rfl
theorem q452 : (Jvm.Cond.privateMethod ({ cls := "Canecrush", name := "ofGrowerNow", desc := "(II)I" } : Jvm.MethodName)) ∈ lw_tbl := lw_at lw_m2 163 rfl
theorem q453 : (Jvm.Cond.instanceMethod ({ cls := "Canecrush", name := "ofGrowerNow", desc := "(II)I" } : Jvm.MethodName)) ∈ lw_all := lw_g (lw_at lw_m2 164 rfl) rfl
theorem q454 : (Jvm.Cond.code ({ cls := "Canecrush", name := "ofGrowerNow", desc := "(II)I" } : Jvm.MethodName) prog_1_method_32_code (3 : Nat) (Option.some Jvm.ClassFile.FieldType.int)) ∈ lw_all := lw_g (lw_at lw_m2 165 rfl) rfl
theorem q455 : (Jvm.Cond.methodLink "Canecrush" (286 : Nat) ({ cls := "Canecrush", name := "crushedNow", desc := "(II)I" } : Jvm.MethodName)) ∈ lw_all := lw_g (lw_at lw_m2 166 rfl) rfl
theorem q456 : (Jvm.Cond.privateMethod ({ cls := "Canecrush", name := "crushedNow", desc := "(II)I" } : Jvm.MethodName)) ∈ lw_tbl := lw_at lw_m2 167 rfl
theorem q457 : (Jvm.Cond.instanceMethod ({ cls := "Canecrush", name := "crushedNow", desc := "(II)I" } : Jvm.MethodName)) ∈ lw_all := lw_g (lw_at lw_m2 168 rfl) rfl
theorem q458 : (Jvm.Cond.code ({ cls := "Canecrush", name := "crushedNow", desc := "(II)I" } : Jvm.MethodName) prog_1_method_38_code (5 : Nat) (Option.some Jvm.ClassFile.FieldType.int)) ∈ lw_all := lw_g (lw_at lw_m2 169 rfl) rfl
theorem q459 : (Jvm.Cond.methodLink "Canecrush" (278 : Nat) ({ cls := "Canecrush$Works", name := "copy", desc := "()LCanecrush$Works;" } : Jvm.MethodName)) ∈ lw_all := lw_g (lw_at lw_m2 170 rfl) rfl
theorem q480 : (Jvm.Cond.fieldLinkNest "Canecrush" (133 : Nat) "Canecrush$Truck" "where" "I" "Canecrush") ∈ lw_tbl := lw_at lw_m2 191 rfl
theorem q483 : (Jvm.Cond.fieldLinkNest "Canecrush" (136 : Nat) "Canecrush$Truck" "field" "I" "Canecrush") ∈ lw_tbl := lw_at lw_m2 194 rfl
theorem q486 : (Jvm.Cond.fieldLinkNest "Canecrush" (241 : Nat) "Canecrush$Truck" "load" "I" "Canecrush") ∈ lw_tbl := lw_at lw_m2 197 rfl
theorem q489 : (Jvm.Cond.fieldLinkNest "Canecrush" (142 : Nat) "Canecrush$Truck" "hours" "I" "Canecrush") ∈ lw_tbl := lw_at lw_m2 200 rfl
theorem q511 : (Jvm.Cond.fieldLinkNest "Canecrush" (199 : Nat) "Canecrush$Load" "field" "I" "Canecrush") ∈ lw_tbl := lw_at lw_m2 222 rfl
theorem q514 : (Jvm.Cond.fieldLinkNest "Canecrush" (221 : Nat) "Canecrush$Load" "tons" "I" "Canecrush") ∈ lw_tbl := lw_at lw_m2 225 rfl
theorem q517 : (Jvm.Cond.fieldLinkNest "Canecrush" (225 : Nat) "Canecrush$Load" "trash" "I" "Canecrush") ∈ lw_tbl := lw_at lw_m2 228 rfl
theorem q520 : (Jvm.Cond.fieldLinkNest "Canecrush" (228 : Nat) "Canecrush$Load" "cutAt" "I" "Canecrush") ∈ lw_tbl := lw_at lw_m2 231 rfl
theorem q523 : (Jvm.Cond.fieldLinkNest "Canecrush" (224 : Nat) "Canecrush$Load" "sweet" "I" "Canecrush") ∈ lw_tbl := lw_at lw_m2 234 rfl
theorem q526 : (Jvm.Cond.fieldLinkNest "Canecrush" (198 : Nat) "Canecrush$Load" "where" "I" "Canecrush") ∈ lw_tbl := lw_at lw_m2 237 rfl
theorem q531 : (Jvm.Cond.fieldLinkNest "Canecrush" (231 : Nat) "Canecrush$Load" "crushedAt" "I" "Canecrush") ∈ lw_tbl := lw_at lw_m3 2 rfl
theorem q552 : (Jvm.Cond.methodLink "Canecrush" (195 : Nat) ({ cls := "Canecrush$Works", name := "pass", desc := "(II)I" } : Jvm.MethodName)) ∈ lw_all := lw_g (lw_at lw_m3 23 rfl) rfl
theorem q602 : (Jvm.Cond.methodLink "Canecrush" (289 : Nat) ({ cls := "Canecrush", name := "stopsNow", desc := "(I)I" } : Jvm.MethodName)) ∈ lw_all := lw_g (lw_at lw_m3 73 rfl) rfl
theorem q603 : (Jvm.Cond.privateMethod ({ cls := "Canecrush", name := "stopsNow", desc := "(I)I" } : Jvm.MethodName)) ∈ lw_tbl := lw_at lw_m3 74 rfl
theorem q604 : (Jvm.Cond.instanceMethod ({ cls := "Canecrush", name := "stopsNow", desc := "(I)I" } : Jvm.MethodName)) ∈ lw_all := lw_g (lw_at lw_m3 75 rfl) rfl
theorem q605 : (Jvm.Cond.code ({ cls := "Canecrush", name := "stopsNow", desc := "(I)I" } : Jvm.MethodName) prog_1_method_40_code (4 : Nat) (Option.some Jvm.ClassFile.FieldType.int)) ∈ lw_all := lw_g (lw_at lw_m3 76 rfl) rfl
theorem q606 : (Jvm.Cond.methodLink "Canecrush" (292 : Nat) ({ cls := "Canecrush", name := "orderNow", desc := "(I)I" } : Jvm.MethodName)) ∈ lw_all := lw_g (lw_at lw_m3 77 rfl) rfl
theorem q607 : (Jvm.Cond.privateMethod ({ cls := "Canecrush", name := "orderNow", desc := "(I)I" } : Jvm.MethodName)) ∈ lw_tbl := lw_at lw_m3 78 rfl
theorem q608 : (Jvm.Cond.instanceMethod ({ cls := "Canecrush", name := "orderNow", desc := "(I)I" } : Jvm.MethodName)) ∈ lw_all := lw_g (lw_at lw_m3 79 rfl) rfl
theorem q609 : (Jvm.Cond.code ({ cls := "Canecrush", name := "orderNow", desc := "(I)I" } : Jvm.MethodName) prog_1_method_42_code (7 : Nat) (Option.some Jvm.ClassFile.FieldType.int)) ∈ lw_all := lw_g (lw_at lw_m3 80 rfl) rfl
theorem q693 : (Jvm.Cond.instanceMethod ({ cls := "Canecrush", name := "field", desc := "(III)I" } : Jvm.MethodName)) ∈ lw_all := lw_g (lw_at lw_m3 164 rfl) rfl
theorem q694 : (Jvm.Cond.selects "Canecrush" ({ cls := "Canecrush", name := "field", desc := "(III)I" } : Jvm.MethodName) ({ cls := "Canecrush", name := "field", desc := "(III)I" } : Jvm.MethodName)) ∈ lw_all := lw_g (lw_at lw_m3 165 rfl) rfl
theorem q695 : (Jvm.Cond.code ({ cls := "Canecrush", name := "field", desc := "(III)I" } : Jvm.MethodName) prog_1_method_8_code (4 : Nat) (Option.some Jvm.ClassFile.FieldType.int)) ∈ lw_all := lw_g (lw_at lw_m3 166 rfl) rfl
theorem q696 : (Jvm.Cond.methodLink "Canecrush" (42 : Nat) ({ cls := "Canecrush", name := "requireIndex", desc := "(II)V" } : Jvm.MethodName)) ∈ lw_all := lw_g (lw_at lw_m3 167 rfl) rfl
theorem q697 : (Jvm.Cond.static ({ cls := "Canecrush", name := "requireIndex", desc := "(II)V" } : Jvm.MethodName)) ∈ lw_all := lw_g (lw_at lw_m3 168 rfl) rfl
theorem q698 : (Jvm.Cond.code ({ cls := "Canecrush", name := "requireIndex", desc := "(II)V" } : Jvm.MethodName) prog_1_method_3_code (2 : Nat) (Option.none : Option Jvm.ClassFile.FieldType)) ∈ lw_all := lw_g (lw_at lw_m3 169 rfl) rfl
theorem q699 : (Jvm.Cond.classLink "Canecrush" (10 : Nat) "java/lang/IndexOutOfBoundsException") ∈ lw_all := lw_g (lw_at lw_m3 170 rfl) rfl
theorem q708 : (Jvm.Cond.methodLink "Canecrush" (12 : Nat) ({ cls := "java/lang/IndexOutOfBoundsException", name := "<init>", desc := "()V" } : Jvm.MethodName)) ∈ lw_all := lw_g (lw_at lw_m3 179 rfl) rfl
theorem q720 : (Jvm.Cond.methodLink "Canecrush" (22 : Nat) ({ cls := "Canecrush", name := "isFrom", desc := "(III)Z" } : Jvm.MethodName)) ∈ lw_all := lw_g (lw_at lw_m3 191 rfl) rfl
theorem q721 : (Jvm.Cond.static ({ cls := "Canecrush", name := "isFrom", desc := "(III)Z" } : Jvm.MethodName)) ∈ lw_all := lw_g (lw_at lw_m3 192 rfl) rfl
theorem q722 : (Jvm.Cond.code ({ cls := "Canecrush", name := "isFrom", desc := "(III)Z" } : Jvm.MethodName) prog_1_method_4_code (3 : Nat) (Option.some Jvm.ClassFile.FieldType.boolean)) ∈ lw_all := lw_g (lw_at lw_m3 193 rfl) rfl
theorem q723 : (Jvm.Cond.methodLink "Canecrush" (46 : Nat) ({ cls := "Canecrush", name := "require", desc := "(Z)V" } : Jvm.MethodName)) ∈ lw_all := lw_g (lw_at lw_m3 194 rfl) rfl
theorem q724 : (Jvm.Cond.static ({ cls := "Canecrush", name := "require", desc := "(Z)V" } : Jvm.MethodName)) ∈ lw_all := lw_g (lw_at lw_m3 195 rfl) rfl
theorem q725 : (Jvm.Cond.code ({ cls := "Canecrush", name := "require", desc := "(Z)V" } : Jvm.MethodName) prog_1_method_1_code (1 : Nat) (Option.none : Option Jvm.ClassFile.FieldType)) ∈ lw_all := lw_g (lw_at lw_m3 196 rfl) rfl
theorem q726 : (Jvm.Cond.classLink "Canecrush" (1 : Nat) "java/lang/IllegalArgumentException") ∈ lw_all := lw_g (lw_at lw_m3 197 rfl) rfl
theorem q735 : (Jvm.Cond.methodLink "Canecrush" (3 : Nat) ({ cls := "java/lang/IllegalArgumentException", name := "<init>", desc := "()V" } : Jvm.MethodName)) ∈ lw_all := lw_g (lw_at lw_m3 206 rfl) rfl
theorem q741 : (Jvm.Cond.methodLink "Canecrush" (60 : Nat) ({ cls := "Canecrush", name := "requireState", desc := "(Z)V" } : Jvm.MethodName)) ∈ lw_all := lw_g (lw_at lw_m3 212 rfl) rfl
theorem q742 : (Jvm.Cond.static ({ cls := "Canecrush", name := "requireState", desc := "(Z)V" } : Jvm.MethodName)) ∈ lw_all := lw_g (lw_at lw_m3 213 rfl) rfl
theorem q743 : (Jvm.Cond.code ({ cls := "Canecrush", name := "requireState", desc := "(Z)V" } : Jvm.MethodName) prog_1_method_2_code (1 : Nat) (Option.none : Option Jvm.ClassFile.FieldType)) ∈ lw_all := lw_g (lw_at lw_m3 214 rfl) rfl
theorem q744 : (Jvm.Cond.classLink "Canecrush" (7 : Nat) "java/lang/IllegalStateException") ∈ lw_all := lw_g (lw_at lw_m3 215 rfl) rfl
theorem q753 : (Jvm.Cond.methodLink "Canecrush" (9 : Nat) ({ cls := "java/lang/IllegalStateException", name := "<init>", desc := "()V" } : Jvm.MethodName)) ∈ lw_all := lw_g (lw_at lw_m3 224 rfl) rfl
theorem q759 : (Jvm.Cond.methodLink "Canecrush" (65 : Nat) ({ cls := "Canecrush$Field", name := "<init>", desc := "(III)V" } : Jvm.MethodName)) ∈ lw_all := lw_g (lw_at lw_m3 230 rfl) rfl
theorem q764 : (Jvm.Cond.instanceMethod ({ cls := "Canecrush", name := "truck", desc := "()I" } : Jvm.MethodName)) ∈ lw_all := lw_g (lw_at lw_m3 235 rfl) rfl
theorem q765 : (Jvm.Cond.selects "Canecrush" ({ cls := "Canecrush", name := "truck", desc := "()I" } : Jvm.MethodName) ({ cls := "Canecrush", name := "truck", desc := "()I" } : Jvm.MethodName)) ∈ lw_all := lw_g (lw_at lw_m3 236 rfl) rfl
theorem q766 : (Jvm.Cond.code ({ cls := "Canecrush", name := "truck", desc := "()I" } : Jvm.MethodName) prog_1_method_9_code (1 : Nat) (Option.some Jvm.ClassFile.FieldType.int)) ∈ lw_all := lw_g (lw_at lw_m3 237 rfl) rfl
theorem q767 : (Jvm.Cond.methodLinkNest "Canecrush" (77 : Nat) ({ cls := "Canecrush$Truck", name := "<init>", desc := "()V" } : Jvm.MethodName) "Canecrush") ∈ lw_tbl := lw_at lw_m3 238 rfl
theorem q772 : (Jvm.Cond.instanceMethod ({ cls := "Canecrush", name := "smut", desc := "(II)I" } : Jvm.MethodName)) ∈ lw_all := lw_g (lw_at lw_m4 3 rfl) rfl
theorem q773 : (Jvm.Cond.selects "Canecrush" ({ cls := "Canecrush", name := "smut", desc := "(II)I" } : Jvm.MethodName) ({ cls := "Canecrush", name := "smut", desc := "(II)I" } : Jvm.MethodName)) ∈ lw_all := lw_g (lw_at lw_m4 4 rfl) rfl
theorem q774 : (Jvm.Cond.code ({ cls := "Canecrush", name := "smut", desc := "(II)I" } : Jvm.MethodName) prog_1_method_12_code (4 : Nat) (Option.some Jvm.ClassFile.FieldType.int)) ∈ lw_all := lw_g (lw_at lw_m4 5 rfl) rfl
theorem q775 : (Jvm.Cond.methodLink "Canecrush" (82 : Nat) ({ cls := "Canecrush", name := "fieldAt", desc := "(I)LCanecrush$Field;" } : Jvm.MethodName)) ∈ lw_all := lw_g (lw_at lw_m4 6 rfl) rfl
theorem q776 : (Jvm.Cond.privateMethod ({ cls := "Canecrush", name := "fieldAt", desc := "(I)LCanecrush$Field;" } : Jvm.MethodName)) ∈ lw_tbl := lw_at lw_m4 7 rfl
theorem q777 : (Jvm.Cond.instanceMethod ({ cls := "Canecrush", name := "fieldAt", desc := "(I)LCanecrush$Field;" } : Jvm.MethodName)) ∈ lw_all := lw_g (lw_at lw_m4 8 rfl) rfl
theorem q778 : (Jvm.Cond.code ({ cls := "Canecrush", name := "fieldAt", desc := "(I)LCanecrush$Field;" } : Jvm.MethodName) prog_1_method_10_code (2 : Nat) (Option.some (Jvm.ClassFile.FieldType.object "Canecrush$Field"))) ∈ lw_all := lw_g (lw_at lw_m4 9 rfl) rfl
theorem q783 : (Jvm.Cond.instanceMethod ({ cls := "Canecrush", name := "set", desc := "(III)I" } : Jvm.MethodName)) ∈ lw_all := lw_g (lw_at lw_m4 14 rfl) rfl
theorem q784 : (Jvm.Cond.selects "Canecrush" ({ cls := "Canecrush", name := "set", desc := "(III)I" } : Jvm.MethodName) ({ cls := "Canecrush", name := "set", desc := "(III)I" } : Jvm.MethodName)) ∈ lw_all := lw_g (lw_at lw_m4 15 rfl) rfl
theorem q785 : (Jvm.Cond.code ({ cls := "Canecrush", name := "set", desc := "(III)I" } : Jvm.MethodName) prog_1_method_13_code (5 : Nat) (Option.some Jvm.ClassFile.FieldType.int)) ∈ lw_all := lw_g (lw_at lw_m4 16 rfl) rfl
theorem q790 : (Jvm.Cond.instanceMethod ({ cls := "Canecrush", name := "burn", desc := "(I)Z" } : Jvm.MethodName)) ∈ lw_all := lw_g (lw_at lw_m4 21 rfl) rfl
theorem q791 : (Jvm.Cond.selects "Canecrush" ({ cls := "Canecrush", name := "burn", desc := "(I)Z" } : Jvm.MethodName) ({ cls := "Canecrush", name := "burn", desc := "(I)Z" } : Jvm.MethodName)) ∈ lw_all := lw_g (lw_at lw_m4 22 rfl) rfl
theorem q792 : (Jvm.Cond.code ({ cls := "Canecrush", name := "burn", desc := "(I)Z" } : Jvm.MethodName) prog_1_method_14_code (4 : Nat) (Option.some Jvm.ClassFile.FieldType.boolean)) ∈ lw_all := lw_g (lw_at lw_m4 23 rfl) rfl
theorem q797 : (Jvm.Cond.instanceMethod ({ cls := "Canecrush", name := "cut", desc := "(II)I" } : Jvm.MethodName)) ∈ lw_all := lw_g (lw_at lw_m4 28 rfl) rfl
theorem q798 : (Jvm.Cond.selects "Canecrush" ({ cls := "Canecrush", name := "cut", desc := "(II)I" } : Jvm.MethodName) ({ cls := "Canecrush", name := "cut", desc := "(II)I" } : Jvm.MethodName)) ∈ lw_all := lw_g (lw_at lw_m4 29 rfl) rfl
theorem q799 : (Jvm.Cond.code ({ cls := "Canecrush", name := "cut", desc := "(II)I" } : Jvm.MethodName) prog_1_method_15_code (9 : Nat) (Option.some Jvm.ClassFile.FieldType.int)) ∈ lw_all := lw_g (lw_at lw_m4 30 rfl) rfl
theorem q800 : (Jvm.Cond.methodLink "Canecrush" (120 : Nat) ({ cls := "Canecrush$Load", name := "<init>", desc := "(IIIZI)V" } : Jvm.MethodName)) ∈ lw_all := lw_g (lw_at lw_m4 31 rfl) rfl
theorem q801 : (Jvm.Cond.methodLink "Canecrush" (126 : Nat) ({ cls := "Canecrush$Field", name := "renew", desc := "()V" } : Jvm.MethodName)) ∈ lw_all := lw_g (lw_at lw_m4 32 rfl) rfl
theorem q809 : (Jvm.Cond.instanceMethod ({ cls := "Canecrush", name := "send", desc := "(II)I" } : Jvm.MethodName)) ∈ lw_all := lw_g (lw_at lw_m4 40 rfl) rfl
theorem q810 : (Jvm.Cond.selects "Canecrush" ({ cls := "Canecrush", name := "send", desc := "(II)I" } : Jvm.MethodName) ({ cls := "Canecrush", name := "send", desc := "(II)I" } : Jvm.MethodName)) ∈ lw_all := lw_g (lw_at lw_m4 41 rfl) rfl
theorem q811 : (Jvm.Cond.code ({ cls := "Canecrush", name := "send", desc := "(II)I" } : Jvm.MethodName) prog_1_method_16_code (5 : Nat) (Option.some Jvm.ClassFile.FieldType.int)) ∈ lw_all := lw_g (lw_at lw_m4 42 rfl) rfl
theorem q812 : (Jvm.Cond.methodLink "Canecrush" (129 : Nat) ({ cls := "Canecrush", name := "truckAt", desc := "(I)LCanecrush$Truck;" } : Jvm.MethodName)) ∈ lw_all := lw_g (lw_at lw_m4 43 rfl) rfl
theorem q813 : (Jvm.Cond.privateMethod ({ cls := "Canecrush", name := "truckAt", desc := "(I)LCanecrush$Truck;" } : Jvm.MethodName)) ∈ lw_tbl := lw_at lw_m4 44 rfl
theorem q814 : (Jvm.Cond.instanceMethod ({ cls := "Canecrush", name := "truckAt", desc := "(I)LCanecrush$Truck;" } : Jvm.MethodName)) ∈ lw_all := lw_g (lw_at lw_m4 45 rfl) rfl
theorem q815 : (Jvm.Cond.code ({ cls := "Canecrush", name := "truckAt", desc := "(I)LCanecrush$Truck;" } : Jvm.MethodName) prog_1_method_11_code (2 : Nat) (Option.some (Jvm.ClassFile.FieldType.object "Canecrush$Truck"))) ∈ lw_all := lw_g (lw_at lw_m4 46 rfl) rfl
theorem q820 : (Jvm.Cond.instanceMethod ({ cls := "Canecrush", name := "recall", desc := "(I)I" } : Jvm.MethodName)) ∈ lw_all := lw_g (lw_at lw_m4 51 rfl) rfl
theorem q821 : (Jvm.Cond.selects "Canecrush" ({ cls := "Canecrush", name := "recall", desc := "(I)I" } : Jvm.MethodName) ({ cls := "Canecrush", name := "recall", desc := "(I)I" } : Jvm.MethodName)) ∈ lw_all := lw_g (lw_at lw_m4 52 rfl) rfl
theorem q822 : (Jvm.Cond.code ({ cls := "Canecrush", name := "recall", desc := "(I)I" } : Jvm.MethodName) prog_1_method_17_code (4 : Nat) (Option.some Jvm.ClassFile.FieldType.int)) ∈ lw_all := lw_g (lw_at lw_m4 53 rfl) rfl
theorem q823 : (Jvm.Cond.methodLink "Canecrush" (145 : Nat) ({ cls := "Canecrush$Truck", name := "stand", desc := "()V" } : Jvm.MethodName)) ∈ lw_all := lw_g (lw_at lw_m4 54 rfl) rfl
theorem q828 : (Jvm.Cond.instanceMethod ({ cls := "Canecrush", name := "start", desc := "()I" } : Jvm.MethodName)) ∈ lw_all := lw_g (lw_at lw_m4 59 rfl) rfl
theorem q829 : (Jvm.Cond.selects "Canecrush" ({ cls := "Canecrush", name := "start", desc := "()I" } : Jvm.MethodName) ({ cls := "Canecrush", name := "start", desc := "()I" } : Jvm.MethodName)) ∈ lw_all := lw_g (lw_at lw_m4 60 rfl) rfl
theorem q830 : (Jvm.Cond.code ({ cls := "Canecrush", name := "start", desc := "()I" } : Jvm.MethodName) prog_1_method_18_code (1 : Nat) (Option.some Jvm.ClassFile.FieldType.int)) ∈ lw_all := lw_g (lw_at lw_m4 61 rfl) rfl
theorem q831 : (Jvm.Cond.methodLink "Canecrush" (157 : Nat) ({ cls := "Canecrush$Works", name := "burn", desc := "(I)I" } : Jvm.MethodName)) ∈ lw_all := lw_g (lw_at lw_m4 62 rfl) rfl
theorem q836 : (Jvm.Cond.instanceMethod ({ cls := "Canecrush", name := "boil", desc := "(I)I" } : Jvm.MethodName)) ∈ lw_all := lw_g (lw_at lw_m4 67 rfl) rfl
theorem q837 : (Jvm.Cond.selects "Canecrush" ({ cls := "Canecrush", name := "boil", desc := "(I)I" } : Jvm.MethodName) ({ cls := "Canecrush", name := "boil", desc := "(I)I" } : Jvm.MethodName)) ∈ lw_all := lw_g (lw_at lw_m4 68 rfl) rfl
theorem q838 : (Jvm.Cond.code ({ cls := "Canecrush", name := "boil", desc := "(I)I" } : Jvm.MethodName) prog_1_method_19_code (3 : Nat) (Option.some Jvm.ClassFile.FieldType.int)) ∈ lw_all := lw_g (lw_at lw_m4 69 rfl) rfl
theorem q843 : (Jvm.Cond.instanceMethod ({ cls := "Canecrush", name := "distil", desc := "()I" } : Jvm.MethodName)) ∈ lw_all := lw_g (lw_at lw_m4 74 rfl) rfl
theorem q844 : (Jvm.Cond.selects "Canecrush" ({ cls := "Canecrush", name := "distil", desc := "()I" } : Jvm.MethodName) ({ cls := "Canecrush", name := "distil", desc := "()I" } : Jvm.MethodName)) ∈ lw_all := lw_g (lw_at lw_m4 75 rfl) rfl
theorem q845 : (Jvm.Cond.code ({ cls := "Canecrush", name := "distil", desc := "()I" } : Jvm.MethodName) prog_1_method_20_code (2 : Nat) (Option.some Jvm.ClassFile.FieldType.int)) ∈ lw_all := lw_g (lw_at lw_m4 76 rfl) rfl
theorem q850 : (Jvm.Cond.instanceMethod ({ cls := "Canecrush", name := "sell", desc := "(II)I" } : Jvm.MethodName)) ∈ lw_all := lw_g (lw_at lw_m4 81 rfl) rfl
theorem q851 : (Jvm.Cond.selects "Canecrush" ({ cls := "Canecrush", name := "sell", desc := "(II)I" } : Jvm.MethodName) ({ cls := "Canecrush", name := "sell", desc := "(II)I" } : Jvm.MethodName)) ∈ lw_all := lw_g (lw_at lw_m4 82 rfl) rfl
theorem q852 : (Jvm.Cond.code ({ cls := "Canecrush", name := "sell", desc := "(II)I" } : Jvm.MethodName) prog_1_method_21_code (3 : Nat) (Option.some Jvm.ClassFile.FieldType.int)) ∈ lw_all := lw_g (lw_at lw_m4 83 rfl) rfl
theorem q857 : (Jvm.Cond.instanceMethod ({ cls := "Canecrush", name := "pay", desc := "(I)I" } : Jvm.MethodName)) ∈ lw_all := lw_g (lw_at lw_m4 88 rfl) rfl
theorem q858 : (Jvm.Cond.selects "Canecrush" ({ cls := "Canecrush", name := "pay", desc := "(I)I" } : Jvm.MethodName) ({ cls := "Canecrush", name := "pay", desc := "(I)I" } : Jvm.MethodName)) ∈ lw_all := lw_g (lw_at lw_m4 89 rfl) rfl
theorem q859 : (Jvm.Cond.code ({ cls := "Canecrush", name := "pay", desc := "(I)I" } : Jvm.MethodName) prog_1_method_22_code (7 : Nat) (Option.some Jvm.ClassFile.FieldType.int)) ∈ lw_all := lw_g (lw_at lw_m4 90 rfl) rfl
theorem q864 : (Jvm.Cond.instanceMethod ({ cls := "Canecrush", name := "pass", desc := "(III)I" } : Jvm.MethodName)) ∈ lw_all := lw_g (lw_at lw_m4 95 rfl) rfl
theorem q865 : (Jvm.Cond.selects "Canecrush" ({ cls := "Canecrush", name := "pass", desc := "(III)I" } : Jvm.MethodName) ({ cls := "Canecrush", name := "pass", desc := "(III)I" } : Jvm.MethodName)) ∈ lw_all := lw_g (lw_at lw_m4 96 rfl) rfl
theorem q866 : (Jvm.Cond.code ({ cls := "Canecrush", name := "pass", desc := "(III)I" } : Jvm.MethodName) prog_1_method_23_code (6 : Nat) (Option.some Jvm.ClassFile.FieldType.int)) ∈ lw_all := lw_g (lw_at lw_m4 97 rfl) rfl
theorem q867 : (Jvm.Cond.methodLink "Canecrush" (191 : Nat) ({ cls := "Canecrush", name := "isWeather", desc := "(II)Z" } : Jvm.MethodName)) ∈ lw_all := lw_g (lw_at lw_m4 98 rfl) rfl
theorem q868 : (Jvm.Cond.static ({ cls := "Canecrush", name := "isWeather", desc := "(II)Z" } : Jvm.MethodName)) ∈ lw_all := lw_g (lw_at lw_m4 99 rfl) rfl
theorem q869 : (Jvm.Cond.code ({ cls := "Canecrush", name := "isWeather", desc := "(II)Z" } : Jvm.MethodName) prog_1_method_6_code (2 : Nat) (Option.some Jvm.ClassFile.FieldType.boolean)) ∈ lw_all := lw_g (lw_at lw_m4 100 rfl) rfl
theorem q874 : (Jvm.Cond.instanceMethod ({ cls := "Canecrush", name := "ofField", desc := "(II)I" } : Jvm.MethodName)) ∈ lw_all := lw_g (lw_at lw_m4 105 rfl) rfl
theorem q875 : (Jvm.Cond.selects "Canecrush" ({ cls := "Canecrush", name := "ofField", desc := "(II)I" } : Jvm.MethodName) ({ cls := "Canecrush", name := "ofField", desc := "(II)I" } : Jvm.MethodName)) ∈ lw_all := lw_g (lw_at lw_m4 106 rfl) rfl
theorem q876 : (Jvm.Cond.code ({ cls := "Canecrush", name := "ofField", desc := "(II)I" } : Jvm.MethodName) prog_1_method_26_code (3 : Nat) (Option.some Jvm.ClassFile.FieldType.int)) ∈ lw_all := lw_g (lw_at lw_m4 107 rfl) rfl
theorem q881 : (Jvm.Cond.instanceMethod ({ cls := "Canecrush", name := "ofLoad", desc := "(II)I" } : Jvm.MethodName)) ∈ lw_all := lw_g (lw_at lw_m4 112 rfl) rfl
theorem q882 : (Jvm.Cond.selects "Canecrush" ({ cls := "Canecrush", name := "ofLoad", desc := "(II)I" } : Jvm.MethodName) ({ cls := "Canecrush", name := "ofLoad", desc := "(II)I" } : Jvm.MethodName)) ∈ lw_all := lw_g (lw_at lw_m4 113 rfl) rfl
theorem q883 : (Jvm.Cond.code ({ cls := "Canecrush", name := "ofLoad", desc := "(II)I" } : Jvm.MethodName) prog_1_method_29_code (3 : Nat) (Option.some Jvm.ClassFile.FieldType.int)) ∈ lw_all := lw_g (lw_at lw_m4 114 rfl) rfl
theorem q884 : (Jvm.Cond.methodLink "Canecrush" (234 : Nat) ({ cls := "Canecrush", name := "requireLoad", desc := "(I)V" } : Jvm.MethodName)) ∈ lw_all := lw_g (lw_at lw_m4 115 rfl) rfl
theorem q885 : (Jvm.Cond.privateMethod ({ cls := "Canecrush", name := "requireLoad", desc := "(I)V" } : Jvm.MethodName)) ∈ lw_tbl := lw_at lw_m4 116 rfl
theorem q886 : (Jvm.Cond.instanceMethod ({ cls := "Canecrush", name := "requireLoad", desc := "(I)V" } : Jvm.MethodName)) ∈ lw_all := lw_g (lw_at lw_m4 117 rfl) rfl
theorem q887 : (Jvm.Cond.code ({ cls := "Canecrush", name := "requireLoad", desc := "(I)V" } : Jvm.MethodName) prog_1_method_28_code (2 : Nat) (Option.none : Option Jvm.ClassFile.FieldType)) ∈ lw_all := lw_g (lw_at lw_m4 118 rfl) rfl
theorem q892 : (Jvm.Cond.instanceMethod ({ cls := "Canecrush", name := "ofTruck", desc := "(II)I" } : Jvm.MethodName)) ∈ lw_all := lw_g (lw_at lw_m4 123 rfl) rfl
theorem q893 : (Jvm.Cond.selects "Canecrush" ({ cls := "Canecrush", name := "ofTruck", desc := "(II)I" } : Jvm.MethodName) ({ cls := "Canecrush", name := "ofTruck", desc := "(II)I" } : Jvm.MethodName)) ∈ lw_all := lw_g (lw_at lw_m4 124 rfl) rfl
theorem q894 : (Jvm.Cond.code ({ cls := "Canecrush", name := "ofTruck", desc := "(II)I" } : Jvm.MethodName) prog_1_method_31_code (3 : Nat) (Option.some Jvm.ClassFile.FieldType.int)) ∈ lw_all := lw_g (lw_at lw_m4 125 rfl) rfl
theorem q899 : (Jvm.Cond.instanceMethod ({ cls := "Canecrush", name := "ofGrower", desc := "(II)I" } : Jvm.MethodName)) ∈ lw_all := lw_g (lw_at lw_m4 130 rfl) rfl
theorem q900 : (Jvm.Cond.selects "Canecrush" ({ cls := "Canecrush", name := "ofGrower", desc := "(II)I" } : Jvm.MethodName) ({ cls := "Canecrush", name := "ofGrower", desc := "(II)I" } : Jvm.MethodName)) ∈ lw_all := lw_g (lw_at lw_m4 131 rfl) rfl
theorem q901 : (Jvm.Cond.code ({ cls := "Canecrush", name := "ofGrower", desc := "(II)I" } : Jvm.MethodName) prog_1_method_33_code (3 : Nat) (Option.some Jvm.ClassFile.FieldType.int)) ∈ lw_all := lw_g (lw_at lw_m4 132 rfl) rfl
theorem q906 : (Jvm.Cond.instanceMethod ({ cls := "Canecrush", name := "many", desc := "(I)I" } : Jvm.MethodName)) ∈ lw_all := lw_g (lw_at lw_m4 137 rfl) rfl
theorem q907 : (Jvm.Cond.selects "Canecrush" ({ cls := "Canecrush", name := "many", desc := "(I)I" } : Jvm.MethodName) ({ cls := "Canecrush", name := "many", desc := "(I)I" } : Jvm.MethodName)) ∈ lw_all := lw_g (lw_at lw_m4 138 rfl) rfl
theorem q908 : (Jvm.Cond.code ({ cls := "Canecrush", name := "many", desc := "(I)I" } : Jvm.MethodName) prog_1_method_35_code (2 : Nat) (Option.some Jvm.ClassFile.FieldType.int)) ∈ lw_all := lw_g (lw_at lw_m4 139 rfl) rfl
theorem q913 : (Jvm.Cond.instanceMethod ({ cls := "Canecrush", name := "crushedIn", desc := "(II)I" } : Jvm.MethodName)) ∈ lw_all := lw_g (lw_at lw_m4 144 rfl) rfl
theorem q914 : (Jvm.Cond.selects "Canecrush" ({ cls := "Canecrush", name := "crushedIn", desc := "(II)I" } : Jvm.MethodName) ({ cls := "Canecrush", name := "crushedIn", desc := "(II)I" } : Jvm.MethodName)) ∈ lw_all := lw_g (lw_at lw_m4 145 rfl) rfl
theorem q915 : (Jvm.Cond.code ({ cls := "Canecrush", name := "crushedIn", desc := "(II)I" } : Jvm.MethodName) prog_1_method_39_code (3 : Nat) (Option.some Jvm.ClassFile.FieldType.int)) ∈ lw_all := lw_g (lw_at lw_m4 146 rfl) rfl
theorem q916 : (Jvm.Cond.methodLink "Canecrush" (282 : Nat) ({ cls := "Canecrush", name := "areHours", desc := "(I)Z" } : Jvm.MethodName)) ∈ lw_all := lw_g (lw_at lw_m4 147 rfl) rfl
theorem q917 : (Jvm.Cond.static ({ cls := "Canecrush", name := "areHours", desc := "(I)Z" } : Jvm.MethodName)) ∈ lw_all := lw_g (lw_at lw_m4 148 rfl) rfl
theorem q918 : (Jvm.Cond.code ({ cls := "Canecrush", name := "areHours", desc := "(I)Z" } : Jvm.MethodName) prog_1_method_37_code (1 : Nat) (Option.some Jvm.ClassFile.FieldType.boolean)) ∈ lw_all := lw_g (lw_at lw_m4 149 rfl) rfl
theorem q923 : (Jvm.Cond.instanceMethod ({ cls := "Canecrush", name := "stopsIn", desc := "(I)I" } : Jvm.MethodName)) ∈ lw_all := lw_g (lw_at lw_m4 154 rfl) rfl
theorem q924 : (Jvm.Cond.selects "Canecrush" ({ cls := "Canecrush", name := "stopsIn", desc := "(I)I" } : Jvm.MethodName) ({ cls := "Canecrush", name := "stopsIn", desc := "(I)I" } : Jvm.MethodName)) ∈ lw_all := lw_g (lw_at lw_m4 155 rfl) rfl
theorem q925 : (Jvm.Cond.code ({ cls := "Canecrush", name := "stopsIn", desc := "(I)I" } : Jvm.MethodName) prog_1_method_41_code (2 : Nat) (Option.some Jvm.ClassFile.FieldType.int)) ∈ lw_all := lw_g (lw_at lw_m4 156 rfl) rfl
theorem q930 : (Jvm.Cond.instanceMethod ({ cls := "Canecrush", name := "bestOrder", desc := "(I)I" } : Jvm.MethodName)) ∈ lw_all := lw_g (lw_at lw_m4 161 rfl) rfl
theorem q931 : (Jvm.Cond.selects "Canecrush" ({ cls := "Canecrush", name := "bestOrder", desc := "(I)I" } : Jvm.MethodName) ({ cls := "Canecrush", name := "bestOrder", desc := "(I)I" } : Jvm.MethodName)) ∈ lw_all := lw_g (lw_at lw_m4 162 rfl) rfl
theorem q932 : (Jvm.Cond.code ({ cls := "Canecrush", name := "bestOrder", desc := "(I)I" } : Jvm.MethodName) prog_1_method_43_code (2 : Nat) (Option.some Jvm.ClassFile.FieldType.int)) ∈ lw_all := lw_g (lw_at lw_m4 163 rfl) rfl
theorem q937 : (Jvm.Cond.instanceMethod ({ cls := "Canecrush", name := "bestDay", desc := "(IIII)I" } : Jvm.MethodName)) ∈ lw_all := lw_g (lw_at lw_m4 168 rfl) rfl
theorem q938 : (Jvm.Cond.selects "Canecrush" ({ cls := "Canecrush", name := "bestDay", desc := "(IIII)I" } : Jvm.MethodName) ({ cls := "Canecrush", name := "bestDay", desc := "(IIII)I" } : Jvm.MethodName)) ∈ lw_all := lw_g (lw_at lw_m4 169 rfl) rfl
theorem q939 : (Jvm.Cond.code ({ cls := "Canecrush", name := "bestDay", desc := "(IIII)I" } : Jvm.MethodName) prog_1_method_45_code (5 : Nat) (Option.some Jvm.ClassFile.FieldType.int)) ∈ lw_all := lw_g (lw_at lw_m4 170 rfl) rfl
theorem q1517 : (Jvm.Cond.castable "Canecrush" "java/lang/Object") ∈ lw_tbl := lw_at lw_m7 28 rfl
theorem in_X1 : ∀ w ∈ wsX10, w ∈ lw_all := lw_in wsX10 [219, 221, 223, 225, 227, 229, 231, 233, 235, 237] (by decide +kernel) (by decide +kernel)

/-! Canecrush$Works -/
set_option maxRecDepth 100000
def RX2 : String := "Canecrush$Works"
def TX2 : u_T := fun k => match k with
  | 0 => ("Canecrush$Works", "fields", "Ljava/util/ArrayList;", true)
  | 1 => ("Canecrush$Works", "trucks", "Ljava/util/ArrayList;", true)
  | 2 => ("Canecrush$Works", "loads", "Ljava/util/ArrayList;", true)
  | 3 => ("Canecrush$Works", "dayTons", "[I", true)
  | 4 => ("Canecrush$Works", "allTons", "[I", true)
  | 5 => ("Canecrush$Works", "points", "[I", true)
  | 6 => ("Canecrush$Works", "hour", "I", false)
  | 7 => ("Canecrush$Works", "arrivals", "I", false)
  | 8 => ("Canecrush$Works", "mill", "I", false)
  | 9 => ("Canecrush$Works", "starting", "I", false)
  | 10 => ("Canecrush$Works", "idle", "I", false)
  | 11 => ("Canecrush$Works", "idled", "I", false)
  | 12 => ("Canecrush$Works", "stops", "I", false)
  | 13 => ("Canecrush$Works", "rate", "I", false)
  | 14 => ("Canecrush$Works", "water", "I", false)
  | 15 => ("Canecrush$Works", "order", "I", false)
  | 16 => ("Canecrush$Works", "syrup", "I", false)
  | 17 => ("Canecrush$Works", "lost", "I", false)
  | 18 => ("Canecrush$Works", "fibre", "I", false)
  | 19 => ("Canecrush$Works", "oil", "I", false)
  | 20 => ("Canecrush$Works", "money", "I", false)
  | _ => ("Canecrush$Works", "sweetTons", "J", false)
def tyX2 : Nat → FieldType := fun k => match k with
  | 0 => .object "java/util/ArrayList"
  | 1 => .object "java/util/ArrayList"
  | 2 => .object "java/util/ArrayList"
  | 3 => .array .int
  | 4 => .array .int
  | 5 => .array .int
  | 6 => .int
  | 7 => .int
  | 8 => .int
  | 9 => .int
  | 10 => .int
  | 11 => .int
  | 12 => .int
  | 13 => .int
  | 14 => .int
  | 15 => .int
  | 16 => .int
  | 17 => .int
  | 18 => .int
  | 19 => .int
  | 20 => .int
  | _ => .long
abbrev wsX20 : List Cond := u_ws RX2 TX2 22
set_option maxRecDepth 100000 in
theorem nmX2 : ∀ a, a < 22 → ∀ b, b < 22 → a ≠ b → (TX2 a).2.1 ≠ (TX2 b).2.1 := by decide +kernel
set_option maxRecDepth 100000 in
theorem tyX2_ok : ∀ k, k < 22 → parseFieldDescriptor (TX2 k).2.2.1 = some (tyX2 k) := by decide +kernel
abbrev cX2_init : ByteArray := prog_5_method_1_code
def yX2_init : MethodName := ⟨RX2, "<init>", "()V"⟩
def dkwX2_init_3 : List UInt8 := [8, 181, 0, 41, 177]
abbrev dktX2_init_3 : List UInt8 := dkwX2_init_3 ++ []
def dkwX2_init_2 : List UInt8 := [188, 10, 181, 0, 28, 42, 7, 188, 10, 181, 0, 31, 42, 3, 181, 0, 34, 42, 16, 40, 181, 0, 38, 42]
abbrev dktX2_init_2 : List UInt8 := dkwX2_init_2 ++ dktX2_init_3
def dkwX2_init_1 : List UInt8 := [181, 0, 18, 42, 187, 0, 9, 89, 183, 0, 11, 181, 0, 21, 42, 7, 188, 10, 181, 0, 24, 42, 7]
abbrev dktX2_init_1 : List UInt8 := dkwX2_init_1 ++ dktX2_init_2
def dkwX2_init_0 : List UInt8 := [42, 183, 0, 3, 42, 187, 0, 9, 89, 183, 0, 11, 181, 0, 12, 42, 187, 0, 9, 89, 183, 0, 11]
abbrev dktX2_init_0 : List UInt8 := dkwX2_init_0 ++ dktX2_init_1
theorem dksX2_init_0 : cX2_init.data.toList.drop 0 = dktX2_init_0 := by decide +kernel
theorem dksX2_init_1 : cX2_init.data.toList.drop 23 = dktX2_init_1 := dk_seg dksX2_init_0 23 rfl rfl
theorem dksX2_init_2 : cX2_init.data.toList.drop 46 = dktX2_init_2 := dk_seg dksX2_init_1 23 rfl rfl
theorem dksX2_init_3 : cX2_init.data.toList.drop 70 = dktX2_init_3 := dk_seg dksX2_init_2 24 rfl rfl
theorem dX2_init_0 : decode cX2_init 0 = .ok (.aload_n 0, 1) := dk_42 (dk_at dksX2_init_0 0 rfl rfl)
theorem dX2_init_1 : decode cX2_init 1 = .ok (.invokespecial 3, 3) := dk_183 0 3 (dk_at dksX2_init_0 1 rfl rfl)
theorem dX2_init_4 : decode cX2_init 4 = .ok (.aload_n 0, 1) := dk_42 (dk_at dksX2_init_0 4 rfl rfl)
theorem dX2_init_5 : decode cX2_init 5 = .ok (.new 9, 3) := dk_187 0 9 (dk_at dksX2_init_0 5 rfl rfl)
theorem dX2_init_8 : decode cX2_init 8 = .ok (.dup, 1) := dk_89 (dk_at dksX2_init_0 8 rfl rfl)
theorem dX2_init_9 : decode cX2_init 9 = .ok (.invokespecial 11, 3) := dk_183 0 11 (dk_at dksX2_init_0 9 rfl rfl)
theorem dX2_init_12 : decode cX2_init 12 = .ok (.putfield 12, 3) := dk_181 0 12 (dk_at dksX2_init_0 12 rfl rfl)
theorem dX2_init_15 : decode cX2_init 15 = .ok (.aload_n 0, 1) := dk_42 (dk_at dksX2_init_0 15 rfl rfl)
theorem dX2_init_16 : decode cX2_init 16 = .ok (.new 9, 3) := dk_187 0 9 (dk_at dksX2_init_0 16 rfl rfl)
theorem dX2_init_19 : decode cX2_init 19 = .ok (.dup, 1) := dk_89 (dk_at dksX2_init_0 19 rfl rfl)
theorem dX2_init_20 : decode cX2_init 20 = .ok (.invokespecial 11, 3) := dk_183 0 11 (dk_at dksX2_init_0 20 rfl rfl)
theorem dX2_init_23 : decode cX2_init 23 = .ok (.putfield 18, 3) := dk_181 0 18 (dk_at dksX2_init_1 0 rfl rfl)
theorem dX2_init_26 : decode cX2_init 26 = .ok (.aload_n 0, 1) := dk_42 (dk_at dksX2_init_1 3 rfl rfl)
theorem dX2_init_27 : decode cX2_init 27 = .ok (.new 9, 3) := dk_187 0 9 (dk_at dksX2_init_1 4 rfl rfl)
theorem dX2_init_30 : decode cX2_init 30 = .ok (.dup, 1) := dk_89 (dk_at dksX2_init_1 7 rfl rfl)
theorem dX2_init_31 : decode cX2_init 31 = .ok (.invokespecial 11, 3) := dk_183 0 11 (dk_at dksX2_init_1 8 rfl rfl)
theorem dX2_init_34 : decode cX2_init 34 = .ok (.putfield 21, 3) := dk_181 0 21 (dk_at dksX2_init_1 11 rfl rfl)
theorem dX2_init_37 : decode cX2_init 37 = .ok (.aload_n 0, 1) := dk_42 (dk_at dksX2_init_1 14 rfl rfl)
theorem dX2_init_38 : decode cX2_init 38 = .ok (.iconst 4, 1) := dk_7 (dk_at dksX2_init_1 15 rfl rfl)
theorem dX2_init_39 : decode cX2_init 39 = .ok (.newarray .int, 2) := dk_188_10 (dk_at dksX2_init_1 16 rfl rfl)
theorem dX2_init_41 : decode cX2_init 41 = .ok (.putfield 24, 3) := dk_181 0 24 (dk_at dksX2_init_1 18 rfl rfl)
theorem dX2_init_44 : decode cX2_init 44 = .ok (.aload_n 0, 1) := dk_42 (dk_at dksX2_init_1 21 rfl rfl)
theorem dX2_init_45 : decode cX2_init 45 = .ok (.iconst 4, 1) := dk_7 (dk_at dksX2_init_1 22 rfl rfl)
theorem dX2_init_46 : decode cX2_init 46 = .ok (.newarray .int, 2) := dk_188_10 (dk_at dksX2_init_2 0 rfl rfl)
theorem dX2_init_48 : decode cX2_init 48 = .ok (.putfield 28, 3) := dk_181 0 28 (dk_at dksX2_init_2 2 rfl rfl)
theorem dX2_init_51 : decode cX2_init 51 = .ok (.aload_n 0, 1) := dk_42 (dk_at dksX2_init_2 5 rfl rfl)
theorem dX2_init_52 : decode cX2_init 52 = .ok (.iconst 4, 1) := dk_7 (dk_at dksX2_init_2 6 rfl rfl)
theorem dX2_init_53 : decode cX2_init 53 = .ok (.newarray .int, 2) := dk_188_10 (dk_at dksX2_init_2 7 rfl rfl)
theorem dX2_init_55 : decode cX2_init 55 = .ok (.putfield 31, 3) := dk_181 0 31 (dk_at dksX2_init_2 9 rfl rfl)
theorem dX2_init_58 : decode cX2_init 58 = .ok (.aload_n 0, 1) := dk_42 (dk_at dksX2_init_2 12 rfl rfl)
theorem dX2_init_59 : decode cX2_init 59 = .ok (.iconst 0, 1) := dk_3 (dk_at dksX2_init_2 13 rfl rfl)
theorem dX2_init_60 : decode cX2_init 60 = .ok (.putfield 34, 3) := dk_181 0 34 (dk_at dksX2_init_2 14 rfl rfl)
theorem dX2_init_63 : decode cX2_init 63 = .ok (.aload_n 0, 1) := dk_42 (dk_at dksX2_init_2 17 rfl rfl)
theorem dX2_init_64 : decode cX2_init 64 = .ok (.bipush 40, 2) := dk_16 40 (dk_at dksX2_init_2 18 rfl rfl)
theorem dX2_init_66 : decode cX2_init 66 = .ok (.putfield 38, 3) := dk_181 0 38 (dk_at dksX2_init_2 20 rfl rfl)
theorem dX2_init_69 : decode cX2_init 69 = .ok (.aload_n 0, 1) := dk_42 (dk_at dksX2_init_2 23 rfl rfl)
theorem dX2_init_70 : decode cX2_init 70 = .ok (.iconst 5, 1) := dk_8 (dk_at dksX2_init_3 0 rfl rfl)
theorem dX2_init_71 : decode cX2_init 71 = .ok (.putfield 41, 3) := dk_181 0 41 (dk_at dksX2_init_3 1 rfl rfl)
theorem dX2_init_74 : decode cX2_init 74 = .ok (.return_, 1) := dk_177 (dk_at dksX2_init_3 4 rfl rfl)
abbrev cX2_inYard : ByteArray := prog_5_method_14_code
def yX2_inYard : MethodName := ⟨RX2, "inYard", "()I"⟩
def dkwX2_inYard_2 : List UInt8 := [172]
abbrev dktX2_inYard_2 : List UInt8 := dkwX2_inYard_2 ++ []
def dkwX2_inYard_1 : List UInt8 := [192, 0, 68, 180, 0, 136, 5, 160, 0, 7, 4, 167, 0, 4, 3, 96, 60, 132, 2, 1, 167, 255, 216, 27]
abbrev dktX2_inYard_1 : List UInt8 := dkwX2_inYard_1 ++ dktX2_inYard_2
def dkwX2_inYard_0 : List UInt8 := [3, 60, 3, 61, 28, 42, 180, 0, 21, 182, 0, 45, 162, 0, 35, 27, 42, 180, 0, 21, 28, 182, 0, 49]
abbrev dktX2_inYard_0 : List UInt8 := dkwX2_inYard_0 ++ dktX2_inYard_1
theorem dksX2_inYard_0 : cX2_inYard.data.toList.drop 0 = dktX2_inYard_0 := by decide +kernel
theorem dksX2_inYard_1 : cX2_inYard.data.toList.drop 24 = dktX2_inYard_1 := dk_seg dksX2_inYard_0 24 rfl rfl
theorem dksX2_inYard_2 : cX2_inYard.data.toList.drop 48 = dktX2_inYard_2 := dk_seg dksX2_inYard_1 24 rfl rfl
theorem dX2_inYard_0 : decode cX2_inYard 0 = .ok (.iconst 0, 1) := dk_3 (dk_at dksX2_inYard_0 0 rfl rfl)
theorem dX2_inYard_1 : decode cX2_inYard 1 = .ok (.istore_n 1, 1) := dk_60 (dk_at dksX2_inYard_0 1 rfl rfl)
theorem dX2_inYard_2 : decode cX2_inYard 2 = .ok (.iconst 0, 1) := dk_3 (dk_at dksX2_inYard_0 2 rfl rfl)
theorem dX2_inYard_3 : decode cX2_inYard 3 = .ok (.istore_n 2, 1) := dk_61 (dk_at dksX2_inYard_0 3 rfl rfl)
theorem dX2_inYard_4 : decode cX2_inYard 4 = .ok (.iload_n 2, 1) := dk_28 (dk_at dksX2_inYard_0 4 rfl rfl)
theorem dX2_inYard_5 : decode cX2_inYard 5 = .ok (.aload_n 0, 1) := dk_42 (dk_at dksX2_inYard_0 5 rfl rfl)
theorem dX2_inYard_6 : decode cX2_inYard 6 = .ok (.getfield 21, 3) := dk_180 0 21 (dk_at dksX2_inYard_0 6 rfl rfl)
theorem dX2_inYard_9 : decode cX2_inYard 9 = .ok (.invokevirtual 45, 3) := dk_182 0 45 (dk_at dksX2_inYard_0 9 rfl rfl)
theorem dX2_inYard_12 : decode cX2_inYard 12 = .ok (.if_icmp .ge 35, 3) := dk_162 0 35 (dk_at dksX2_inYard_0 12 rfl rfl)
theorem dX2_inYard_15 : decode cX2_inYard 15 = .ok (.iload_n 1, 1) := dk_27 (dk_at dksX2_inYard_0 15 rfl rfl)
theorem dX2_inYard_16 : decode cX2_inYard 16 = .ok (.aload_n 0, 1) := dk_42 (dk_at dksX2_inYard_0 16 rfl rfl)
theorem dX2_inYard_17 : decode cX2_inYard 17 = .ok (.getfield 21, 3) := dk_180 0 21 (dk_at dksX2_inYard_0 17 rfl rfl)
theorem dX2_inYard_20 : decode cX2_inYard 20 = .ok (.iload_n 2, 1) := dk_28 (dk_at dksX2_inYard_0 20 rfl rfl)
theorem dX2_inYard_21 : decode cX2_inYard 21 = .ok (.invokevirtual 49, 3) := dk_182 0 49 (dk_at dksX2_inYard_0 21 rfl rfl)
theorem dX2_inYard_24 : decode cX2_inYard 24 = .ok (.checkcast 68, 3) := dk_192 0 68 (dk_at dksX2_inYard_1 0 rfl rfl)
theorem dX2_inYard_27 : decode cX2_inYard 27 = .ok (.getfield 136, 3) := dk_180 0 136 (dk_at dksX2_inYard_1 3 rfl rfl)
theorem dX2_inYard_30 : decode cX2_inYard 30 = .ok (.iconst 2, 1) := dk_5 (dk_at dksX2_inYard_1 6 rfl rfl)
theorem dX2_inYard_31 : decode cX2_inYard 31 = .ok (.if_icmp .ne 7, 3) := dk_160 0 7 (dk_at dksX2_inYard_1 7 rfl rfl)
theorem dX2_inYard_34 : decode cX2_inYard 34 = .ok (.iconst 1, 1) := dk_4 (dk_at dksX2_inYard_1 10 rfl rfl)
theorem dX2_inYard_35 : decode cX2_inYard 35 = .ok (.goto 4, 3) := dk_167 0 4 (dk_at dksX2_inYard_1 11 rfl rfl)
theorem dX2_inYard_38 : decode cX2_inYard 38 = .ok (.iconst 0, 1) := dk_3 (dk_at dksX2_inYard_1 14 rfl rfl)
theorem dX2_inYard_39 : decode cX2_inYard 39 = .ok (.iadd, 1) := dk_96 (dk_at dksX2_inYard_1 15 rfl rfl)
theorem dX2_inYard_40 : decode cX2_inYard 40 = .ok (.istore_n 1, 1) := dk_60 (dk_at dksX2_inYard_1 16 rfl rfl)
theorem dX2_inYard_41 : decode cX2_inYard 41 = .ok (.iinc 2 1, 3) := dk_132 2 1 (dk_at dksX2_inYard_1 17 rfl rfl)
theorem dX2_inYard_44 : decode cX2_inYard 44 = .ok (.goto (-40), 3) := dk_167 255 216 (dk_at dksX2_inYard_1 20 rfl rfl)
theorem dX2_inYard_47 : decode cX2_inYard 47 = .ok (.iload_n 1, 1) := dk_27 (dk_at dksX2_inYard_1 23 rfl rfl)
theorem dX2_inYard_48 : decode cX2_inYard 48 = .ok (.ireturn, 1) := dk_172 (dk_at dksX2_inYard_2 0 rfl rfl)
abbrev cX2_endFields : ByteArray := prog_5_method_13_code
def yX2_endFields : MethodName := ⟨RX2, "endFields", "(II)V"⟩
def dkwX2_endFields_4 : List UInt8 := [167, 255, 211, 177]
abbrev dktX2_endFields_4 : List UInt8 := dkwX2_endFields_4 ++ []
def dkwX2_endFields_3 : List UInt8 := [192, 0, 53, 27, 28, 45, 21, 4, 46, 45, 21, 4, 5, 96, 46, 184, 0, 100, 182, 0, 205, 132, 4, 1]
abbrev dktX2_endFields_3 : List UInt8 := dkwX2_endFields_3 ++ dktX2_endFields_4
def dkwX2_endFields_2 : List UInt8 := [54, 4, 21, 4, 42, 180, 0, 12, 182, 0, 45, 162, 0, 39, 42, 180, 0, 12, 21, 4, 182, 0, 49]
abbrev dktX2_endFields_2 : List UInt8 := dkwX2_endFields_2 ++ dktX2_endFields_3
def dkwX2_endFields_1 : List UInt8 := [96, 42, 180, 0, 12, 21, 4, 182, 0, 49, 192, 0, 53, 180, 0, 202, 79, 132, 4, 1, 167, 255, 220, 3]
abbrev dktX2_endFields_1 : List UInt8 := dkwX2_endFields_1 ++ dktX2_endFields_2
def dkwX2_endFields_0 : List UInt8 := [16, 12, 188, 10, 78, 3, 54, 4, 21, 4, 42, 180, 0, 12, 182, 0, 45, 162, 0, 30, 45, 21, 4, 4]
abbrev dktX2_endFields_0 : List UInt8 := dkwX2_endFields_0 ++ dktX2_endFields_1
theorem dksX2_endFields_0 : cX2_endFields.data.toList.drop 0 = dktX2_endFields_0 := by decide +kernel
theorem dksX2_endFields_1 : cX2_endFields.data.toList.drop 24 = dktX2_endFields_1 := dk_seg dksX2_endFields_0 24 rfl rfl
theorem dksX2_endFields_2 : cX2_endFields.data.toList.drop 48 = dktX2_endFields_2 := dk_seg dksX2_endFields_1 24 rfl rfl
theorem dksX2_endFields_3 : cX2_endFields.data.toList.drop 71 = dktX2_endFields_3 := dk_seg dksX2_endFields_2 23 rfl rfl
theorem dksX2_endFields_4 : cX2_endFields.data.toList.drop 95 = dktX2_endFields_4 := dk_seg dksX2_endFields_3 24 rfl rfl
theorem dX2_endFields_0 : decode cX2_endFields 0 = .ok (.bipush 12, 2) := dk_16 12 (dk_at dksX2_endFields_0 0 rfl rfl)
theorem dX2_endFields_2 : decode cX2_endFields 2 = .ok (.newarray .int, 2) := dk_188_10 (dk_at dksX2_endFields_0 2 rfl rfl)
theorem dX2_endFields_4 : decode cX2_endFields 4 = .ok (.astore_n 3, 1) := dk_78 (dk_at dksX2_endFields_0 4 rfl rfl)
theorem dX2_endFields_5 : decode cX2_endFields 5 = .ok (.iconst 0, 1) := dk_3 (dk_at dksX2_endFields_0 5 rfl rfl)
theorem dX2_endFields_6 : decode cX2_endFields 6 = .ok (.istore 4, 2) := dk_54 4 (dk_at dksX2_endFields_0 6 rfl rfl)
theorem dX2_endFields_8 : decode cX2_endFields 8 = .ok (.iload 4, 2) := dk_21 4 (dk_at dksX2_endFields_0 8 rfl rfl)
theorem dX2_endFields_10 : decode cX2_endFields 10 = .ok (.aload_n 0, 1) := dk_42 (dk_at dksX2_endFields_0 10 rfl rfl)
theorem dX2_endFields_11 : decode cX2_endFields 11 = .ok (.getfield 12, 3) := dk_180 0 12 (dk_at dksX2_endFields_0 11 rfl rfl)
theorem dX2_endFields_14 : decode cX2_endFields 14 = .ok (.invokevirtual 45, 3) := dk_182 0 45 (dk_at dksX2_endFields_0 14 rfl rfl)
theorem dX2_endFields_17 : decode cX2_endFields 17 = .ok (.if_icmp .ge 30, 3) := dk_162 0 30 (dk_at dksX2_endFields_0 17 rfl rfl)
theorem dX2_endFields_20 : decode cX2_endFields 20 = .ok (.aload_n 3, 1) := dk_45 (dk_at dksX2_endFields_0 20 rfl rfl)
theorem dX2_endFields_21 : decode cX2_endFields 21 = .ok (.iload 4, 2) := dk_21 4 (dk_at dksX2_endFields_0 21 rfl rfl)
theorem dX2_endFields_23 : decode cX2_endFields 23 = .ok (.iconst 1, 1) := dk_4 (dk_at dksX2_endFields_0 23 rfl rfl)
theorem dX2_endFields_24 : decode cX2_endFields 24 = .ok (.iadd, 1) := dk_96 (dk_at dksX2_endFields_1 0 rfl rfl)
theorem dX2_endFields_25 : decode cX2_endFields 25 = .ok (.aload_n 0, 1) := dk_42 (dk_at dksX2_endFields_1 1 rfl rfl)
theorem dX2_endFields_26 : decode cX2_endFields 26 = .ok (.getfield 12, 3) := dk_180 0 12 (dk_at dksX2_endFields_1 2 rfl rfl)
theorem dX2_endFields_29 : decode cX2_endFields 29 = .ok (.iload 4, 2) := dk_21 4 (dk_at dksX2_endFields_1 5 rfl rfl)
theorem dX2_endFields_31 : decode cX2_endFields 31 = .ok (.invokevirtual 49, 3) := dk_182 0 49 (dk_at dksX2_endFields_1 7 rfl rfl)
theorem dX2_endFields_34 : decode cX2_endFields 34 = .ok (.checkcast 53, 3) := dk_192 0 53 (dk_at dksX2_endFields_1 10 rfl rfl)
theorem dX2_endFields_37 : decode cX2_endFields 37 = .ok (.getfield 202, 3) := dk_180 0 202 (dk_at dksX2_endFields_1 13 rfl rfl)
theorem dX2_endFields_40 : decode cX2_endFields 40 = .ok (.iastore, 1) := dk_79 (dk_at dksX2_endFields_1 16 rfl rfl)
theorem dX2_endFields_41 : decode cX2_endFields 41 = .ok (.iinc 4 1, 3) := dk_132 4 1 (dk_at dksX2_endFields_1 17 rfl rfl)
theorem dX2_endFields_44 : decode cX2_endFields 44 = .ok (.goto (-36), 3) := dk_167 255 220 (dk_at dksX2_endFields_1 20 rfl rfl)
theorem dX2_endFields_47 : decode cX2_endFields 47 = .ok (.iconst 0, 1) := dk_3 (dk_at dksX2_endFields_1 23 rfl rfl)
theorem dX2_endFields_48 : decode cX2_endFields 48 = .ok (.istore 4, 2) := dk_54 4 (dk_at dksX2_endFields_2 0 rfl rfl)
theorem dX2_endFields_50 : decode cX2_endFields 50 = .ok (.iload 4, 2) := dk_21 4 (dk_at dksX2_endFields_2 2 rfl rfl)
theorem dX2_endFields_52 : decode cX2_endFields 52 = .ok (.aload_n 0, 1) := dk_42 (dk_at dksX2_endFields_2 4 rfl rfl)
theorem dX2_endFields_53 : decode cX2_endFields 53 = .ok (.getfield 12, 3) := dk_180 0 12 (dk_at dksX2_endFields_2 5 rfl rfl)
theorem dX2_endFields_56 : decode cX2_endFields 56 = .ok (.invokevirtual 45, 3) := dk_182 0 45 (dk_at dksX2_endFields_2 8 rfl rfl)
theorem dX2_endFields_59 : decode cX2_endFields 59 = .ok (.if_icmp .ge 39, 3) := dk_162 0 39 (dk_at dksX2_endFields_2 11 rfl rfl)
theorem dX2_endFields_62 : decode cX2_endFields 62 = .ok (.aload_n 0, 1) := dk_42 (dk_at dksX2_endFields_2 14 rfl rfl)
theorem dX2_endFields_63 : decode cX2_endFields 63 = .ok (.getfield 12, 3) := dk_180 0 12 (dk_at dksX2_endFields_2 15 rfl rfl)
theorem dX2_endFields_66 : decode cX2_endFields 66 = .ok (.iload 4, 2) := dk_21 4 (dk_at dksX2_endFields_2 18 rfl rfl)
theorem dX2_endFields_68 : decode cX2_endFields 68 = .ok (.invokevirtual 49, 3) := dk_182 0 49 (dk_at dksX2_endFields_2 20 rfl rfl)
theorem dX2_endFields_71 : decode cX2_endFields 71 = .ok (.checkcast 53, 3) := dk_192 0 53 (dk_at dksX2_endFields_3 0 rfl rfl)
theorem dX2_endFields_74 : decode cX2_endFields 74 = .ok (.iload_n 1, 1) := dk_27 (dk_at dksX2_endFields_3 3 rfl rfl)
theorem dX2_endFields_75 : decode cX2_endFields 75 = .ok (.iload_n 2, 1) := dk_28 (dk_at dksX2_endFields_3 4 rfl rfl)
theorem dX2_endFields_76 : decode cX2_endFields 76 = .ok (.aload_n 3, 1) := dk_45 (dk_at dksX2_endFields_3 5 rfl rfl)
theorem dX2_endFields_77 : decode cX2_endFields 77 = .ok (.iload 4, 2) := dk_21 4 (dk_at dksX2_endFields_3 6 rfl rfl)
theorem dX2_endFields_79 : decode cX2_endFields 79 = .ok (.iaload, 1) := dk_46 (dk_at dksX2_endFields_3 8 rfl rfl)
theorem dX2_endFields_80 : decode cX2_endFields 80 = .ok (.aload_n 3, 1) := dk_45 (dk_at dksX2_endFields_3 9 rfl rfl)
theorem dX2_endFields_81 : decode cX2_endFields 81 = .ok (.iload 4, 2) := dk_21 4 (dk_at dksX2_endFields_3 10 rfl rfl)
theorem dX2_endFields_83 : decode cX2_endFields 83 = .ok (.iconst 2, 1) := dk_5 (dk_at dksX2_endFields_3 12 rfl rfl)
theorem dX2_endFields_84 : decode cX2_endFields 84 = .ok (.iadd, 1) := dk_96 (dk_at dksX2_endFields_3 13 rfl rfl)
theorem dX2_endFields_85 : decode cX2_endFields 85 = .ok (.iaload, 1) := dk_46 (dk_at dksX2_endFields_3 14 rfl rfl)
theorem dX2_endFields_86 : decode cX2_endFields 86 = .ok (.invokestatic 100, 3) := dk_184 0 100 (dk_at dksX2_endFields_3 15 rfl rfl)
theorem dX2_endFields_89 : decode cX2_endFields 89 = .ok (.invokevirtual 205, 3) := dk_182 0 205 (dk_at dksX2_endFields_3 18 rfl rfl)
theorem dX2_endFields_92 : decode cX2_endFields 92 = .ok (.iinc 4 1, 3) := dk_132 4 1 (dk_at dksX2_endFields_3 21 rfl rfl)
theorem dX2_endFields_95 : decode cX2_endFields 95 = .ok (.goto (-45), 3) := dk_167 255 211 (dk_at dksX2_endFields_4 0 rfl rfl)
theorem dX2_endFields_98 : decode cX2_endFields 98 = .ok (.return_, 1) := dk_177 (dk_at dksX2_endFields_4 3 rfl rfl)
abbrev cX2_copy : ByteArray := prog_5_method_2_code
def yX2_copy : MethodName := ⟨RX2, "copy", "()LCanecrush$Works;"⟩
def dkwX2_copy_9 : List UInt8 := [181, 0, 94, 43, 42, 180, 0, 97, 181, 0, 97, 43, 176]
abbrev dktX2_copy_9 : List UInt8 := dkwX2_copy_9 ++ []
def dkwX2_copy_8 : List UInt8 := [181, 0, 38, 43, 42, 180, 0, 41, 181, 0, 41, 43, 42, 180, 0, 91, 181, 0, 91, 43, 42, 180, 0, 94]
abbrev dktX2_copy_8 : List UInt8 := dkwX2_copy_8 ++ dktX2_copy_9
def dkwX2_copy_7 : List UInt8 := [181, 0, 34, 43, 42, 180, 0, 85, 181, 0, 85, 43, 42, 180, 0, 88, 181, 0, 88, 43, 42, 180, 0, 38]
abbrev dktX2_copy_7 : List UInt8 := dkwX2_copy_7 ++ dktX2_copy_8
def dkwX2_copy_6 : List UInt8 := [184, 0, 73, 43, 42, 180, 0, 79, 181, 0, 79, 43, 42, 180, 0, 82, 181, 0, 82, 43, 42, 180, 0, 34]
abbrev dktX2_copy_6 : List UInt8 := dkwX2_copy_6 ++ dktX2_copy_7
def dkwX2_copy_5 : List UInt8 := [182, 0, 70, 182, 0, 59, 87, 132, 2, 1, 167, 255, 220, 42, 180, 0, 24, 3, 43, 180, 0, 24, 3, 7]
abbrev dktX2_copy_5 : List UInt8 := dkwX2_copy_5 ++ dktX2_copy_6
def dkwX2_copy_4 : List UInt8 := [180, 0, 21, 182, 0, 45, 162, 0, 31, 43, 180, 0, 21, 42, 180, 0, 21, 28, 182, 0, 49, 192, 0, 68]
abbrev dktX2_copy_4 : List UInt8 := dkwX2_copy_4 ++ dktX2_copy_5
def dkwX2_copy_3 : List UInt8 := [28, 182, 0, 49, 192, 0, 63, 182, 0, 65, 182, 0, 59, 87, 132, 2, 1, 167, 255, 220, 3, 61, 28, 42]
abbrev dktX2_copy_3 : List UInt8 := dkwX2_copy_3 ++ dktX2_copy_4
def dkwX2_copy_2 : List UInt8 := [167, 255, 220, 3, 61, 28, 42, 180, 0, 18, 182, 0, 45, 162, 0, 31, 43, 180, 0, 18, 42, 180, 0, 18]
abbrev dktX2_copy_2 : List UInt8 := dkwX2_copy_2 ++ dktX2_copy_3
def dkwX2_copy_1 : List UInt8 := [180, 0, 12, 42, 180, 0, 12, 28, 182, 0, 49, 192, 0, 53, 182, 0, 55, 182, 0, 59, 87, 132, 2, 1]
abbrev dktX2_copy_1 : List UInt8 := dkwX2_copy_1 ++ dktX2_copy_2
def dkwX2_copy_0 : List UInt8 := [187, 0, 13, 89, 183, 0, 44, 76, 3, 61, 28, 42, 180, 0, 12, 182, 0, 45, 162, 0, 31, 43]
abbrev dktX2_copy_0 : List UInt8 := dkwX2_copy_0 ++ dktX2_copy_1
theorem dksX2_copy_0 : cX2_copy.data.toList.drop 0 = dktX2_copy_0 := by decide +kernel
theorem dksX2_copy_1 : cX2_copy.data.toList.drop 22 = dktX2_copy_1 := dk_seg dksX2_copy_0 22 rfl rfl
theorem dksX2_copy_2 : cX2_copy.data.toList.drop 46 = dktX2_copy_2 := dk_seg dksX2_copy_1 24 rfl rfl
theorem dksX2_copy_3 : cX2_copy.data.toList.drop 70 = dktX2_copy_3 := dk_seg dksX2_copy_2 24 rfl rfl
theorem dksX2_copy_4 : cX2_copy.data.toList.drop 94 = dktX2_copy_4 := dk_seg dksX2_copy_3 24 rfl rfl
theorem dksX2_copy_5 : cX2_copy.data.toList.drop 118 = dktX2_copy_5 := dk_seg dksX2_copy_4 24 rfl rfl
theorem dksX2_copy_6 : cX2_copy.data.toList.drop 142 = dktX2_copy_6 := dk_seg dksX2_copy_5 24 rfl rfl
theorem dksX2_copy_7 : cX2_copy.data.toList.drop 166 = dktX2_copy_7 := dk_seg dksX2_copy_6 24 rfl rfl
theorem dksX2_copy_8 : cX2_copy.data.toList.drop 190 = dktX2_copy_8 := dk_seg dksX2_copy_7 24 rfl rfl
theorem dksX2_copy_9 : cX2_copy.data.toList.drop 214 = dktX2_copy_9 := dk_seg dksX2_copy_8 24 rfl rfl
theorem dX2_copy_0 : decode cX2_copy 0 = .ok (.new 13, 3) := dk_187 0 13 (dk_at dksX2_copy_0 0 rfl rfl)
theorem dX2_copy_3 : decode cX2_copy 3 = .ok (.dup, 1) := dk_89 (dk_at dksX2_copy_0 3 rfl rfl)
theorem dX2_copy_4 : decode cX2_copy 4 = .ok (.invokespecial 44, 3) := dk_183 0 44 (dk_at dksX2_copy_0 4 rfl rfl)
theorem dX2_copy_7 : decode cX2_copy 7 = .ok (.astore_n 1, 1) := dk_76 (dk_at dksX2_copy_0 7 rfl rfl)
theorem dX2_copy_8 : decode cX2_copy 8 = .ok (.iconst 0, 1) := dk_3 (dk_at dksX2_copy_0 8 rfl rfl)
theorem dX2_copy_9 : decode cX2_copy 9 = .ok (.istore_n 2, 1) := dk_61 (dk_at dksX2_copy_0 9 rfl rfl)
theorem dX2_copy_10 : decode cX2_copy 10 = .ok (.iload_n 2, 1) := dk_28 (dk_at dksX2_copy_0 10 rfl rfl)
theorem dX2_copy_11 : decode cX2_copy 11 = .ok (.aload_n 0, 1) := dk_42 (dk_at dksX2_copy_0 11 rfl rfl)
theorem dX2_copy_12 : decode cX2_copy 12 = .ok (.getfield 12, 3) := dk_180 0 12 (dk_at dksX2_copy_0 12 rfl rfl)
theorem dX2_copy_15 : decode cX2_copy 15 = .ok (.invokevirtual 45, 3) := dk_182 0 45 (dk_at dksX2_copy_0 15 rfl rfl)
theorem dX2_copy_18 : decode cX2_copy 18 = .ok (.if_icmp .ge 31, 3) := dk_162 0 31 (dk_at dksX2_copy_0 18 rfl rfl)
theorem dX2_copy_21 : decode cX2_copy 21 = .ok (.aload_n 1, 1) := dk_43 (dk_at dksX2_copy_0 21 rfl rfl)
theorem dX2_copy_22 : decode cX2_copy 22 = .ok (.getfield 12, 3) := dk_180 0 12 (dk_at dksX2_copy_1 0 rfl rfl)
theorem dX2_copy_25 : decode cX2_copy 25 = .ok (.aload_n 0, 1) := dk_42 (dk_at dksX2_copy_1 3 rfl rfl)
theorem dX2_copy_26 : decode cX2_copy 26 = .ok (.getfield 12, 3) := dk_180 0 12 (dk_at dksX2_copy_1 4 rfl rfl)
theorem dX2_copy_29 : decode cX2_copy 29 = .ok (.iload_n 2, 1) := dk_28 (dk_at dksX2_copy_1 7 rfl rfl)
theorem dX2_copy_30 : decode cX2_copy 30 = .ok (.invokevirtual 49, 3) := dk_182 0 49 (dk_at dksX2_copy_1 8 rfl rfl)
theorem dX2_copy_33 : decode cX2_copy 33 = .ok (.checkcast 53, 3) := dk_192 0 53 (dk_at dksX2_copy_1 11 rfl rfl)
theorem dX2_copy_36 : decode cX2_copy 36 = .ok (.invokevirtual 55, 3) := dk_182 0 55 (dk_at dksX2_copy_1 14 rfl rfl)
theorem dX2_copy_39 : decode cX2_copy 39 = .ok (.invokevirtual 59, 3) := dk_182 0 59 (dk_at dksX2_copy_1 17 rfl rfl)
theorem dX2_copy_42 : decode cX2_copy 42 = .ok (.pop, 1) := dk_87 (dk_at dksX2_copy_1 20 rfl rfl)
theorem dX2_copy_43 : decode cX2_copy 43 = .ok (.iinc 2 1, 3) := dk_132 2 1 (dk_at dksX2_copy_1 21 rfl rfl)
theorem dX2_copy_46 : decode cX2_copy 46 = .ok (.goto (-36), 3) := dk_167 255 220 (dk_at dksX2_copy_2 0 rfl rfl)
theorem dX2_copy_49 : decode cX2_copy 49 = .ok (.iconst 0, 1) := dk_3 (dk_at dksX2_copy_2 3 rfl rfl)
theorem dX2_copy_50 : decode cX2_copy 50 = .ok (.istore_n 2, 1) := dk_61 (dk_at dksX2_copy_2 4 rfl rfl)
theorem dX2_copy_51 : decode cX2_copy 51 = .ok (.iload_n 2, 1) := dk_28 (dk_at dksX2_copy_2 5 rfl rfl)
theorem dX2_copy_52 : decode cX2_copy 52 = .ok (.aload_n 0, 1) := dk_42 (dk_at dksX2_copy_2 6 rfl rfl)
theorem dX2_copy_53 : decode cX2_copy 53 = .ok (.getfield 18, 3) := dk_180 0 18 (dk_at dksX2_copy_2 7 rfl rfl)
theorem dX2_copy_56 : decode cX2_copy 56 = .ok (.invokevirtual 45, 3) := dk_182 0 45 (dk_at dksX2_copy_2 10 rfl rfl)
theorem dX2_copy_59 : decode cX2_copy 59 = .ok (.if_icmp .ge 31, 3) := dk_162 0 31 (dk_at dksX2_copy_2 13 rfl rfl)
theorem dX2_copy_62 : decode cX2_copy 62 = .ok (.aload_n 1, 1) := dk_43 (dk_at dksX2_copy_2 16 rfl rfl)
theorem dX2_copy_63 : decode cX2_copy 63 = .ok (.getfield 18, 3) := dk_180 0 18 (dk_at dksX2_copy_2 17 rfl rfl)
theorem dX2_copy_66 : decode cX2_copy 66 = .ok (.aload_n 0, 1) := dk_42 (dk_at dksX2_copy_2 20 rfl rfl)
theorem dX2_copy_67 : decode cX2_copy 67 = .ok (.getfield 18, 3) := dk_180 0 18 (dk_at dksX2_copy_2 21 rfl rfl)
theorem dX2_copy_70 : decode cX2_copy 70 = .ok (.iload_n 2, 1) := dk_28 (dk_at dksX2_copy_3 0 rfl rfl)
theorem dX2_copy_71 : decode cX2_copy 71 = .ok (.invokevirtual 49, 3) := dk_182 0 49 (dk_at dksX2_copy_3 1 rfl rfl)
theorem dX2_copy_74 : decode cX2_copy 74 = .ok (.checkcast 63, 3) := dk_192 0 63 (dk_at dksX2_copy_3 4 rfl rfl)
theorem dX2_copy_77 : decode cX2_copy 77 = .ok (.invokevirtual 65, 3) := dk_182 0 65 (dk_at dksX2_copy_3 7 rfl rfl)
theorem dX2_copy_80 : decode cX2_copy 80 = .ok (.invokevirtual 59, 3) := dk_182 0 59 (dk_at dksX2_copy_3 10 rfl rfl)
theorem dX2_copy_83 : decode cX2_copy 83 = .ok (.pop, 1) := dk_87 (dk_at dksX2_copy_3 13 rfl rfl)
theorem dX2_copy_84 : decode cX2_copy 84 = .ok (.iinc 2 1, 3) := dk_132 2 1 (dk_at dksX2_copy_3 14 rfl rfl)
theorem dX2_copy_87 : decode cX2_copy 87 = .ok (.goto (-36), 3) := dk_167 255 220 (dk_at dksX2_copy_3 17 rfl rfl)
theorem dX2_copy_90 : decode cX2_copy 90 = .ok (.iconst 0, 1) := dk_3 (dk_at dksX2_copy_3 20 rfl rfl)
theorem dX2_copy_91 : decode cX2_copy 91 = .ok (.istore_n 2, 1) := dk_61 (dk_at dksX2_copy_3 21 rfl rfl)
theorem dX2_copy_92 : decode cX2_copy 92 = .ok (.iload_n 2, 1) := dk_28 (dk_at dksX2_copy_3 22 rfl rfl)
theorem dX2_copy_93 : decode cX2_copy 93 = .ok (.aload_n 0, 1) := dk_42 (dk_at dksX2_copy_3 23 rfl rfl)
theorem dX2_copy_94 : decode cX2_copy 94 = .ok (.getfield 21, 3) := dk_180 0 21 (dk_at dksX2_copy_4 0 rfl rfl)
theorem dX2_copy_97 : decode cX2_copy 97 = .ok (.invokevirtual 45, 3) := dk_182 0 45 (dk_at dksX2_copy_4 3 rfl rfl)
theorem dX2_copy_100 : decode cX2_copy 100 = .ok (.if_icmp .ge 31, 3) := dk_162 0 31 (dk_at dksX2_copy_4 6 rfl rfl)
theorem dX2_copy_103 : decode cX2_copy 103 = .ok (.aload_n 1, 1) := dk_43 (dk_at dksX2_copy_4 9 rfl rfl)
theorem dX2_copy_104 : decode cX2_copy 104 = .ok (.getfield 21, 3) := dk_180 0 21 (dk_at dksX2_copy_4 10 rfl rfl)
theorem dX2_copy_107 : decode cX2_copy 107 = .ok (.aload_n 0, 1) := dk_42 (dk_at dksX2_copy_4 13 rfl rfl)
theorem dX2_copy_108 : decode cX2_copy 108 = .ok (.getfield 21, 3) := dk_180 0 21 (dk_at dksX2_copy_4 14 rfl rfl)
theorem dX2_copy_111 : decode cX2_copy 111 = .ok (.iload_n 2, 1) := dk_28 (dk_at dksX2_copy_4 17 rfl rfl)
theorem dX2_copy_112 : decode cX2_copy 112 = .ok (.invokevirtual 49, 3) := dk_182 0 49 (dk_at dksX2_copy_4 18 rfl rfl)
theorem dX2_copy_115 : decode cX2_copy 115 = .ok (.checkcast 68, 3) := dk_192 0 68 (dk_at dksX2_copy_4 21 rfl rfl)
theorem dX2_copy_118 : decode cX2_copy 118 = .ok (.invokevirtual 70, 3) := dk_182 0 70 (dk_at dksX2_copy_5 0 rfl rfl)
theorem dX2_copy_121 : decode cX2_copy 121 = .ok (.invokevirtual 59, 3) := dk_182 0 59 (dk_at dksX2_copy_5 3 rfl rfl)
theorem dX2_copy_124 : decode cX2_copy 124 = .ok (.pop, 1) := dk_87 (dk_at dksX2_copy_5 6 rfl rfl)
theorem dX2_copy_125 : decode cX2_copy 125 = .ok (.iinc 2 1, 3) := dk_132 2 1 (dk_at dksX2_copy_5 7 rfl rfl)
theorem dX2_copy_128 : decode cX2_copy 128 = .ok (.goto (-36), 3) := dk_167 255 220 (dk_at dksX2_copy_5 10 rfl rfl)
theorem dX2_copy_131 : decode cX2_copy 131 = .ok (.aload_n 0, 1) := dk_42 (dk_at dksX2_copy_5 13 rfl rfl)
theorem dX2_copy_132 : decode cX2_copy 132 = .ok (.getfield 24, 3) := dk_180 0 24 (dk_at dksX2_copy_5 14 rfl rfl)
theorem dX2_copy_135 : decode cX2_copy 135 = .ok (.iconst 0, 1) := dk_3 (dk_at dksX2_copy_5 17 rfl rfl)
theorem dX2_copy_136 : decode cX2_copy 136 = .ok (.aload_n 1, 1) := dk_43 (dk_at dksX2_copy_5 18 rfl rfl)
theorem dX2_copy_137 : decode cX2_copy 137 = .ok (.getfield 24, 3) := dk_180 0 24 (dk_at dksX2_copy_5 19 rfl rfl)
theorem dX2_copy_140 : decode cX2_copy 140 = .ok (.iconst 0, 1) := dk_3 (dk_at dksX2_copy_5 22 rfl rfl)
theorem dX2_copy_141 : decode cX2_copy 141 = .ok (.iconst 4, 1) := dk_7 (dk_at dksX2_copy_5 23 rfl rfl)
theorem dX2_copy_142 : decode cX2_copy 142 = .ok (.invokestatic 73, 3) := dk_184 0 73 (dk_at dksX2_copy_6 0 rfl rfl)
theorem dX2_copy_145 : decode cX2_copy 145 = .ok (.aload_n 1, 1) := dk_43 (dk_at dksX2_copy_6 3 rfl rfl)
theorem dX2_copy_146 : decode cX2_copy 146 = .ok (.aload_n 0, 1) := dk_42 (dk_at dksX2_copy_6 4 rfl rfl)
theorem dX2_copy_147 : decode cX2_copy 147 = .ok (.getfield 79, 3) := dk_180 0 79 (dk_at dksX2_copy_6 5 rfl rfl)
theorem dX2_copy_150 : decode cX2_copy 150 = .ok (.putfield 79, 3) := dk_181 0 79 (dk_at dksX2_copy_6 8 rfl rfl)
theorem dX2_copy_153 : decode cX2_copy 153 = .ok (.aload_n 1, 1) := dk_43 (dk_at dksX2_copy_6 11 rfl rfl)
theorem dX2_copy_154 : decode cX2_copy 154 = .ok (.aload_n 0, 1) := dk_42 (dk_at dksX2_copy_6 12 rfl rfl)
theorem dX2_copy_155 : decode cX2_copy 155 = .ok (.getfield 82, 3) := dk_180 0 82 (dk_at dksX2_copy_6 13 rfl rfl)
theorem dX2_copy_158 : decode cX2_copy 158 = .ok (.putfield 82, 3) := dk_181 0 82 (dk_at dksX2_copy_6 16 rfl rfl)
theorem dX2_copy_161 : decode cX2_copy 161 = .ok (.aload_n 1, 1) := dk_43 (dk_at dksX2_copy_6 19 rfl rfl)
theorem dX2_copy_162 : decode cX2_copy 162 = .ok (.aload_n 0, 1) := dk_42 (dk_at dksX2_copy_6 20 rfl rfl)
theorem dX2_copy_163 : decode cX2_copy 163 = .ok (.getfield 34, 3) := dk_180 0 34 (dk_at dksX2_copy_6 21 rfl rfl)
theorem dX2_copy_166 : decode cX2_copy 166 = .ok (.putfield 34, 3) := dk_181 0 34 (dk_at dksX2_copy_7 0 rfl rfl)
theorem dX2_copy_169 : decode cX2_copy 169 = .ok (.aload_n 1, 1) := dk_43 (dk_at dksX2_copy_7 3 rfl rfl)
theorem dX2_copy_170 : decode cX2_copy 170 = .ok (.aload_n 0, 1) := dk_42 (dk_at dksX2_copy_7 4 rfl rfl)
theorem dX2_copy_171 : decode cX2_copy 171 = .ok (.getfield 85, 3) := dk_180 0 85 (dk_at dksX2_copy_7 5 rfl rfl)
theorem dX2_copy_174 : decode cX2_copy 174 = .ok (.putfield 85, 3) := dk_181 0 85 (dk_at dksX2_copy_7 8 rfl rfl)
theorem dX2_copy_177 : decode cX2_copy 177 = .ok (.aload_n 1, 1) := dk_43 (dk_at dksX2_copy_7 11 rfl rfl)
theorem dX2_copy_178 : decode cX2_copy 178 = .ok (.aload_n 0, 1) := dk_42 (dk_at dksX2_copy_7 12 rfl rfl)
theorem dX2_copy_179 : decode cX2_copy 179 = .ok (.getfield 88, 3) := dk_180 0 88 (dk_at dksX2_copy_7 13 rfl rfl)
theorem dX2_copy_182 : decode cX2_copy 182 = .ok (.putfield 88, 3) := dk_181 0 88 (dk_at dksX2_copy_7 16 rfl rfl)
theorem dX2_copy_185 : decode cX2_copy 185 = .ok (.aload_n 1, 1) := dk_43 (dk_at dksX2_copy_7 19 rfl rfl)
theorem dX2_copy_186 : decode cX2_copy 186 = .ok (.aload_n 0, 1) := dk_42 (dk_at dksX2_copy_7 20 rfl rfl)
theorem dX2_copy_187 : decode cX2_copy 187 = .ok (.getfield 38, 3) := dk_180 0 38 (dk_at dksX2_copy_7 21 rfl rfl)
theorem dX2_copy_190 : decode cX2_copy 190 = .ok (.putfield 38, 3) := dk_181 0 38 (dk_at dksX2_copy_8 0 rfl rfl)
theorem dX2_copy_193 : decode cX2_copy 193 = .ok (.aload_n 1, 1) := dk_43 (dk_at dksX2_copy_8 3 rfl rfl)
theorem dX2_copy_194 : decode cX2_copy 194 = .ok (.aload_n 0, 1) := dk_42 (dk_at dksX2_copy_8 4 rfl rfl)
theorem dX2_copy_195 : decode cX2_copy 195 = .ok (.getfield 41, 3) := dk_180 0 41 (dk_at dksX2_copy_8 5 rfl rfl)
theorem dX2_copy_198 : decode cX2_copy 198 = .ok (.putfield 41, 3) := dk_181 0 41 (dk_at dksX2_copy_8 8 rfl rfl)
theorem dX2_copy_201 : decode cX2_copy 201 = .ok (.aload_n 1, 1) := dk_43 (dk_at dksX2_copy_8 11 rfl rfl)
theorem dX2_copy_202 : decode cX2_copy 202 = .ok (.aload_n 0, 1) := dk_42 (dk_at dksX2_copy_8 12 rfl rfl)
theorem dX2_copy_203 : decode cX2_copy 203 = .ok (.getfield 91, 3) := dk_180 0 91 (dk_at dksX2_copy_8 13 rfl rfl)
theorem dX2_copy_206 : decode cX2_copy 206 = .ok (.putfield 91, 3) := dk_181 0 91 (dk_at dksX2_copy_8 16 rfl rfl)
theorem dX2_copy_209 : decode cX2_copy 209 = .ok (.aload_n 1, 1) := dk_43 (dk_at dksX2_copy_8 19 rfl rfl)
theorem dX2_copy_210 : decode cX2_copy 210 = .ok (.aload_n 0, 1) := dk_42 (dk_at dksX2_copy_8 20 rfl rfl)
theorem dX2_copy_211 : decode cX2_copy 211 = .ok (.getfield 94, 3) := dk_180 0 94 (dk_at dksX2_copy_8 21 rfl rfl)
theorem dX2_copy_214 : decode cX2_copy 214 = .ok (.putfield 94, 3) := dk_181 0 94 (dk_at dksX2_copy_9 0 rfl rfl)
theorem dX2_copy_217 : decode cX2_copy 217 = .ok (.aload_n 1, 1) := dk_43 (dk_at dksX2_copy_9 3 rfl rfl)
theorem dX2_copy_218 : decode cX2_copy 218 = .ok (.aload_n 0, 1) := dk_42 (dk_at dksX2_copy_9 4 rfl rfl)
theorem dX2_copy_219 : decode cX2_copy 219 = .ok (.getfield 97, 3) := dk_180 0 97 (dk_at dksX2_copy_9 5 rfl rfl)
theorem dX2_copy_222 : decode cX2_copy 222 = .ok (.putfield 97, 3) := dk_181 0 97 (dk_at dksX2_copy_9 8 rfl rfl)
theorem dX2_copy_225 : decode cX2_copy 225 = .ok (.aload_n 1, 1) := dk_43 (dk_at dksX2_copy_9 11 rfl rfl)
theorem dX2_copy_226 : decode cX2_copy 226 = .ok (.areturn, 1) := dk_176 (dk_at dksX2_copy_9 12 rfl rfl)
abbrev cX2_pass : ByteArray := prog_5_method_4_code
def yX2_pass : MethodName := ⟨RX2, "pass", "(II)I"⟩
def dkwX2_pass_6 : List UInt8 := [182, 0, 123, 62, 42, 180, 0, 79, 16, 24, 112, 154, 0, 9, 42, 27, 28, 182, 0, 126, 29, 172]
abbrev dktX2_pass_6 : List UInt8 := dkwX2_pass_6 ++ []
def dkwX2_pass_5 : List UInt8 := [180, 0, 85, 154, 0, 24, 42, 5, 181, 0, 34, 167, 0, 16, 42, 180, 0, 34, 5, 160, 0, 8, 42]
abbrev dktX2_pass_5 : List UInt8 := dkwX2_pass_5 ++ dktX2_pass_6
def dkwX2_pass_4 : List UInt8 := [167, 255, 227, 3, 62, 42, 180, 0, 34, 4, 160, 0, 28, 42, 89, 180, 0, 85, 4, 100, 181, 0, 85, 42]
abbrev dktX2_pass_4 : List UInt8 := dkwX2_pass_4 ++ dktX2_pass_5
def dkwX2_pass_3 : List UInt8 := [182, 0, 45, 162, 0, 24, 42, 180, 0, 21, 29, 182, 0, 49, 192, 0, 68, 27, 182, 0, 119, 132, 3, 1]
abbrev dktX2_pass_3 : List UInt8 := dkwX2_pass_3 ++ dktX2_pass_4
def dkwX2_pass_2 : List UInt8 := [182, 0, 49, 192, 0, 63, 182, 0, 115, 132, 3, 1, 167, 255, 210, 3, 62, 29, 42, 180, 0, 21]
abbrev dktX2_pass_2 : List UInt8 := dkwX2_pass_2 ++ dktX2_pass_3
def dkwX2_pass_1 : List UInt8 := [180, 0, 18, 29, 182, 0, 49, 192, 0, 63, 180, 0, 112, 153, 0, 18, 42, 42, 180, 0, 18, 29]
abbrev dktX2_pass_1 : List UInt8 := dkwX2_pass_1 ++ dktX2_pass_2
def dkwX2_pass_0 : List UInt8 := [42, 89, 180, 0, 79, 4, 96, 181, 0, 79, 3, 62, 29, 42, 180, 0, 18, 182, 0, 45, 162, 0, 41, 42]
abbrev dktX2_pass_0 : List UInt8 := dkwX2_pass_0 ++ dktX2_pass_1
theorem dksX2_pass_0 : cX2_pass.data.toList.drop 0 = dktX2_pass_0 := by decide +kernel
theorem dksX2_pass_1 : cX2_pass.data.toList.drop 24 = dktX2_pass_1 := dk_seg dksX2_pass_0 24 rfl rfl
theorem dksX2_pass_2 : cX2_pass.data.toList.drop 46 = dktX2_pass_2 := dk_seg dksX2_pass_1 22 rfl rfl
theorem dksX2_pass_3 : cX2_pass.data.toList.drop 68 = dktX2_pass_3 := dk_seg dksX2_pass_2 22 rfl rfl
theorem dksX2_pass_4 : cX2_pass.data.toList.drop 92 = dktX2_pass_4 := dk_seg dksX2_pass_3 24 rfl rfl
theorem dksX2_pass_5 : cX2_pass.data.toList.drop 116 = dktX2_pass_5 := dk_seg dksX2_pass_4 24 rfl rfl
theorem dksX2_pass_6 : cX2_pass.data.toList.drop 139 = dktX2_pass_6 := dk_seg dksX2_pass_5 23 rfl rfl
theorem dX2_pass_0 : decode cX2_pass 0 = .ok (.aload_n 0, 1) := dk_42 (dk_at dksX2_pass_0 0 rfl rfl)
theorem dX2_pass_1 : decode cX2_pass 1 = .ok (.dup, 1) := dk_89 (dk_at dksX2_pass_0 1 rfl rfl)
theorem dX2_pass_2 : decode cX2_pass 2 = .ok (.getfield 79, 3) := dk_180 0 79 (dk_at dksX2_pass_0 2 rfl rfl)
theorem dX2_pass_5 : decode cX2_pass 5 = .ok (.iconst 1, 1) := dk_4 (dk_at dksX2_pass_0 5 rfl rfl)
theorem dX2_pass_6 : decode cX2_pass 6 = .ok (.iadd, 1) := dk_96 (dk_at dksX2_pass_0 6 rfl rfl)
theorem dX2_pass_7 : decode cX2_pass 7 = .ok (.putfield 79, 3) := dk_181 0 79 (dk_at dksX2_pass_0 7 rfl rfl)
theorem dX2_pass_10 : decode cX2_pass 10 = .ok (.iconst 0, 1) := dk_3 (dk_at dksX2_pass_0 10 rfl rfl)
theorem dX2_pass_11 : decode cX2_pass 11 = .ok (.istore_n 3, 1) := dk_62 (dk_at dksX2_pass_0 11 rfl rfl)
theorem dX2_pass_12 : decode cX2_pass 12 = .ok (.iload_n 3, 1) := dk_29 (dk_at dksX2_pass_0 12 rfl rfl)
theorem dX2_pass_13 : decode cX2_pass 13 = .ok (.aload_n 0, 1) := dk_42 (dk_at dksX2_pass_0 13 rfl rfl)
theorem dX2_pass_14 : decode cX2_pass 14 = .ok (.getfield 18, 3) := dk_180 0 18 (dk_at dksX2_pass_0 14 rfl rfl)
theorem dX2_pass_17 : decode cX2_pass 17 = .ok (.invokevirtual 45, 3) := dk_182 0 45 (dk_at dksX2_pass_0 17 rfl rfl)
theorem dX2_pass_20 : decode cX2_pass 20 = .ok (.if_icmp .ge 41, 3) := dk_162 0 41 (dk_at dksX2_pass_0 20 rfl rfl)
theorem dX2_pass_23 : decode cX2_pass 23 = .ok (.aload_n 0, 1) := dk_42 (dk_at dksX2_pass_0 23 rfl rfl)
theorem dX2_pass_24 : decode cX2_pass 24 = .ok (.getfield 18, 3) := dk_180 0 18 (dk_at dksX2_pass_1 0 rfl rfl)
theorem dX2_pass_27 : decode cX2_pass 27 = .ok (.iload_n 3, 1) := dk_29 (dk_at dksX2_pass_1 3 rfl rfl)
theorem dX2_pass_28 : decode cX2_pass 28 = .ok (.invokevirtual 49, 3) := dk_182 0 49 (dk_at dksX2_pass_1 4 rfl rfl)
theorem dX2_pass_31 : decode cX2_pass 31 = .ok (.checkcast 63, 3) := dk_192 0 63 (dk_at dksX2_pass_1 7 rfl rfl)
theorem dX2_pass_34 : decode cX2_pass 34 = .ok (.getfield 112, 3) := dk_180 0 112 (dk_at dksX2_pass_1 10 rfl rfl)
theorem dX2_pass_37 : decode cX2_pass 37 = .ok (.ifCond .eq 18, 3) := dk_153 0 18 (dk_at dksX2_pass_1 13 rfl rfl)
theorem dX2_pass_40 : decode cX2_pass 40 = .ok (.aload_n 0, 1) := dk_42 (dk_at dksX2_pass_1 16 rfl rfl)
theorem dX2_pass_41 : decode cX2_pass 41 = .ok (.aload_n 0, 1) := dk_42 (dk_at dksX2_pass_1 17 rfl rfl)
theorem dX2_pass_42 : decode cX2_pass 42 = .ok (.getfield 18, 3) := dk_180 0 18 (dk_at dksX2_pass_1 18 rfl rfl)
theorem dX2_pass_45 : decode cX2_pass 45 = .ok (.iload_n 3, 1) := dk_29 (dk_at dksX2_pass_1 21 rfl rfl)
theorem dX2_pass_46 : decode cX2_pass 46 = .ok (.invokevirtual 49, 3) := dk_182 0 49 (dk_at dksX2_pass_2 0 rfl rfl)
theorem dX2_pass_49 : decode cX2_pass 49 = .ok (.checkcast 63, 3) := dk_192 0 63 (dk_at dksX2_pass_2 3 rfl rfl)
theorem dX2_pass_52 : decode cX2_pass 52 = .ok (.invokevirtual 115, 3) := dk_182 0 115 (dk_at dksX2_pass_2 6 rfl rfl)
theorem dX2_pass_55 : decode cX2_pass 55 = .ok (.iinc 3 1, 3) := dk_132 3 1 (dk_at dksX2_pass_2 9 rfl rfl)
theorem dX2_pass_58 : decode cX2_pass 58 = .ok (.goto (-46), 3) := dk_167 255 210 (dk_at dksX2_pass_2 12 rfl rfl)
theorem dX2_pass_61 : decode cX2_pass 61 = .ok (.iconst 0, 1) := dk_3 (dk_at dksX2_pass_2 15 rfl rfl)
theorem dX2_pass_62 : decode cX2_pass 62 = .ok (.istore_n 3, 1) := dk_62 (dk_at dksX2_pass_2 16 rfl rfl)
theorem dX2_pass_63 : decode cX2_pass 63 = .ok (.iload_n 3, 1) := dk_29 (dk_at dksX2_pass_2 17 rfl rfl)
theorem dX2_pass_64 : decode cX2_pass 64 = .ok (.aload_n 0, 1) := dk_42 (dk_at dksX2_pass_2 18 rfl rfl)
theorem dX2_pass_65 : decode cX2_pass 65 = .ok (.getfield 21, 3) := dk_180 0 21 (dk_at dksX2_pass_2 19 rfl rfl)
theorem dX2_pass_68 : decode cX2_pass 68 = .ok (.invokevirtual 45, 3) := dk_182 0 45 (dk_at dksX2_pass_3 0 rfl rfl)
theorem dX2_pass_71 : decode cX2_pass 71 = .ok (.if_icmp .ge 24, 3) := dk_162 0 24 (dk_at dksX2_pass_3 3 rfl rfl)
theorem dX2_pass_74 : decode cX2_pass 74 = .ok (.aload_n 0, 1) := dk_42 (dk_at dksX2_pass_3 6 rfl rfl)
theorem dX2_pass_75 : decode cX2_pass 75 = .ok (.getfield 21, 3) := dk_180 0 21 (dk_at dksX2_pass_3 7 rfl rfl)
theorem dX2_pass_78 : decode cX2_pass 78 = .ok (.iload_n 3, 1) := dk_29 (dk_at dksX2_pass_3 10 rfl rfl)
theorem dX2_pass_79 : decode cX2_pass 79 = .ok (.invokevirtual 49, 3) := dk_182 0 49 (dk_at dksX2_pass_3 11 rfl rfl)
theorem dX2_pass_82 : decode cX2_pass 82 = .ok (.checkcast 68, 3) := dk_192 0 68 (dk_at dksX2_pass_3 14 rfl rfl)
theorem dX2_pass_85 : decode cX2_pass 85 = .ok (.iload_n 1, 1) := dk_27 (dk_at dksX2_pass_3 17 rfl rfl)
theorem dX2_pass_86 : decode cX2_pass 86 = .ok (.invokevirtual 119, 3) := dk_182 0 119 (dk_at dksX2_pass_3 18 rfl rfl)
theorem dX2_pass_89 : decode cX2_pass 89 = .ok (.iinc 3 1, 3) := dk_132 3 1 (dk_at dksX2_pass_3 21 rfl rfl)
theorem dX2_pass_92 : decode cX2_pass 92 = .ok (.goto (-29), 3) := dk_167 255 227 (dk_at dksX2_pass_4 0 rfl rfl)
theorem dX2_pass_95 : decode cX2_pass 95 = .ok (.iconst 0, 1) := dk_3 (dk_at dksX2_pass_4 3 rfl rfl)
theorem dX2_pass_96 : decode cX2_pass 96 = .ok (.istore_n 3, 1) := dk_62 (dk_at dksX2_pass_4 4 rfl rfl)
theorem dX2_pass_97 : decode cX2_pass 97 = .ok (.aload_n 0, 1) := dk_42 (dk_at dksX2_pass_4 5 rfl rfl)
theorem dX2_pass_98 : decode cX2_pass 98 = .ok (.getfield 34, 3) := dk_180 0 34 (dk_at dksX2_pass_4 6 rfl rfl)
theorem dX2_pass_101 : decode cX2_pass 101 = .ok (.iconst 1, 1) := dk_4 (dk_at dksX2_pass_4 9 rfl rfl)
theorem dX2_pass_102 : decode cX2_pass 102 = .ok (.if_icmp .ne 28, 3) := dk_160 0 28 (dk_at dksX2_pass_4 10 rfl rfl)
theorem dX2_pass_105 : decode cX2_pass 105 = .ok (.aload_n 0, 1) := dk_42 (dk_at dksX2_pass_4 13 rfl rfl)
theorem dX2_pass_106 : decode cX2_pass 106 = .ok (.dup, 1) := dk_89 (dk_at dksX2_pass_4 14 rfl rfl)
theorem dX2_pass_107 : decode cX2_pass 107 = .ok (.getfield 85, 3) := dk_180 0 85 (dk_at dksX2_pass_4 15 rfl rfl)
theorem dX2_pass_110 : decode cX2_pass 110 = .ok (.iconst 1, 1) := dk_4 (dk_at dksX2_pass_4 18 rfl rfl)
theorem dX2_pass_111 : decode cX2_pass 111 = .ok (.isub, 1) := dk_100 (dk_at dksX2_pass_4 19 rfl rfl)
theorem dX2_pass_112 : decode cX2_pass 112 = .ok (.putfield 85, 3) := dk_181 0 85 (dk_at dksX2_pass_4 20 rfl rfl)
theorem dX2_pass_115 : decode cX2_pass 115 = .ok (.aload_n 0, 1) := dk_42 (dk_at dksX2_pass_4 23 rfl rfl)
theorem dX2_pass_116 : decode cX2_pass 116 = .ok (.getfield 85, 3) := dk_180 0 85 (dk_at dksX2_pass_5 0 rfl rfl)
theorem dX2_pass_119 : decode cX2_pass 119 = .ok (.ifCond .ne 24, 3) := dk_154 0 24 (dk_at dksX2_pass_5 3 rfl rfl)
theorem dX2_pass_122 : decode cX2_pass 122 = .ok (.aload_n 0, 1) := dk_42 (dk_at dksX2_pass_5 6 rfl rfl)
theorem dX2_pass_123 : decode cX2_pass 123 = .ok (.iconst 2, 1) := dk_5 (dk_at dksX2_pass_5 7 rfl rfl)
theorem dX2_pass_124 : decode cX2_pass 124 = .ok (.putfield 34, 3) := dk_181 0 34 (dk_at dksX2_pass_5 8 rfl rfl)
theorem dX2_pass_127 : decode cX2_pass 127 = .ok (.goto 16, 3) := dk_167 0 16 (dk_at dksX2_pass_5 11 rfl rfl)
theorem dX2_pass_130 : decode cX2_pass 130 = .ok (.aload_n 0, 1) := dk_42 (dk_at dksX2_pass_5 14 rfl rfl)
theorem dX2_pass_131 : decode cX2_pass 131 = .ok (.getfield 34, 3) := dk_180 0 34 (dk_at dksX2_pass_5 15 rfl rfl)
theorem dX2_pass_134 : decode cX2_pass 134 = .ok (.iconst 2, 1) := dk_5 (dk_at dksX2_pass_5 18 rfl rfl)
theorem dX2_pass_135 : decode cX2_pass 135 = .ok (.if_icmp .ne 8, 3) := dk_160 0 8 (dk_at dksX2_pass_5 19 rfl rfl)
theorem dX2_pass_138 : decode cX2_pass 138 = .ok (.aload_n 0, 1) := dk_42 (dk_at dksX2_pass_5 22 rfl rfl)
theorem dX2_pass_139 : decode cX2_pass 139 = .ok (.invokevirtual 123, 3) := dk_182 0 123 (dk_at dksX2_pass_6 0 rfl rfl)
theorem dX2_pass_142 : decode cX2_pass 142 = .ok (.istore_n 3, 1) := dk_62 (dk_at dksX2_pass_6 3 rfl rfl)
theorem dX2_pass_143 : decode cX2_pass 143 = .ok (.aload_n 0, 1) := dk_42 (dk_at dksX2_pass_6 4 rfl rfl)
theorem dX2_pass_144 : decode cX2_pass 144 = .ok (.getfield 79, 3) := dk_180 0 79 (dk_at dksX2_pass_6 5 rfl rfl)
theorem dX2_pass_147 : decode cX2_pass 147 = .ok (.bipush 24, 2) := dk_16 24 (dk_at dksX2_pass_6 8 rfl rfl)
theorem dX2_pass_149 : decode cX2_pass 149 = .ok (.irem, 1) := dk_112 (dk_at dksX2_pass_6 10 rfl rfl)
theorem dX2_pass_150 : decode cX2_pass 150 = .ok (.ifCond .ne 9, 3) := dk_154 0 9 (dk_at dksX2_pass_6 11 rfl rfl)
theorem dX2_pass_153 : decode cX2_pass 153 = .ok (.aload_n 0, 1) := dk_42 (dk_at dksX2_pass_6 14 rfl rfl)
theorem dX2_pass_154 : decode cX2_pass 154 = .ok (.iload_n 1, 1) := dk_27 (dk_at dksX2_pass_6 15 rfl rfl)
theorem dX2_pass_155 : decode cX2_pass 155 = .ok (.iload_n 2, 1) := dk_28 (dk_at dksX2_pass_6 16 rfl rfl)
theorem dX2_pass_156 : decode cX2_pass 156 = .ok (.invokevirtual 126, 3) := dk_182 0 126 (dk_at dksX2_pass_6 17 rfl rfl)
theorem dX2_pass_159 : decode cX2_pass 159 = .ok (.iload_n 3, 1) := dk_29 (dk_at dksX2_pass_6 20 rfl rfl)
theorem dX2_pass_160 : decode cX2_pass 160 = .ok (.ireturn, 1) := dk_172 (dk_at dksX2_pass_6 21 rfl rfl)
abbrev cX2_drive : ByteArray := prog_5_method_5_code
def yX2_drive : MethodName := ⟨RX2, "drive", "(LCanecrush$Truck;)V"⟩
def dkwX2_drive_5 : List UInt8 := [180, 0, 12, 43, 180, 0, 143, 182, 0, 49, 192, 0, 53, 180, 0, 150, 181, 0, 130, 177]
abbrev dktX2_drive_5 : List UInt8 := dkwX2_drive_5 ++ []
def dkwX2_drive_4 : List UInt8 := [182, 0, 49, 192, 0, 68, 4, 181, 0, 136, 43, 5, 181, 0, 112, 43, 28, 181, 0, 133, 43, 42]
abbrev dktX2_drive_4 : List UInt8 := dkwX2_drive_4 ++ dktX2_drive_5
def dkwX2_drive_3 : List UInt8 := [182, 0, 140, 177, 42, 43, 180, 0, 143, 182, 0, 146, 61, 28, 2, 160, 0, 4, 177, 42, 180, 0, 21, 28]
abbrev dktX2_drive_3 : List UInt8 := dkwX2_drive_3 ++ dktX2_drive_4
def dkwX2_drive_2 : List UInt8 := [181, 0, 136, 44, 42, 180, 0, 82, 181, 0, 137, 42, 89, 180, 0, 82, 4, 96, 181, 0, 82, 43]
abbrev dktX2_drive_2 : List UInt8 := dkwX2_drive_2 ++ dktX2_drive_3
def dkwX2_drive_1 : List UInt8 := [180, 0, 112, 5, 160, 0, 46, 42, 180, 0, 21, 43, 180, 0, 133, 182, 0, 49, 192, 0, 68, 77, 44, 5]
abbrev dktX2_drive_1 : List UInt8 := dkwX2_drive_1 ++ dktX2_drive_2
def dkwX2_drive_0 : List UInt8 := [43, 3, 43, 180, 0, 130, 4, 100, 184, 0, 100, 181, 0, 130, 43, 180, 0, 130, 158, 0, 4, 177, 43]
abbrev dktX2_drive_0 : List UInt8 := dkwX2_drive_0 ++ dktX2_drive_1
theorem dksX2_drive_0 : cX2_drive.data.toList.drop 0 = dktX2_drive_0 := by decide +kernel
theorem dksX2_drive_1 : cX2_drive.data.toList.drop 23 = dktX2_drive_1 := dk_seg dksX2_drive_0 23 rfl rfl
theorem dksX2_drive_2 : cX2_drive.data.toList.drop 47 = dktX2_drive_2 := dk_seg dksX2_drive_1 24 rfl rfl
theorem dksX2_drive_3 : cX2_drive.data.toList.drop 69 = dktX2_drive_3 := dk_seg dksX2_drive_2 22 rfl rfl
theorem dksX2_drive_4 : cX2_drive.data.toList.drop 93 = dktX2_drive_4 := dk_seg dksX2_drive_3 24 rfl rfl
theorem dksX2_drive_5 : cX2_drive.data.toList.drop 115 = dktX2_drive_5 := dk_seg dksX2_drive_4 22 rfl rfl
theorem dX2_drive_0 : decode cX2_drive 0 = .ok (.aload_n 1, 1) := dk_43 (dk_at dksX2_drive_0 0 rfl rfl)
theorem dX2_drive_1 : decode cX2_drive 1 = .ok (.iconst 0, 1) := dk_3 (dk_at dksX2_drive_0 1 rfl rfl)
theorem dX2_drive_2 : decode cX2_drive 2 = .ok (.aload_n 1, 1) := dk_43 (dk_at dksX2_drive_0 2 rfl rfl)
theorem dX2_drive_3 : decode cX2_drive 3 = .ok (.getfield 130, 3) := dk_180 0 130 (dk_at dksX2_drive_0 3 rfl rfl)
theorem dX2_drive_6 : decode cX2_drive 6 = .ok (.iconst 1, 1) := dk_4 (dk_at dksX2_drive_0 6 rfl rfl)
theorem dX2_drive_7 : decode cX2_drive 7 = .ok (.isub, 1) := dk_100 (dk_at dksX2_drive_0 7 rfl rfl)
theorem dX2_drive_8 : decode cX2_drive 8 = .ok (.invokestatic 100, 3) := dk_184 0 100 (dk_at dksX2_drive_0 8 rfl rfl)
theorem dX2_drive_11 : decode cX2_drive 11 = .ok (.putfield 130, 3) := dk_181 0 130 (dk_at dksX2_drive_0 11 rfl rfl)
theorem dX2_drive_14 : decode cX2_drive 14 = .ok (.aload_n 1, 1) := dk_43 (dk_at dksX2_drive_0 14 rfl rfl)
theorem dX2_drive_15 : decode cX2_drive 15 = .ok (.getfield 130, 3) := dk_180 0 130 (dk_at dksX2_drive_0 15 rfl rfl)
theorem dX2_drive_18 : decode cX2_drive 18 = .ok (.ifCond .le 4, 3) := dk_158 0 4 (dk_at dksX2_drive_0 18 rfl rfl)
theorem dX2_drive_21 : decode cX2_drive 21 = .ok (.return_, 1) := dk_177 (dk_at dksX2_drive_0 21 rfl rfl)
theorem dX2_drive_22 : decode cX2_drive 22 = .ok (.aload_n 1, 1) := dk_43 (dk_at dksX2_drive_0 22 rfl rfl)
theorem dX2_drive_23 : decode cX2_drive 23 = .ok (.getfield 112, 3) := dk_180 0 112 (dk_at dksX2_drive_1 0 rfl rfl)
theorem dX2_drive_26 : decode cX2_drive 26 = .ok (.iconst 2, 1) := dk_5 (dk_at dksX2_drive_1 3 rfl rfl)
theorem dX2_drive_27 : decode cX2_drive 27 = .ok (.if_icmp .ne 46, 3) := dk_160 0 46 (dk_at dksX2_drive_1 4 rfl rfl)
theorem dX2_drive_30 : decode cX2_drive 30 = .ok (.aload_n 0, 1) := dk_42 (dk_at dksX2_drive_1 7 rfl rfl)
theorem dX2_drive_31 : decode cX2_drive 31 = .ok (.getfield 21, 3) := dk_180 0 21 (dk_at dksX2_drive_1 8 rfl rfl)
theorem dX2_drive_34 : decode cX2_drive 34 = .ok (.aload_n 1, 1) := dk_43 (dk_at dksX2_drive_1 11 rfl rfl)
theorem dX2_drive_35 : decode cX2_drive 35 = .ok (.getfield 133, 3) := dk_180 0 133 (dk_at dksX2_drive_1 12 rfl rfl)
theorem dX2_drive_38 : decode cX2_drive 38 = .ok (.invokevirtual 49, 3) := dk_182 0 49 (dk_at dksX2_drive_1 15 rfl rfl)
theorem dX2_drive_41 : decode cX2_drive 41 = .ok (.checkcast 68, 3) := dk_192 0 68 (dk_at dksX2_drive_1 18 rfl rfl)
theorem dX2_drive_44 : decode cX2_drive 44 = .ok (.astore_n 2, 1) := dk_77 (dk_at dksX2_drive_1 21 rfl rfl)
theorem dX2_drive_45 : decode cX2_drive 45 = .ok (.aload_n 2, 1) := dk_44 (dk_at dksX2_drive_1 22 rfl rfl)
theorem dX2_drive_46 : decode cX2_drive 46 = .ok (.iconst 2, 1) := dk_5 (dk_at dksX2_drive_1 23 rfl rfl)
theorem dX2_drive_47 : decode cX2_drive 47 = .ok (.putfield 136, 3) := dk_181 0 136 (dk_at dksX2_drive_2 0 rfl rfl)
theorem dX2_drive_50 : decode cX2_drive 50 = .ok (.aload_n 2, 1) := dk_44 (dk_at dksX2_drive_2 3 rfl rfl)
theorem dX2_drive_51 : decode cX2_drive 51 = .ok (.aload_n 0, 1) := dk_42 (dk_at dksX2_drive_2 4 rfl rfl)
theorem dX2_drive_52 : decode cX2_drive 52 = .ok (.getfield 82, 3) := dk_180 0 82 (dk_at dksX2_drive_2 5 rfl rfl)
theorem dX2_drive_55 : decode cX2_drive 55 = .ok (.putfield 137, 3) := dk_181 0 137 (dk_at dksX2_drive_2 8 rfl rfl)
theorem dX2_drive_58 : decode cX2_drive 58 = .ok (.aload_n 0, 1) := dk_42 (dk_at dksX2_drive_2 11 rfl rfl)
theorem dX2_drive_59 : decode cX2_drive 59 = .ok (.dup, 1) := dk_89 (dk_at dksX2_drive_2 12 rfl rfl)
theorem dX2_drive_60 : decode cX2_drive 60 = .ok (.getfield 82, 3) := dk_180 0 82 (dk_at dksX2_drive_2 13 rfl rfl)
theorem dX2_drive_63 : decode cX2_drive 63 = .ok (.iconst 1, 1) := dk_4 (dk_at dksX2_drive_2 16 rfl rfl)
theorem dX2_drive_64 : decode cX2_drive 64 = .ok (.iadd, 1) := dk_96 (dk_at dksX2_drive_2 17 rfl rfl)
theorem dX2_drive_65 : decode cX2_drive 65 = .ok (.putfield 82, 3) := dk_181 0 82 (dk_at dksX2_drive_2 18 rfl rfl)
theorem dX2_drive_68 : decode cX2_drive 68 = .ok (.aload_n 1, 1) := dk_43 (dk_at dksX2_drive_2 21 rfl rfl)
theorem dX2_drive_69 : decode cX2_drive 69 = .ok (.invokevirtual 140, 3) := dk_182 0 140 (dk_at dksX2_drive_3 0 rfl rfl)
theorem dX2_drive_72 : decode cX2_drive 72 = .ok (.return_, 1) := dk_177 (dk_at dksX2_drive_3 3 rfl rfl)
theorem dX2_drive_73 : decode cX2_drive 73 = .ok (.aload_n 0, 1) := dk_42 (dk_at dksX2_drive_3 4 rfl rfl)
theorem dX2_drive_74 : decode cX2_drive 74 = .ok (.aload_n 1, 1) := dk_43 (dk_at dksX2_drive_3 5 rfl rfl)
theorem dX2_drive_75 : decode cX2_drive 75 = .ok (.getfield 143, 3) := dk_180 0 143 (dk_at dksX2_drive_3 6 rfl rfl)
theorem dX2_drive_78 : decode cX2_drive 78 = .ok (.invokevirtual 146, 3) := dk_182 0 146 (dk_at dksX2_drive_3 9 rfl rfl)
theorem dX2_drive_81 : decode cX2_drive 81 = .ok (.istore_n 2, 1) := dk_61 (dk_at dksX2_drive_3 12 rfl rfl)
theorem dX2_drive_82 : decode cX2_drive 82 = .ok (.iload_n 2, 1) := dk_28 (dk_at dksX2_drive_3 13 rfl rfl)
theorem dX2_drive_83 : decode cX2_drive 83 = .ok (.iconst (-1), 1) := dk_2 (dk_at dksX2_drive_3 14 rfl rfl)
theorem dX2_drive_84 : decode cX2_drive 84 = .ok (.if_icmp .ne 4, 3) := dk_160 0 4 (dk_at dksX2_drive_3 15 rfl rfl)
theorem dX2_drive_87 : decode cX2_drive 87 = .ok (.return_, 1) := dk_177 (dk_at dksX2_drive_3 18 rfl rfl)
theorem dX2_drive_88 : decode cX2_drive 88 = .ok (.aload_n 0, 1) := dk_42 (dk_at dksX2_drive_3 19 rfl rfl)
theorem dX2_drive_89 : decode cX2_drive 89 = .ok (.getfield 21, 3) := dk_180 0 21 (dk_at dksX2_drive_3 20 rfl rfl)
theorem dX2_drive_92 : decode cX2_drive 92 = .ok (.iload_n 2, 1) := dk_28 (dk_at dksX2_drive_3 23 rfl rfl)
theorem dX2_drive_93 : decode cX2_drive 93 = .ok (.invokevirtual 49, 3) := dk_182 0 49 (dk_at dksX2_drive_4 0 rfl rfl)
theorem dX2_drive_96 : decode cX2_drive 96 = .ok (.checkcast 68, 3) := dk_192 0 68 (dk_at dksX2_drive_4 3 rfl rfl)
theorem dX2_drive_99 : decode cX2_drive 99 = .ok (.iconst 1, 1) := dk_4 (dk_at dksX2_drive_4 6 rfl rfl)
theorem dX2_drive_100 : decode cX2_drive 100 = .ok (.putfield 136, 3) := dk_181 0 136 (dk_at dksX2_drive_4 7 rfl rfl)
theorem dX2_drive_103 : decode cX2_drive 103 = .ok (.aload_n 1, 1) := dk_43 (dk_at dksX2_drive_4 10 rfl rfl)
theorem dX2_drive_104 : decode cX2_drive 104 = .ok (.iconst 2, 1) := dk_5 (dk_at dksX2_drive_4 11 rfl rfl)
theorem dX2_drive_105 : decode cX2_drive 105 = .ok (.putfield 112, 3) := dk_181 0 112 (dk_at dksX2_drive_4 12 rfl rfl)
theorem dX2_drive_108 : decode cX2_drive 108 = .ok (.aload_n 1, 1) := dk_43 (dk_at dksX2_drive_4 15 rfl rfl)
theorem dX2_drive_109 : decode cX2_drive 109 = .ok (.iload_n 2, 1) := dk_28 (dk_at dksX2_drive_4 16 rfl rfl)
theorem dX2_drive_110 : decode cX2_drive 110 = .ok (.putfield 133, 3) := dk_181 0 133 (dk_at dksX2_drive_4 17 rfl rfl)
theorem dX2_drive_113 : decode cX2_drive 113 = .ok (.aload_n 1, 1) := dk_43 (dk_at dksX2_drive_4 20 rfl rfl)
theorem dX2_drive_114 : decode cX2_drive 114 = .ok (.aload_n 0, 1) := dk_42 (dk_at dksX2_drive_4 21 rfl rfl)
theorem dX2_drive_115 : decode cX2_drive 115 = .ok (.getfield 12, 3) := dk_180 0 12 (dk_at dksX2_drive_5 0 rfl rfl)
theorem dX2_drive_118 : decode cX2_drive 118 = .ok (.aload_n 1, 1) := dk_43 (dk_at dksX2_drive_5 3 rfl rfl)
theorem dX2_drive_119 : decode cX2_drive 119 = .ok (.getfield 143, 3) := dk_180 0 143 (dk_at dksX2_drive_5 4 rfl rfl)
theorem dX2_drive_122 : decode cX2_drive 122 = .ok (.invokevirtual 49, 3) := dk_182 0 49 (dk_at dksX2_drive_5 7 rfl rfl)
theorem dX2_drive_125 : decode cX2_drive 125 = .ok (.checkcast 53, 3) := dk_192 0 53 (dk_at dksX2_drive_5 10 rfl rfl)
theorem dX2_drive_128 : decode cX2_drive 128 = .ok (.getfield 150, 3) := dk_180 0 150 (dk_at dksX2_drive_5 13 rfl rfl)
theorem dX2_drive_131 : decode cX2_drive 131 = .ok (.putfield 130, 3) := dk_181 0 130 (dk_at dksX2_drive_5 16 rfl rfl)
theorem dX2_drive_134 : decode cX2_drive 134 = .ok (.return_, 1) := dk_177 (dk_at dksX2_drive_5 19 rfl rfl)
abbrev cX2_firstAt : ByteArray := prog_5_method_6_code
def yX2_firstAt : MethodName := ⟨RX2, "firstAt", "(I)I"⟩
def dkwX2_firstAt_2 : List UInt8 := [28, 172, 132, 2, 1, 167, 255, 205, 2, 172]
abbrev dktX2_firstAt_2 : List UInt8 := dkwX2_firstAt_2 ++ []
def dkwX2_firstAt_1 : List UInt8 := [180, 0, 136, 154, 0, 23, 42, 180, 0, 21, 28, 182, 0, 49, 192, 0, 68, 180, 0, 153, 27, 160, 0, 5]
abbrev dktX2_firstAt_1 : List UInt8 := dkwX2_firstAt_1 ++ dktX2_firstAt_2
def dkwX2_firstAt_0 : List UInt8 := [3, 61, 28, 42, 180, 0, 21, 182, 0, 45, 162, 0, 46, 42, 180, 0, 21, 28, 182, 0, 49, 192, 0, 68]
abbrev dktX2_firstAt_0 : List UInt8 := dkwX2_firstAt_0 ++ dktX2_firstAt_1
theorem dksX2_firstAt_0 : cX2_firstAt.data.toList.drop 0 = dktX2_firstAt_0 := by decide +kernel
theorem dksX2_firstAt_1 : cX2_firstAt.data.toList.drop 24 = dktX2_firstAt_1 := dk_seg dksX2_firstAt_0 24 rfl rfl
theorem dksX2_firstAt_2 : cX2_firstAt.data.toList.drop 48 = dktX2_firstAt_2 := dk_seg dksX2_firstAt_1 24 rfl rfl
theorem dX2_firstAt_0 : decode cX2_firstAt 0 = .ok (.iconst 0, 1) := dk_3 (dk_at dksX2_firstAt_0 0 rfl rfl)
theorem dX2_firstAt_1 : decode cX2_firstAt 1 = .ok (.istore_n 2, 1) := dk_61 (dk_at dksX2_firstAt_0 1 rfl rfl)
theorem dX2_firstAt_2 : decode cX2_firstAt 2 = .ok (.iload_n 2, 1) := dk_28 (dk_at dksX2_firstAt_0 2 rfl rfl)
theorem dX2_firstAt_3 : decode cX2_firstAt 3 = .ok (.aload_n 0, 1) := dk_42 (dk_at dksX2_firstAt_0 3 rfl rfl)
theorem dX2_firstAt_4 : decode cX2_firstAt 4 = .ok (.getfield 21, 3) := dk_180 0 21 (dk_at dksX2_firstAt_0 4 rfl rfl)
theorem dX2_firstAt_7 : decode cX2_firstAt 7 = .ok (.invokevirtual 45, 3) := dk_182 0 45 (dk_at dksX2_firstAt_0 7 rfl rfl)
theorem dX2_firstAt_10 : decode cX2_firstAt 10 = .ok (.if_icmp .ge 46, 3) := dk_162 0 46 (dk_at dksX2_firstAt_0 10 rfl rfl)
theorem dX2_firstAt_13 : decode cX2_firstAt 13 = .ok (.aload_n 0, 1) := dk_42 (dk_at dksX2_firstAt_0 13 rfl rfl)
theorem dX2_firstAt_14 : decode cX2_firstAt 14 = .ok (.getfield 21, 3) := dk_180 0 21 (dk_at dksX2_firstAt_0 14 rfl rfl)
theorem dX2_firstAt_17 : decode cX2_firstAt 17 = .ok (.iload_n 2, 1) := dk_28 (dk_at dksX2_firstAt_0 17 rfl rfl)
theorem dX2_firstAt_18 : decode cX2_firstAt 18 = .ok (.invokevirtual 49, 3) := dk_182 0 49 (dk_at dksX2_firstAt_0 18 rfl rfl)
theorem dX2_firstAt_21 : decode cX2_firstAt 21 = .ok (.checkcast 68, 3) := dk_192 0 68 (dk_at dksX2_firstAt_0 21 rfl rfl)
theorem dX2_firstAt_24 : decode cX2_firstAt 24 = .ok (.getfield 136, 3) := dk_180 0 136 (dk_at dksX2_firstAt_1 0 rfl rfl)
theorem dX2_firstAt_27 : decode cX2_firstAt 27 = .ok (.ifCond .ne 23, 3) := dk_154 0 23 (dk_at dksX2_firstAt_1 3 rfl rfl)
theorem dX2_firstAt_30 : decode cX2_firstAt 30 = .ok (.aload_n 0, 1) := dk_42 (dk_at dksX2_firstAt_1 6 rfl rfl)
theorem dX2_firstAt_31 : decode cX2_firstAt 31 = .ok (.getfield 21, 3) := dk_180 0 21 (dk_at dksX2_firstAt_1 7 rfl rfl)
theorem dX2_firstAt_34 : decode cX2_firstAt 34 = .ok (.iload_n 2, 1) := dk_28 (dk_at dksX2_firstAt_1 10 rfl rfl)
theorem dX2_firstAt_35 : decode cX2_firstAt 35 = .ok (.invokevirtual 49, 3) := dk_182 0 49 (dk_at dksX2_firstAt_1 11 rfl rfl)
theorem dX2_firstAt_38 : decode cX2_firstAt 38 = .ok (.checkcast 68, 3) := dk_192 0 68 (dk_at dksX2_firstAt_1 14 rfl rfl)
theorem dX2_firstAt_41 : decode cX2_firstAt 41 = .ok (.getfield 153, 3) := dk_180 0 153 (dk_at dksX2_firstAt_1 17 rfl rfl)
theorem dX2_firstAt_44 : decode cX2_firstAt 44 = .ok (.iload_n 1, 1) := dk_27 (dk_at dksX2_firstAt_1 20 rfl rfl)
theorem dX2_firstAt_45 : decode cX2_firstAt 45 = .ok (.if_icmp .ne 5, 3) := dk_160 0 5 (dk_at dksX2_firstAt_1 21 rfl rfl)
theorem dX2_firstAt_48 : decode cX2_firstAt 48 = .ok (.iload_n 2, 1) := dk_28 (dk_at dksX2_firstAt_2 0 rfl rfl)
theorem dX2_firstAt_49 : decode cX2_firstAt 49 = .ok (.ireturn, 1) := dk_172 (dk_at dksX2_firstAt_2 1 rfl rfl)
theorem dX2_firstAt_50 : decode cX2_firstAt 50 = .ok (.iinc 2 1, 3) := dk_132 2 1 (dk_at dksX2_firstAt_2 2 rfl rfl)
theorem dX2_firstAt_53 : decode cX2_firstAt 53 = .ok (.goto (-51), 3) := dk_167 255 205 (dk_at dksX2_firstAt_2 5 rfl rfl)
theorem dX2_firstAt_56 : decode cX2_firstAt 56 = .ok (.iconst (-1), 1) := dk_2 (dk_at dksX2_firstAt_2 8 rfl rfl)
theorem dX2_firstAt_57 : decode cX2_firstAt 57 = .ok (.ireturn, 1) := dk_172 (dk_at dksX2_firstAt_2 9 rfl rfl)
abbrev cX2_crush : ByteArray := prog_5_method_10_code
def yX2_crush : MethodName := ⟨RX2, "crush", "()I"⟩
def dkwX2_crush_4 : List UInt8 := [181, 0, 180, 3, 172]
abbrev dktX2_crush_4 : List UInt8 := dkwX2_crush_4 ++ []
def dkwX2_crush_3 : List UInt8 := [181, 0, 177, 42, 180, 0, 88, 6, 160, 0, 18, 42, 3, 181, 0, 34, 42, 89, 180, 0, 180, 4, 96]
abbrev dktX2_crush_3 : List UInt8 := dkwX2_crush_3 ++ dktX2_crush_4
def dkwX2_crush_2 : List UInt8 := [42, 3, 181, 0, 88, 27, 172, 42, 89, 180, 0, 88, 4, 96, 181, 0, 88, 42, 89, 180, 0, 177, 4, 96]
abbrev dktX2_crush_2 : List UInt8 := dkwX2_crush_2 ++ dktX2_crush_3
def dkwX2_crush_1 : List UInt8 := [27, 44, 180, 0, 171, 96, 60, 42, 44, 182, 0, 174, 42, 182, 0, 168, 77, 167, 255, 222, 27, 158, 0, 10]
abbrev dktX2_crush_1 : List UInt8 := dkwX2_crush_1 ++ dktX2_crush_2
def dkwX2_crush_0 : List UInt8 := [3, 60, 42, 182, 0, 168, 77, 44, 198, 0, 36, 27, 44, 180, 0, 171, 96, 42, 180, 0, 38, 163, 0, 23]
abbrev dktX2_crush_0 : List UInt8 := dkwX2_crush_0 ++ dktX2_crush_1
theorem dksX2_crush_0 : cX2_crush.data.toList.drop 0 = dktX2_crush_0 := by decide +kernel
theorem dksX2_crush_1 : cX2_crush.data.toList.drop 24 = dktX2_crush_1 := dk_seg dksX2_crush_0 24 rfl rfl
theorem dksX2_crush_2 : cX2_crush.data.toList.drop 48 = dktX2_crush_2 := dk_seg dksX2_crush_1 24 rfl rfl
theorem dksX2_crush_3 : cX2_crush.data.toList.drop 72 = dktX2_crush_3 := dk_seg dksX2_crush_2 24 rfl rfl
theorem dksX2_crush_4 : cX2_crush.data.toList.drop 95 = dktX2_crush_4 := dk_seg dksX2_crush_3 23 rfl rfl
theorem dX2_crush_0 : decode cX2_crush 0 = .ok (.iconst 0, 1) := dk_3 (dk_at dksX2_crush_0 0 rfl rfl)
theorem dX2_crush_1 : decode cX2_crush 1 = .ok (.istore_n 1, 1) := dk_60 (dk_at dksX2_crush_0 1 rfl rfl)
theorem dX2_crush_2 : decode cX2_crush 2 = .ok (.aload_n 0, 1) := dk_42 (dk_at dksX2_crush_0 2 rfl rfl)
theorem dX2_crush_3 : decode cX2_crush 3 = .ok (.invokevirtual 168, 3) := dk_182 0 168 (dk_at dksX2_crush_0 3 rfl rfl)
theorem dX2_crush_6 : decode cX2_crush 6 = .ok (.astore_n 2, 1) := dk_77 (dk_at dksX2_crush_0 6 rfl rfl)
theorem dX2_crush_7 : decode cX2_crush 7 = .ok (.aload_n 2, 1) := dk_44 (dk_at dksX2_crush_0 7 rfl rfl)
theorem dX2_crush_8 : decode cX2_crush 8 = .ok (.ifnull 36, 3) := dk_198 0 36 (dk_at dksX2_crush_0 8 rfl rfl)
theorem dX2_crush_11 : decode cX2_crush 11 = .ok (.iload_n 1, 1) := dk_27 (dk_at dksX2_crush_0 11 rfl rfl)
theorem dX2_crush_12 : decode cX2_crush 12 = .ok (.aload_n 2, 1) := dk_44 (dk_at dksX2_crush_0 12 rfl rfl)
theorem dX2_crush_13 : decode cX2_crush 13 = .ok (.getfield 171, 3) := dk_180 0 171 (dk_at dksX2_crush_0 13 rfl rfl)
theorem dX2_crush_16 : decode cX2_crush 16 = .ok (.iadd, 1) := dk_96 (dk_at dksX2_crush_0 16 rfl rfl)
theorem dX2_crush_17 : decode cX2_crush 17 = .ok (.aload_n 0, 1) := dk_42 (dk_at dksX2_crush_0 17 rfl rfl)
theorem dX2_crush_18 : decode cX2_crush 18 = .ok (.getfield 38, 3) := dk_180 0 38 (dk_at dksX2_crush_0 18 rfl rfl)
theorem dX2_crush_21 : decode cX2_crush 21 = .ok (.if_icmp .gt 23, 3) := dk_163 0 23 (dk_at dksX2_crush_0 21 rfl rfl)
theorem dX2_crush_24 : decode cX2_crush 24 = .ok (.iload_n 1, 1) := dk_27 (dk_at dksX2_crush_1 0 rfl rfl)
theorem dX2_crush_25 : decode cX2_crush 25 = .ok (.aload_n 2, 1) := dk_44 (dk_at dksX2_crush_1 1 rfl rfl)
theorem dX2_crush_26 : decode cX2_crush 26 = .ok (.getfield 171, 3) := dk_180 0 171 (dk_at dksX2_crush_1 2 rfl rfl)
theorem dX2_crush_29 : decode cX2_crush 29 = .ok (.iadd, 1) := dk_96 (dk_at dksX2_crush_1 5 rfl rfl)
theorem dX2_crush_30 : decode cX2_crush 30 = .ok (.istore_n 1, 1) := dk_60 (dk_at dksX2_crush_1 6 rfl rfl)
theorem dX2_crush_31 : decode cX2_crush 31 = .ok (.aload_n 0, 1) := dk_42 (dk_at dksX2_crush_1 7 rfl rfl)
theorem dX2_crush_32 : decode cX2_crush 32 = .ok (.aload_n 2, 1) := dk_44 (dk_at dksX2_crush_1 8 rfl rfl)
theorem dX2_crush_33 : decode cX2_crush 33 = .ok (.invokevirtual 174, 3) := dk_182 0 174 (dk_at dksX2_crush_1 9 rfl rfl)
theorem dX2_crush_36 : decode cX2_crush 36 = .ok (.aload_n 0, 1) := dk_42 (dk_at dksX2_crush_1 12 rfl rfl)
theorem dX2_crush_37 : decode cX2_crush 37 = .ok (.invokevirtual 168, 3) := dk_182 0 168 (dk_at dksX2_crush_1 13 rfl rfl)
theorem dX2_crush_40 : decode cX2_crush 40 = .ok (.astore_n 2, 1) := dk_77 (dk_at dksX2_crush_1 16 rfl rfl)
theorem dX2_crush_41 : decode cX2_crush 41 = .ok (.goto (-34), 3) := dk_167 255 222 (dk_at dksX2_crush_1 17 rfl rfl)
theorem dX2_crush_44 : decode cX2_crush 44 = .ok (.iload_n 1, 1) := dk_27 (dk_at dksX2_crush_1 20 rfl rfl)
theorem dX2_crush_45 : decode cX2_crush 45 = .ok (.ifCond .le 10, 3) := dk_158 0 10 (dk_at dksX2_crush_1 21 rfl rfl)
theorem dX2_crush_48 : decode cX2_crush 48 = .ok (.aload_n 0, 1) := dk_42 (dk_at dksX2_crush_2 0 rfl rfl)
theorem dX2_crush_49 : decode cX2_crush 49 = .ok (.iconst 0, 1) := dk_3 (dk_at dksX2_crush_2 1 rfl rfl)
theorem dX2_crush_50 : decode cX2_crush 50 = .ok (.putfield 88, 3) := dk_181 0 88 (dk_at dksX2_crush_2 2 rfl rfl)
theorem dX2_crush_53 : decode cX2_crush 53 = .ok (.iload_n 1, 1) := dk_27 (dk_at dksX2_crush_2 5 rfl rfl)
theorem dX2_crush_54 : decode cX2_crush 54 = .ok (.ireturn, 1) := dk_172 (dk_at dksX2_crush_2 6 rfl rfl)
theorem dX2_crush_55 : decode cX2_crush 55 = .ok (.aload_n 0, 1) := dk_42 (dk_at dksX2_crush_2 7 rfl rfl)
theorem dX2_crush_56 : decode cX2_crush 56 = .ok (.dup, 1) := dk_89 (dk_at dksX2_crush_2 8 rfl rfl)
theorem dX2_crush_57 : decode cX2_crush 57 = .ok (.getfield 88, 3) := dk_180 0 88 (dk_at dksX2_crush_2 9 rfl rfl)
theorem dX2_crush_60 : decode cX2_crush 60 = .ok (.iconst 1, 1) := dk_4 (dk_at dksX2_crush_2 12 rfl rfl)
theorem dX2_crush_61 : decode cX2_crush 61 = .ok (.iadd, 1) := dk_96 (dk_at dksX2_crush_2 13 rfl rfl)
theorem dX2_crush_62 : decode cX2_crush 62 = .ok (.putfield 88, 3) := dk_181 0 88 (dk_at dksX2_crush_2 14 rfl rfl)
theorem dX2_crush_65 : decode cX2_crush 65 = .ok (.aload_n 0, 1) := dk_42 (dk_at dksX2_crush_2 17 rfl rfl)
theorem dX2_crush_66 : decode cX2_crush 66 = .ok (.dup, 1) := dk_89 (dk_at dksX2_crush_2 18 rfl rfl)
theorem dX2_crush_67 : decode cX2_crush 67 = .ok (.getfield 177, 3) := dk_180 0 177 (dk_at dksX2_crush_2 19 rfl rfl)
theorem dX2_crush_70 : decode cX2_crush 70 = .ok (.iconst 1, 1) := dk_4 (dk_at dksX2_crush_2 22 rfl rfl)
theorem dX2_crush_71 : decode cX2_crush 71 = .ok (.iadd, 1) := dk_96 (dk_at dksX2_crush_2 23 rfl rfl)
theorem dX2_crush_72 : decode cX2_crush 72 = .ok (.putfield 177, 3) := dk_181 0 177 (dk_at dksX2_crush_3 0 rfl rfl)
theorem dX2_crush_75 : decode cX2_crush 75 = .ok (.aload_n 0, 1) := dk_42 (dk_at dksX2_crush_3 3 rfl rfl)
theorem dX2_crush_76 : decode cX2_crush 76 = .ok (.getfield 88, 3) := dk_180 0 88 (dk_at dksX2_crush_3 4 rfl rfl)
theorem dX2_crush_79 : decode cX2_crush 79 = .ok (.iconst 3, 1) := dk_6 (dk_at dksX2_crush_3 7 rfl rfl)
theorem dX2_crush_80 : decode cX2_crush 80 = .ok (.if_icmp .ne 18, 3) := dk_160 0 18 (dk_at dksX2_crush_3 8 rfl rfl)
theorem dX2_crush_83 : decode cX2_crush 83 = .ok (.aload_n 0, 1) := dk_42 (dk_at dksX2_crush_3 11 rfl rfl)
theorem dX2_crush_84 : decode cX2_crush 84 = .ok (.iconst 0, 1) := dk_3 (dk_at dksX2_crush_3 12 rfl rfl)
theorem dX2_crush_85 : decode cX2_crush 85 = .ok (.putfield 34, 3) := dk_181 0 34 (dk_at dksX2_crush_3 13 rfl rfl)
theorem dX2_crush_88 : decode cX2_crush 88 = .ok (.aload_n 0, 1) := dk_42 (dk_at dksX2_crush_3 16 rfl rfl)
theorem dX2_crush_89 : decode cX2_crush 89 = .ok (.dup, 1) := dk_89 (dk_at dksX2_crush_3 17 rfl rfl)
theorem dX2_crush_90 : decode cX2_crush 90 = .ok (.getfield 180, 3) := dk_180 0 180 (dk_at dksX2_crush_3 18 rfl rfl)
theorem dX2_crush_93 : decode cX2_crush 93 = .ok (.iconst 1, 1) := dk_4 (dk_at dksX2_crush_3 21 rfl rfl)
theorem dX2_crush_94 : decode cX2_crush 94 = .ok (.iadd, 1) := dk_96 (dk_at dksX2_crush_3 22 rfl rfl)
theorem dX2_crush_95 : decode cX2_crush 95 = .ok (.putfield 180, 3) := dk_181 0 180 (dk_at dksX2_crush_4 0 rfl rfl)
theorem dX2_crush_98 : decode cX2_crush 98 = .ok (.iconst 0, 1) := dk_3 (dk_at dksX2_crush_4 3 rfl rfl)
theorem dX2_crush_99 : decode cX2_crush 99 = .ok (.ireturn, 1) := dk_172 (dk_at dksX2_crush_4 4 rfl rfl)
abbrev cX2_next : ByteArray := prog_5_method_9_code
def yX2_next : MethodName := ⟨RX2, "next", "()LCanecrush$Load;"⟩
def dkwX2_next_2 : List UInt8 := [153, 0, 5, 45, 76, 132, 2, 1, 167, 255, 207, 43, 176]
abbrev dktX2_next_2 : List UInt8 := dkwX2_next_2 ++ []
def dkwX2_next_1 : List UInt8 := [192, 0, 68, 78, 45, 180, 0, 136, 5, 160, 0, 18, 43, 198, 0, 12, 42, 45, 43, 182, 0, 164]
abbrev dktX2_next_1 : List UInt8 := dkwX2_next_1 ++ dktX2_next_2
def dkwX2_next_0 : List UInt8 := [1, 76, 3, 61, 28, 42, 180, 0, 21, 182, 0, 45, 162, 0, 44, 42, 180, 0, 21, 28, 182, 0, 49]
abbrev dktX2_next_0 : List UInt8 := dkwX2_next_0 ++ dktX2_next_1
theorem dksX2_next_0 : cX2_next.data.toList.drop 0 = dktX2_next_0 := by decide +kernel
theorem dksX2_next_1 : cX2_next.data.toList.drop 23 = dktX2_next_1 := dk_seg dksX2_next_0 23 rfl rfl
theorem dksX2_next_2 : cX2_next.data.toList.drop 45 = dktX2_next_2 := dk_seg dksX2_next_1 22 rfl rfl
theorem dX2_next_0 : decode cX2_next 0 = .ok (.aconst_null, 1) := dk_1 (dk_at dksX2_next_0 0 rfl rfl)
theorem dX2_next_1 : decode cX2_next 1 = .ok (.astore_n 1, 1) := dk_76 (dk_at dksX2_next_0 1 rfl rfl)
theorem dX2_next_2 : decode cX2_next 2 = .ok (.iconst 0, 1) := dk_3 (dk_at dksX2_next_0 2 rfl rfl)
theorem dX2_next_3 : decode cX2_next 3 = .ok (.istore_n 2, 1) := dk_61 (dk_at dksX2_next_0 3 rfl rfl)
theorem dX2_next_4 : decode cX2_next 4 = .ok (.iload_n 2, 1) := dk_28 (dk_at dksX2_next_0 4 rfl rfl)
theorem dX2_next_5 : decode cX2_next 5 = .ok (.aload_n 0, 1) := dk_42 (dk_at dksX2_next_0 5 rfl rfl)
theorem dX2_next_6 : decode cX2_next 6 = .ok (.getfield 21, 3) := dk_180 0 21 (dk_at dksX2_next_0 6 rfl rfl)
theorem dX2_next_9 : decode cX2_next 9 = .ok (.invokevirtual 45, 3) := dk_182 0 45 (dk_at dksX2_next_0 9 rfl rfl)
theorem dX2_next_12 : decode cX2_next 12 = .ok (.if_icmp .ge 44, 3) := dk_162 0 44 (dk_at dksX2_next_0 12 rfl rfl)
theorem dX2_next_15 : decode cX2_next 15 = .ok (.aload_n 0, 1) := dk_42 (dk_at dksX2_next_0 15 rfl rfl)
theorem dX2_next_16 : decode cX2_next 16 = .ok (.getfield 21, 3) := dk_180 0 21 (dk_at dksX2_next_0 16 rfl rfl)
theorem dX2_next_19 : decode cX2_next 19 = .ok (.iload_n 2, 1) := dk_28 (dk_at dksX2_next_0 19 rfl rfl)
theorem dX2_next_20 : decode cX2_next 20 = .ok (.invokevirtual 49, 3) := dk_182 0 49 (dk_at dksX2_next_0 20 rfl rfl)
theorem dX2_next_23 : decode cX2_next 23 = .ok (.checkcast 68, 3) := dk_192 0 68 (dk_at dksX2_next_1 0 rfl rfl)
theorem dX2_next_26 : decode cX2_next 26 = .ok (.astore_n 3, 1) := dk_78 (dk_at dksX2_next_1 3 rfl rfl)
theorem dX2_next_27 : decode cX2_next 27 = .ok (.aload_n 3, 1) := dk_45 (dk_at dksX2_next_1 4 rfl rfl)
theorem dX2_next_28 : decode cX2_next 28 = .ok (.getfield 136, 3) := dk_180 0 136 (dk_at dksX2_next_1 5 rfl rfl)
theorem dX2_next_31 : decode cX2_next 31 = .ok (.iconst 2, 1) := dk_5 (dk_at dksX2_next_1 8 rfl rfl)
theorem dX2_next_32 : decode cX2_next 32 = .ok (.if_icmp .ne 18, 3) := dk_160 0 18 (dk_at dksX2_next_1 9 rfl rfl)
theorem dX2_next_35 : decode cX2_next 35 = .ok (.aload_n 1, 1) := dk_43 (dk_at dksX2_next_1 12 rfl rfl)
theorem dX2_next_36 : decode cX2_next 36 = .ok (.ifnull 12, 3) := dk_198 0 12 (dk_at dksX2_next_1 13 rfl rfl)
theorem dX2_next_39 : decode cX2_next 39 = .ok (.aload_n 0, 1) := dk_42 (dk_at dksX2_next_1 16 rfl rfl)
theorem dX2_next_40 : decode cX2_next 40 = .ok (.aload_n 3, 1) := dk_45 (dk_at dksX2_next_1 17 rfl rfl)
theorem dX2_next_41 : decode cX2_next 41 = .ok (.aload_n 1, 1) := dk_43 (dk_at dksX2_next_1 18 rfl rfl)
theorem dX2_next_42 : decode cX2_next 42 = .ok (.invokevirtual 164, 3) := dk_182 0 164 (dk_at dksX2_next_1 19 rfl rfl)
theorem dX2_next_45 : decode cX2_next 45 = .ok (.ifCond .eq 5, 3) := dk_153 0 5 (dk_at dksX2_next_2 0 rfl rfl)
theorem dX2_next_48 : decode cX2_next 48 = .ok (.aload_n 3, 1) := dk_45 (dk_at dksX2_next_2 3 rfl rfl)
theorem dX2_next_49 : decode cX2_next 49 = .ok (.astore_n 1, 1) := dk_76 (dk_at dksX2_next_2 4 rfl rfl)
theorem dX2_next_50 : decode cX2_next 50 = .ok (.iinc 2 1, 3) := dk_132 2 1 (dk_at dksX2_next_2 5 rfl rfl)
theorem dX2_next_53 : decode cX2_next 53 = .ok (.goto (-49), 3) := dk_167 255 207 (dk_at dksX2_next_2 8 rfl rfl)
theorem dX2_next_56 : decode cX2_next 56 = .ok (.aload_n 1, 1) := dk_43 (dk_at dksX2_next_2 11 rfl rfl)
theorem dX2_next_57 : decode cX2_next 57 = .ok (.areturn, 1) := dk_176 (dk_at dksX2_next_2 12 rfl rfl)
abbrev cX2_isAhead : ByteArray := prog_5_method_8_code
def yX2_isAhead : MethodName := ⟨RX2, "isAhead", "(LCanecrush$Load;LCanecrush$Load;)Z"⟩
def dkwX2_isAhead_3 : List UInt8 := [180, 0, 137, 44, 180, 0, 137, 162, 0, 7, 4, 167, 0, 4, 3, 172]
abbrev dktX2_isAhead_3 : List UInt8 := dkwX2_isAhead_3 ++ []
def dkwX2_isAhead_2 : List UInt8 := [100, 167, 0, 4, 3, 62, 29, 153, 0, 15, 29, 156, 0, 7, 4, 167, 0, 23, 3, 167, 0, 19, 43]
abbrev dktX2_isAhead_2 : List UInt8 := dkwX2_isAhead_2 ++ dktX2_isAhead_3
def dkwX2_isAhead_1 : List UInt8 := [182, 0, 157, 46, 100, 167, 0, 24, 42, 180, 0, 91, 5, 160, 0, 15, 44, 180, 0, 161, 43, 180, 0, 161]
abbrev dktX2_isAhead_1 : List UInt8 := dkwX2_isAhead_1 ++ dktX2_isAhead_2
def dkwX2_isAhead_0 : List UInt8 := [42, 180, 0, 91, 4, 160, 0, 27, 42, 180, 0, 24, 42, 43, 182, 0, 157, 46, 42, 180, 0, 24, 42, 44]
abbrev dktX2_isAhead_0 : List UInt8 := dkwX2_isAhead_0 ++ dktX2_isAhead_1
theorem dksX2_isAhead_0 : cX2_isAhead.data.toList.drop 0 = dktX2_isAhead_0 := by decide +kernel
theorem dksX2_isAhead_1 : cX2_isAhead.data.toList.drop 24 = dktX2_isAhead_1 := dk_seg dksX2_isAhead_0 24 rfl rfl
theorem dksX2_isAhead_2 : cX2_isAhead.data.toList.drop 48 = dktX2_isAhead_2 := dk_seg dksX2_isAhead_1 24 rfl rfl
theorem dksX2_isAhead_3 : cX2_isAhead.data.toList.drop 71 = dktX2_isAhead_3 := dk_seg dksX2_isAhead_2 23 rfl rfl
theorem dX2_isAhead_0 : decode cX2_isAhead 0 = .ok (.aload_n 0, 1) := dk_42 (dk_at dksX2_isAhead_0 0 rfl rfl)
theorem dX2_isAhead_1 : decode cX2_isAhead 1 = .ok (.getfield 91, 3) := dk_180 0 91 (dk_at dksX2_isAhead_0 1 rfl rfl)
theorem dX2_isAhead_4 : decode cX2_isAhead 4 = .ok (.iconst 1, 1) := dk_4 (dk_at dksX2_isAhead_0 4 rfl rfl)
theorem dX2_isAhead_5 : decode cX2_isAhead 5 = .ok (.if_icmp .ne 27, 3) := dk_160 0 27 (dk_at dksX2_isAhead_0 5 rfl rfl)
theorem dX2_isAhead_8 : decode cX2_isAhead 8 = .ok (.aload_n 0, 1) := dk_42 (dk_at dksX2_isAhead_0 8 rfl rfl)
theorem dX2_isAhead_9 : decode cX2_isAhead 9 = .ok (.getfield 24, 3) := dk_180 0 24 (dk_at dksX2_isAhead_0 9 rfl rfl)
theorem dX2_isAhead_12 : decode cX2_isAhead 12 = .ok (.aload_n 0, 1) := dk_42 (dk_at dksX2_isAhead_0 12 rfl rfl)
theorem dX2_isAhead_13 : decode cX2_isAhead 13 = .ok (.aload_n 1, 1) := dk_43 (dk_at dksX2_isAhead_0 13 rfl rfl)
theorem dX2_isAhead_14 : decode cX2_isAhead 14 = .ok (.invokevirtual 157, 3) := dk_182 0 157 (dk_at dksX2_isAhead_0 14 rfl rfl)
theorem dX2_isAhead_17 : decode cX2_isAhead 17 = .ok (.iaload, 1) := dk_46 (dk_at dksX2_isAhead_0 17 rfl rfl)
theorem dX2_isAhead_18 : decode cX2_isAhead 18 = .ok (.aload_n 0, 1) := dk_42 (dk_at dksX2_isAhead_0 18 rfl rfl)
theorem dX2_isAhead_19 : decode cX2_isAhead 19 = .ok (.getfield 24, 3) := dk_180 0 24 (dk_at dksX2_isAhead_0 19 rfl rfl)
theorem dX2_isAhead_22 : decode cX2_isAhead 22 = .ok (.aload_n 0, 1) := dk_42 (dk_at dksX2_isAhead_0 22 rfl rfl)
theorem dX2_isAhead_23 : decode cX2_isAhead 23 = .ok (.aload_n 2, 1) := dk_44 (dk_at dksX2_isAhead_0 23 rfl rfl)
theorem dX2_isAhead_24 : decode cX2_isAhead 24 = .ok (.invokevirtual 157, 3) := dk_182 0 157 (dk_at dksX2_isAhead_1 0 rfl rfl)
theorem dX2_isAhead_27 : decode cX2_isAhead 27 = .ok (.iaload, 1) := dk_46 (dk_at dksX2_isAhead_1 3 rfl rfl)
theorem dX2_isAhead_28 : decode cX2_isAhead 28 = .ok (.isub, 1) := dk_100 (dk_at dksX2_isAhead_1 4 rfl rfl)
theorem dX2_isAhead_29 : decode cX2_isAhead 29 = .ok (.goto 24, 3) := dk_167 0 24 (dk_at dksX2_isAhead_1 5 rfl rfl)
theorem dX2_isAhead_32 : decode cX2_isAhead 32 = .ok (.aload_n 0, 1) := dk_42 (dk_at dksX2_isAhead_1 8 rfl rfl)
theorem dX2_isAhead_33 : decode cX2_isAhead 33 = .ok (.getfield 91, 3) := dk_180 0 91 (dk_at dksX2_isAhead_1 9 rfl rfl)
theorem dX2_isAhead_36 : decode cX2_isAhead 36 = .ok (.iconst 2, 1) := dk_5 (dk_at dksX2_isAhead_1 12 rfl rfl)
theorem dX2_isAhead_37 : decode cX2_isAhead 37 = .ok (.if_icmp .ne 15, 3) := dk_160 0 15 (dk_at dksX2_isAhead_1 13 rfl rfl)
theorem dX2_isAhead_40 : decode cX2_isAhead 40 = .ok (.aload_n 2, 1) := dk_44 (dk_at dksX2_isAhead_1 16 rfl rfl)
theorem dX2_isAhead_41 : decode cX2_isAhead 41 = .ok (.getfield 161, 3) := dk_180 0 161 (dk_at dksX2_isAhead_1 17 rfl rfl)
theorem dX2_isAhead_44 : decode cX2_isAhead 44 = .ok (.aload_n 1, 1) := dk_43 (dk_at dksX2_isAhead_1 20 rfl rfl)
theorem dX2_isAhead_45 : decode cX2_isAhead 45 = .ok (.getfield 161, 3) := dk_180 0 161 (dk_at dksX2_isAhead_1 21 rfl rfl)
theorem dX2_isAhead_48 : decode cX2_isAhead 48 = .ok (.isub, 1) := dk_100 (dk_at dksX2_isAhead_2 0 rfl rfl)
theorem dX2_isAhead_49 : decode cX2_isAhead 49 = .ok (.goto 4, 3) := dk_167 0 4 (dk_at dksX2_isAhead_2 1 rfl rfl)
theorem dX2_isAhead_52 : decode cX2_isAhead 52 = .ok (.iconst 0, 1) := dk_3 (dk_at dksX2_isAhead_2 4 rfl rfl)
theorem dX2_isAhead_53 : decode cX2_isAhead 53 = .ok (.istore_n 3, 1) := dk_62 (dk_at dksX2_isAhead_2 5 rfl rfl)
theorem dX2_isAhead_54 : decode cX2_isAhead 54 = .ok (.iload_n 3, 1) := dk_29 (dk_at dksX2_isAhead_2 6 rfl rfl)
theorem dX2_isAhead_55 : decode cX2_isAhead 55 = .ok (.ifCond .eq 15, 3) := dk_153 0 15 (dk_at dksX2_isAhead_2 7 rfl rfl)
theorem dX2_isAhead_58 : decode cX2_isAhead 58 = .ok (.iload_n 3, 1) := dk_29 (dk_at dksX2_isAhead_2 10 rfl rfl)
theorem dX2_isAhead_59 : decode cX2_isAhead 59 = .ok (.ifCond .ge 7, 3) := dk_156 0 7 (dk_at dksX2_isAhead_2 11 rfl rfl)
theorem dX2_isAhead_62 : decode cX2_isAhead 62 = .ok (.iconst 1, 1) := dk_4 (dk_at dksX2_isAhead_2 14 rfl rfl)
theorem dX2_isAhead_63 : decode cX2_isAhead 63 = .ok (.goto 23, 3) := dk_167 0 23 (dk_at dksX2_isAhead_2 15 rfl rfl)
theorem dX2_isAhead_66 : decode cX2_isAhead 66 = .ok (.iconst 0, 1) := dk_3 (dk_at dksX2_isAhead_2 18 rfl rfl)
theorem dX2_isAhead_67 : decode cX2_isAhead 67 = .ok (.goto 19, 3) := dk_167 0 19 (dk_at dksX2_isAhead_2 19 rfl rfl)
theorem dX2_isAhead_70 : decode cX2_isAhead 70 = .ok (.aload_n 1, 1) := dk_43 (dk_at dksX2_isAhead_2 22 rfl rfl)
theorem dX2_isAhead_71 : decode cX2_isAhead 71 = .ok (.getfield 137, 3) := dk_180 0 137 (dk_at dksX2_isAhead_3 0 rfl rfl)
theorem dX2_isAhead_74 : decode cX2_isAhead 74 = .ok (.aload_n 2, 1) := dk_44 (dk_at dksX2_isAhead_3 3 rfl rfl)
theorem dX2_isAhead_75 : decode cX2_isAhead 75 = .ok (.getfield 137, 3) := dk_180 0 137 (dk_at dksX2_isAhead_3 4 rfl rfl)
theorem dX2_isAhead_78 : decode cX2_isAhead 78 = .ok (.if_icmp .ge 7, 3) := dk_162 0 7 (dk_at dksX2_isAhead_3 7 rfl rfl)
theorem dX2_isAhead_81 : decode cX2_isAhead 81 = .ok (.iconst 1, 1) := dk_4 (dk_at dksX2_isAhead_3 10 rfl rfl)
theorem dX2_isAhead_82 : decode cX2_isAhead 82 = .ok (.goto 4, 3) := dk_167 0 4 (dk_at dksX2_isAhead_3 11 rfl rfl)
theorem dX2_isAhead_85 : decode cX2_isAhead 85 = .ok (.iconst 0, 1) := dk_3 (dk_at dksX2_isAhead_3 14 rfl rfl)
theorem dX2_isAhead_86 : decode cX2_isAhead 86 = .ok (.ireturn, 1) := dk_172 (dk_at dksX2_isAhead_3 15 rfl rfl)
abbrev cX2_growerOf : ByteArray := prog_5_method_7_code
def yX2_growerOf : MethodName := ⟨RX2, "growerOf", "(LCanecrush$Load;)I"⟩
def dkwX2_growerOf_0 : List UInt8 := [42, 180, 0, 12, 43, 180, 0, 153, 182, 0, 49, 192, 0, 53, 180, 0, 154, 172]
abbrev dktX2_growerOf_0 : List UInt8 := dkwX2_growerOf_0 ++ []
theorem dksX2_growerOf_0 : cX2_growerOf.data.toList.drop 0 = dktX2_growerOf_0 := by decide +kernel
theorem dX2_growerOf_0 : decode cX2_growerOf 0 = .ok (.aload_n 0, 1) := dk_42 (dk_at dksX2_growerOf_0 0 rfl rfl)
theorem dX2_growerOf_1 : decode cX2_growerOf 1 = .ok (.getfield 12, 3) := dk_180 0 12 (dk_at dksX2_growerOf_0 1 rfl rfl)
theorem dX2_growerOf_4 : decode cX2_growerOf 4 = .ok (.aload_n 1, 1) := dk_43 (dk_at dksX2_growerOf_0 4 rfl rfl)
theorem dX2_growerOf_5 : decode cX2_growerOf 5 = .ok (.getfield 153, 3) := dk_180 0 153 (dk_at dksX2_growerOf_0 5 rfl rfl)
theorem dX2_growerOf_8 : decode cX2_growerOf 8 = .ok (.invokevirtual 49, 3) := dk_182 0 49 (dk_at dksX2_growerOf_0 8 rfl rfl)
theorem dX2_growerOf_11 : decode cX2_growerOf 11 = .ok (.checkcast 53, 3) := dk_192 0 53 (dk_at dksX2_growerOf_0 11 rfl rfl)
theorem dX2_growerOf_14 : decode cX2_growerOf 14 = .ok (.getfield 154, 3) := dk_180 0 154 (dk_at dksX2_growerOf_0 14 rfl rfl)
theorem dX2_growerOf_17 : decode cX2_growerOf 17 = .ok (.ireturn, 1) := dk_172 (dk_at dksX2_growerOf_0 17 rfl rfl)
abbrev cX2_crush_2 : ByteArray := prog_5_method_11_code
def yX2_crush_2 : MethodName := ⟨RX2, "crush", "(LCanecrush$Load;)V"⟩
def dkwX2_crush_2_6 : List UInt8 := [180, 0, 171, 5, 42, 180, 0, 41, 96, 104, 16, 20, 108, 182, 0, 196, 87, 177]
abbrev dktX2_crush_2_6 : List UInt8 := dkwX2_crush_2_6 ++ []
def dkwX2_crush_2_5 : List UInt8 := [181, 0, 193, 42, 89, 180, 0, 97, 6, 43, 180, 0, 171, 104, 16, 10, 108, 96, 181, 0, 97, 42, 43]
abbrev dktX2_crush_2_5 : List UInt8 := dkwX2_crush_2_5 ++ dktX2_crush_2_6
def dkwX2_crush_2_4 : List UInt8 := [16, 100, 108, 62, 42, 89, 180, 0, 94, 29, 96, 181, 0, 94, 42, 89, 180, 0, 193, 28, 29, 100, 96]
abbrev dktX2_crush_2_4 : List UInt8 := dkwX2_crush_2_4 ++ dktX2_crush_2_5
def dkwX2_crush_2_3 : List UInt8 := [180, 0, 161, 104, 16, 10, 108, 61, 28, 16, 88, 42, 180, 0, 41, 96, 43, 180, 0, 190, 5, 108, 100, 104]
abbrev dktX2_crush_2_3 : List UInt8 := dkwX2_crush_2_3 ++ dktX2_crush_2_4
def dkwX2_crush_2_2 : List UInt8 := [89, 180, 0, 186, 43, 180, 0, 171, 43, 180, 0, 161, 104, 133, 97, 181, 0, 186, 43, 180, 0, 171, 43]
abbrev dktX2_crush_2_2 : List UInt8 := dkwX2_crush_2_2 ++ dktX2_crush_2_3
def dkwX2_crush_2_1 : List UInt8 := [43, 180, 0, 171, 96, 79, 42, 180, 0, 28, 42, 43, 182, 0, 157, 92, 46, 43, 180, 0, 171, 96, 79, 42]
abbrev dktX2_crush_2_1 : List UInt8 := dkwX2_crush_2_1 ++ dktX2_crush_2_2
def dkwX2_crush_2_0 : List UInt8 := [43, 6, 181, 0, 136, 43, 42, 180, 0, 79, 181, 0, 183, 42, 180, 0, 24, 42, 43, 182, 0, 157, 92, 46]
abbrev dktX2_crush_2_0 : List UInt8 := dkwX2_crush_2_0 ++ dktX2_crush_2_1
theorem dksX2_crush_2_0 : cX2_crush_2.data.toList.drop 0 = dktX2_crush_2_0 := by decide +kernel
theorem dksX2_crush_2_1 : cX2_crush_2.data.toList.drop 24 = dktX2_crush_2_1 := dk_seg dksX2_crush_2_0 24 rfl rfl
theorem dksX2_crush_2_2 : cX2_crush_2.data.toList.drop 48 = dktX2_crush_2_2 := dk_seg dksX2_crush_2_1 24 rfl rfl
theorem dksX2_crush_2_3 : cX2_crush_2.data.toList.drop 71 = dktX2_crush_2_3 := dk_seg dksX2_crush_2_2 23 rfl rfl
theorem dksX2_crush_2_4 : cX2_crush_2.data.toList.drop 95 = dktX2_crush_2_4 := dk_seg dksX2_crush_2_3 24 rfl rfl
theorem dksX2_crush_2_5 : cX2_crush_2.data.toList.drop 118 = dktX2_crush_2_5 := dk_seg dksX2_crush_2_4 23 rfl rfl
theorem dksX2_crush_2_6 : cX2_crush_2.data.toList.drop 141 = dktX2_crush_2_6 := dk_seg dksX2_crush_2_5 23 rfl rfl
theorem dX2_crush_2_0 : decode cX2_crush_2 0 = .ok (.aload_n 1, 1) := dk_43 (dk_at dksX2_crush_2_0 0 rfl rfl)
theorem dX2_crush_2_1 : decode cX2_crush_2 1 = .ok (.iconst 3, 1) := dk_6 (dk_at dksX2_crush_2_0 1 rfl rfl)
theorem dX2_crush_2_2 : decode cX2_crush_2 2 = .ok (.putfield 136, 3) := dk_181 0 136 (dk_at dksX2_crush_2_0 2 rfl rfl)
theorem dX2_crush_2_5 : decode cX2_crush_2 5 = .ok (.aload_n 1, 1) := dk_43 (dk_at dksX2_crush_2_0 5 rfl rfl)
theorem dX2_crush_2_6 : decode cX2_crush_2 6 = .ok (.aload_n 0, 1) := dk_42 (dk_at dksX2_crush_2_0 6 rfl rfl)
theorem dX2_crush_2_7 : decode cX2_crush_2 7 = .ok (.getfield 79, 3) := dk_180 0 79 (dk_at dksX2_crush_2_0 7 rfl rfl)
theorem dX2_crush_2_10 : decode cX2_crush_2 10 = .ok (.putfield 183, 3) := dk_181 0 183 (dk_at dksX2_crush_2_0 10 rfl rfl)
theorem dX2_crush_2_13 : decode cX2_crush_2 13 = .ok (.aload_n 0, 1) := dk_42 (dk_at dksX2_crush_2_0 13 rfl rfl)
theorem dX2_crush_2_14 : decode cX2_crush_2 14 = .ok (.getfield 24, 3) := dk_180 0 24 (dk_at dksX2_crush_2_0 14 rfl rfl)
theorem dX2_crush_2_17 : decode cX2_crush_2 17 = .ok (.aload_n 0, 1) := dk_42 (dk_at dksX2_crush_2_0 17 rfl rfl)
theorem dX2_crush_2_18 : decode cX2_crush_2 18 = .ok (.aload_n 1, 1) := dk_43 (dk_at dksX2_crush_2_0 18 rfl rfl)
theorem dX2_crush_2_19 : decode cX2_crush_2 19 = .ok (.invokevirtual 157, 3) := dk_182 0 157 (dk_at dksX2_crush_2_0 19 rfl rfl)
theorem dX2_crush_2_22 : decode cX2_crush_2 22 = .ok (.dup2, 1) := dk_92 (dk_at dksX2_crush_2_0 22 rfl rfl)
theorem dX2_crush_2_23 : decode cX2_crush_2 23 = .ok (.iaload, 1) := dk_46 (dk_at dksX2_crush_2_0 23 rfl rfl)
theorem dX2_crush_2_24 : decode cX2_crush_2 24 = .ok (.aload_n 1, 1) := dk_43 (dk_at dksX2_crush_2_1 0 rfl rfl)
theorem dX2_crush_2_25 : decode cX2_crush_2 25 = .ok (.getfield 171, 3) := dk_180 0 171 (dk_at dksX2_crush_2_1 1 rfl rfl)
theorem dX2_crush_2_28 : decode cX2_crush_2 28 = .ok (.iadd, 1) := dk_96 (dk_at dksX2_crush_2_1 4 rfl rfl)
theorem dX2_crush_2_29 : decode cX2_crush_2 29 = .ok (.iastore, 1) := dk_79 (dk_at dksX2_crush_2_1 5 rfl rfl)
theorem dX2_crush_2_30 : decode cX2_crush_2 30 = .ok (.aload_n 0, 1) := dk_42 (dk_at dksX2_crush_2_1 6 rfl rfl)
theorem dX2_crush_2_31 : decode cX2_crush_2 31 = .ok (.getfield 28, 3) := dk_180 0 28 (dk_at dksX2_crush_2_1 7 rfl rfl)
theorem dX2_crush_2_34 : decode cX2_crush_2 34 = .ok (.aload_n 0, 1) := dk_42 (dk_at dksX2_crush_2_1 10 rfl rfl)
theorem dX2_crush_2_35 : decode cX2_crush_2 35 = .ok (.aload_n 1, 1) := dk_43 (dk_at dksX2_crush_2_1 11 rfl rfl)
theorem dX2_crush_2_36 : decode cX2_crush_2 36 = .ok (.invokevirtual 157, 3) := dk_182 0 157 (dk_at dksX2_crush_2_1 12 rfl rfl)
theorem dX2_crush_2_39 : decode cX2_crush_2 39 = .ok (.dup2, 1) := dk_92 (dk_at dksX2_crush_2_1 15 rfl rfl)
theorem dX2_crush_2_40 : decode cX2_crush_2 40 = .ok (.iaload, 1) := dk_46 (dk_at dksX2_crush_2_1 16 rfl rfl)
theorem dX2_crush_2_41 : decode cX2_crush_2 41 = .ok (.aload_n 1, 1) := dk_43 (dk_at dksX2_crush_2_1 17 rfl rfl)
theorem dX2_crush_2_42 : decode cX2_crush_2 42 = .ok (.getfield 171, 3) := dk_180 0 171 (dk_at dksX2_crush_2_1 18 rfl rfl)
theorem dX2_crush_2_45 : decode cX2_crush_2 45 = .ok (.iadd, 1) := dk_96 (dk_at dksX2_crush_2_1 21 rfl rfl)
theorem dX2_crush_2_46 : decode cX2_crush_2 46 = .ok (.iastore, 1) := dk_79 (dk_at dksX2_crush_2_1 22 rfl rfl)
theorem dX2_crush_2_47 : decode cX2_crush_2 47 = .ok (.aload_n 0, 1) := dk_42 (dk_at dksX2_crush_2_1 23 rfl rfl)
theorem dX2_crush_2_48 : decode cX2_crush_2 48 = .ok (.dup, 1) := dk_89 (dk_at dksX2_crush_2_2 0 rfl rfl)
theorem dX2_crush_2_49 : decode cX2_crush_2 49 = .ok (.getfield 186, 3) := dk_180 0 186 (dk_at dksX2_crush_2_2 1 rfl rfl)
theorem dX2_crush_2_52 : decode cX2_crush_2 52 = .ok (.aload_n 1, 1) := dk_43 (dk_at dksX2_crush_2_2 4 rfl rfl)
theorem dX2_crush_2_53 : decode cX2_crush_2 53 = .ok (.getfield 171, 3) := dk_180 0 171 (dk_at dksX2_crush_2_2 5 rfl rfl)
theorem dX2_crush_2_56 : decode cX2_crush_2 56 = .ok (.aload_n 1, 1) := dk_43 (dk_at dksX2_crush_2_2 8 rfl rfl)
theorem dX2_crush_2_57 : decode cX2_crush_2 57 = .ok (.getfield 161, 3) := dk_180 0 161 (dk_at dksX2_crush_2_2 9 rfl rfl)
theorem dX2_crush_2_60 : decode cX2_crush_2 60 = .ok (.imul, 1) := dk_104 (dk_at dksX2_crush_2_2 12 rfl rfl)
theorem dX2_crush_2_61 : decode cX2_crush_2 61 = .ok (.i2l, 1) := dk_133 (dk_at dksX2_crush_2_2 13 rfl rfl)
theorem dX2_crush_2_62 : decode cX2_crush_2 62 = .ok (.ladd, 1) := dk_97 (dk_at dksX2_crush_2_2 14 rfl rfl)
theorem dX2_crush_2_63 : decode cX2_crush_2 63 = .ok (.putfield 186, 3) := dk_181 0 186 (dk_at dksX2_crush_2_2 15 rfl rfl)
theorem dX2_crush_2_66 : decode cX2_crush_2 66 = .ok (.aload_n 1, 1) := dk_43 (dk_at dksX2_crush_2_2 18 rfl rfl)
theorem dX2_crush_2_67 : decode cX2_crush_2 67 = .ok (.getfield 171, 3) := dk_180 0 171 (dk_at dksX2_crush_2_2 19 rfl rfl)
theorem dX2_crush_2_70 : decode cX2_crush_2 70 = .ok (.aload_n 1, 1) := dk_43 (dk_at dksX2_crush_2_2 22 rfl rfl)
theorem dX2_crush_2_71 : decode cX2_crush_2 71 = .ok (.getfield 161, 3) := dk_180 0 161 (dk_at dksX2_crush_2_3 0 rfl rfl)
theorem dX2_crush_2_74 : decode cX2_crush_2 74 = .ok (.imul, 1) := dk_104 (dk_at dksX2_crush_2_3 3 rfl rfl)
theorem dX2_crush_2_75 : decode cX2_crush_2 75 = .ok (.bipush 10, 2) := dk_16 10 (dk_at dksX2_crush_2_3 4 rfl rfl)
theorem dX2_crush_2_77 : decode cX2_crush_2 77 = .ok (.idiv, 1) := dk_108 (dk_at dksX2_crush_2_3 6 rfl rfl)
theorem dX2_crush_2_78 : decode cX2_crush_2 78 = .ok (.istore_n 2, 1) := dk_61 (dk_at dksX2_crush_2_3 7 rfl rfl)
theorem dX2_crush_2_79 : decode cX2_crush_2 79 = .ok (.iload_n 2, 1) := dk_28 (dk_at dksX2_crush_2_3 8 rfl rfl)
theorem dX2_crush_2_80 : decode cX2_crush_2 80 = .ok (.bipush 88, 2) := dk_16 88 (dk_at dksX2_crush_2_3 9 rfl rfl)
theorem dX2_crush_2_82 : decode cX2_crush_2 82 = .ok (.aload_n 0, 1) := dk_42 (dk_at dksX2_crush_2_3 11 rfl rfl)
theorem dX2_crush_2_83 : decode cX2_crush_2 83 = .ok (.getfield 41, 3) := dk_180 0 41 (dk_at dksX2_crush_2_3 12 rfl rfl)
theorem dX2_crush_2_86 : decode cX2_crush_2 86 = .ok (.iadd, 1) := dk_96 (dk_at dksX2_crush_2_3 15 rfl rfl)
theorem dX2_crush_2_87 : decode cX2_crush_2 87 = .ok (.aload_n 1, 1) := dk_43 (dk_at dksX2_crush_2_3 16 rfl rfl)
theorem dX2_crush_2_88 : decode cX2_crush_2 88 = .ok (.getfield 190, 3) := dk_180 0 190 (dk_at dksX2_crush_2_3 17 rfl rfl)
theorem dX2_crush_2_91 : decode cX2_crush_2 91 = .ok (.iconst 2, 1) := dk_5 (dk_at dksX2_crush_2_3 20 rfl rfl)
theorem dX2_crush_2_92 : decode cX2_crush_2 92 = .ok (.idiv, 1) := dk_108 (dk_at dksX2_crush_2_3 21 rfl rfl)
theorem dX2_crush_2_93 : decode cX2_crush_2 93 = .ok (.isub, 1) := dk_100 (dk_at dksX2_crush_2_3 22 rfl rfl)
theorem dX2_crush_2_94 : decode cX2_crush_2 94 = .ok (.imul, 1) := dk_104 (dk_at dksX2_crush_2_3 23 rfl rfl)
theorem dX2_crush_2_95 : decode cX2_crush_2 95 = .ok (.bipush 100, 2) := dk_16 100 (dk_at dksX2_crush_2_4 0 rfl rfl)
theorem dX2_crush_2_97 : decode cX2_crush_2 97 = .ok (.idiv, 1) := dk_108 (dk_at dksX2_crush_2_4 2 rfl rfl)
theorem dX2_crush_2_98 : decode cX2_crush_2 98 = .ok (.istore_n 3, 1) := dk_62 (dk_at dksX2_crush_2_4 3 rfl rfl)
theorem dX2_crush_2_99 : decode cX2_crush_2 99 = .ok (.aload_n 0, 1) := dk_42 (dk_at dksX2_crush_2_4 4 rfl rfl)
theorem dX2_crush_2_100 : decode cX2_crush_2 100 = .ok (.dup, 1) := dk_89 (dk_at dksX2_crush_2_4 5 rfl rfl)
theorem dX2_crush_2_101 : decode cX2_crush_2 101 = .ok (.getfield 94, 3) := dk_180 0 94 (dk_at dksX2_crush_2_4 6 rfl rfl)
theorem dX2_crush_2_104 : decode cX2_crush_2 104 = .ok (.iload_n 3, 1) := dk_29 (dk_at dksX2_crush_2_4 9 rfl rfl)
theorem dX2_crush_2_105 : decode cX2_crush_2 105 = .ok (.iadd, 1) := dk_96 (dk_at dksX2_crush_2_4 10 rfl rfl)
theorem dX2_crush_2_106 : decode cX2_crush_2 106 = .ok (.putfield 94, 3) := dk_181 0 94 (dk_at dksX2_crush_2_4 11 rfl rfl)
theorem dX2_crush_2_109 : decode cX2_crush_2 109 = .ok (.aload_n 0, 1) := dk_42 (dk_at dksX2_crush_2_4 14 rfl rfl)
theorem dX2_crush_2_110 : decode cX2_crush_2 110 = .ok (.dup, 1) := dk_89 (dk_at dksX2_crush_2_4 15 rfl rfl)
theorem dX2_crush_2_111 : decode cX2_crush_2 111 = .ok (.getfield 193, 3) := dk_180 0 193 (dk_at dksX2_crush_2_4 16 rfl rfl)
theorem dX2_crush_2_114 : decode cX2_crush_2 114 = .ok (.iload_n 2, 1) := dk_28 (dk_at dksX2_crush_2_4 19 rfl rfl)
theorem dX2_crush_2_115 : decode cX2_crush_2 115 = .ok (.iload_n 3, 1) := dk_29 (dk_at dksX2_crush_2_4 20 rfl rfl)
theorem dX2_crush_2_116 : decode cX2_crush_2 116 = .ok (.isub, 1) := dk_100 (dk_at dksX2_crush_2_4 21 rfl rfl)
theorem dX2_crush_2_117 : decode cX2_crush_2 117 = .ok (.iadd, 1) := dk_96 (dk_at dksX2_crush_2_4 22 rfl rfl)
theorem dX2_crush_2_118 : decode cX2_crush_2 118 = .ok (.putfield 193, 3) := dk_181 0 193 (dk_at dksX2_crush_2_5 0 rfl rfl)
theorem dX2_crush_2_121 : decode cX2_crush_2 121 = .ok (.aload_n 0, 1) := dk_42 (dk_at dksX2_crush_2_5 3 rfl rfl)
theorem dX2_crush_2_122 : decode cX2_crush_2 122 = .ok (.dup, 1) := dk_89 (dk_at dksX2_crush_2_5 4 rfl rfl)
theorem dX2_crush_2_123 : decode cX2_crush_2 123 = .ok (.getfield 97, 3) := dk_180 0 97 (dk_at dksX2_crush_2_5 5 rfl rfl)
theorem dX2_crush_2_126 : decode cX2_crush_2 126 = .ok (.iconst 3, 1) := dk_6 (dk_at dksX2_crush_2_5 8 rfl rfl)
theorem dX2_crush_2_127 : decode cX2_crush_2 127 = .ok (.aload_n 1, 1) := dk_43 (dk_at dksX2_crush_2_5 9 rfl rfl)
theorem dX2_crush_2_128 : decode cX2_crush_2 128 = .ok (.getfield 171, 3) := dk_180 0 171 (dk_at dksX2_crush_2_5 10 rfl rfl)
theorem dX2_crush_2_131 : decode cX2_crush_2 131 = .ok (.imul, 1) := dk_104 (dk_at dksX2_crush_2_5 13 rfl rfl)
theorem dX2_crush_2_132 : decode cX2_crush_2 132 = .ok (.bipush 10, 2) := dk_16 10 (dk_at dksX2_crush_2_5 14 rfl rfl)
theorem dX2_crush_2_134 : decode cX2_crush_2 134 = .ok (.idiv, 1) := dk_108 (dk_at dksX2_crush_2_5 16 rfl rfl)
theorem dX2_crush_2_135 : decode cX2_crush_2 135 = .ok (.iadd, 1) := dk_96 (dk_at dksX2_crush_2_5 17 rfl rfl)
theorem dX2_crush_2_136 : decode cX2_crush_2 136 = .ok (.putfield 97, 3) := dk_181 0 97 (dk_at dksX2_crush_2_5 18 rfl rfl)
theorem dX2_crush_2_139 : decode cX2_crush_2 139 = .ok (.aload_n 0, 1) := dk_42 (dk_at dksX2_crush_2_5 21 rfl rfl)
theorem dX2_crush_2_140 : decode cX2_crush_2 140 = .ok (.aload_n 1, 1) := dk_43 (dk_at dksX2_crush_2_5 22 rfl rfl)
theorem dX2_crush_2_141 : decode cX2_crush_2 141 = .ok (.getfield 171, 3) := dk_180 0 171 (dk_at dksX2_crush_2_6 0 rfl rfl)
theorem dX2_crush_2_144 : decode cX2_crush_2 144 = .ok (.iconst 2, 1) := dk_5 (dk_at dksX2_crush_2_6 3 rfl rfl)
theorem dX2_crush_2_145 : decode cX2_crush_2 145 = .ok (.aload_n 0, 1) := dk_42 (dk_at dksX2_crush_2_6 4 rfl rfl)
theorem dX2_crush_2_146 : decode cX2_crush_2 146 = .ok (.getfield 41, 3) := dk_180 0 41 (dk_at dksX2_crush_2_6 5 rfl rfl)
theorem dX2_crush_2_149 : decode cX2_crush_2 149 = .ok (.iadd, 1) := dk_96 (dk_at dksX2_crush_2_6 8 rfl rfl)
theorem dX2_crush_2_150 : decode cX2_crush_2 150 = .ok (.imul, 1) := dk_104 (dk_at dksX2_crush_2_6 9 rfl rfl)
theorem dX2_crush_2_151 : decode cX2_crush_2 151 = .ok (.bipush 20, 2) := dk_16 20 (dk_at dksX2_crush_2_6 10 rfl rfl)
theorem dX2_crush_2_153 : decode cX2_crush_2 153 = .ok (.idiv, 1) := dk_108 (dk_at dksX2_crush_2_6 12 rfl rfl)
theorem dX2_crush_2_154 : decode cX2_crush_2 154 = .ok (.invokevirtual 196, 3) := dk_182 0 196 (dk_at dksX2_crush_2_6 13 rfl rfl)
theorem dX2_crush_2_157 : decode cX2_crush_2 157 = .ok (.pop, 1) := dk_87 (dk_at dksX2_crush_2_6 16 rfl rfl)
theorem dX2_crush_2_158 : decode cX2_crush_2 158 = .ok (.return_, 1) := dk_177 (dk_at dksX2_crush_2_6 17 rfl rfl)
abbrev cX2_burn : ByteArray := prog_5_method_3_code
def yX2_burn : MethodName := ⟨RX2, "burn", "(I)I"⟩
def dkwX2_burn_2 : List UInt8 := [181, 0, 109, 28, 172]
abbrev dktX2_burn_2 : List UInt8 := dkwX2_burn_2 ++ []
def dkwX2_burn_1 : List UInt8 := [181, 0, 97, 42, 89, 180, 0, 106, 28, 96, 181, 0, 106, 42, 89, 180, 0, 109, 5, 28, 104, 100]
abbrev dktX2_burn_1 : List UInt8 := dkwX2_burn_1 ++ dktX2_burn_2
def dkwX2_burn_0 : List UInt8 := [3, 27, 42, 180, 0, 97, 100, 184, 0, 100, 61, 42, 3, 42, 180, 0, 97, 27, 100, 184, 0, 100]
abbrev dktX2_burn_0 : List UInt8 := dkwX2_burn_0 ++ dktX2_burn_1
theorem dksX2_burn_0 : cX2_burn.data.toList.drop 0 = dktX2_burn_0 := by decide +kernel
theorem dksX2_burn_1 : cX2_burn.data.toList.drop 22 = dktX2_burn_1 := dk_seg dksX2_burn_0 22 rfl rfl
theorem dksX2_burn_2 : cX2_burn.data.toList.drop 44 = dktX2_burn_2 := dk_seg dksX2_burn_1 22 rfl rfl
theorem dX2_burn_0 : decode cX2_burn 0 = .ok (.iconst 0, 1) := dk_3 (dk_at dksX2_burn_0 0 rfl rfl)
theorem dX2_burn_1 : decode cX2_burn 1 = .ok (.iload_n 1, 1) := dk_27 (dk_at dksX2_burn_0 1 rfl rfl)
theorem dX2_burn_2 : decode cX2_burn 2 = .ok (.aload_n 0, 1) := dk_42 (dk_at dksX2_burn_0 2 rfl rfl)
theorem dX2_burn_3 : decode cX2_burn 3 = .ok (.getfield 97, 3) := dk_180 0 97 (dk_at dksX2_burn_0 3 rfl rfl)
theorem dX2_burn_6 : decode cX2_burn 6 = .ok (.isub, 1) := dk_100 (dk_at dksX2_burn_0 6 rfl rfl)
theorem dX2_burn_7 : decode cX2_burn 7 = .ok (.invokestatic 100, 3) := dk_184 0 100 (dk_at dksX2_burn_0 7 rfl rfl)
theorem dX2_burn_10 : decode cX2_burn 10 = .ok (.istore_n 2, 1) := dk_61 (dk_at dksX2_burn_0 10 rfl rfl)
theorem dX2_burn_11 : decode cX2_burn 11 = .ok (.aload_n 0, 1) := dk_42 (dk_at dksX2_burn_0 11 rfl rfl)
theorem dX2_burn_12 : decode cX2_burn 12 = .ok (.iconst 0, 1) := dk_3 (dk_at dksX2_burn_0 12 rfl rfl)
theorem dX2_burn_13 : decode cX2_burn 13 = .ok (.aload_n 0, 1) := dk_42 (dk_at dksX2_burn_0 13 rfl rfl)
theorem dX2_burn_14 : decode cX2_burn 14 = .ok (.getfield 97, 3) := dk_180 0 97 (dk_at dksX2_burn_0 14 rfl rfl)
theorem dX2_burn_17 : decode cX2_burn 17 = .ok (.iload_n 1, 1) := dk_27 (dk_at dksX2_burn_0 17 rfl rfl)
theorem dX2_burn_18 : decode cX2_burn 18 = .ok (.isub, 1) := dk_100 (dk_at dksX2_burn_0 18 rfl rfl)
theorem dX2_burn_19 : decode cX2_burn 19 = .ok (.invokestatic 100, 3) := dk_184 0 100 (dk_at dksX2_burn_0 19 rfl rfl)
theorem dX2_burn_22 : decode cX2_burn 22 = .ok (.putfield 97, 3) := dk_181 0 97 (dk_at dksX2_burn_1 0 rfl rfl)
theorem dX2_burn_25 : decode cX2_burn 25 = .ok (.aload_n 0, 1) := dk_42 (dk_at dksX2_burn_1 3 rfl rfl)
theorem dX2_burn_26 : decode cX2_burn 26 = .ok (.dup, 1) := dk_89 (dk_at dksX2_burn_1 4 rfl rfl)
theorem dX2_burn_27 : decode cX2_burn 27 = .ok (.getfield 106, 3) := dk_180 0 106 (dk_at dksX2_burn_1 5 rfl rfl)
theorem dX2_burn_30 : decode cX2_burn 30 = .ok (.iload_n 2, 1) := dk_28 (dk_at dksX2_burn_1 8 rfl rfl)
theorem dX2_burn_31 : decode cX2_burn 31 = .ok (.iadd, 1) := dk_96 (dk_at dksX2_burn_1 9 rfl rfl)
theorem dX2_burn_32 : decode cX2_burn 32 = .ok (.putfield 106, 3) := dk_181 0 106 (dk_at dksX2_burn_1 10 rfl rfl)
theorem dX2_burn_35 : decode cX2_burn 35 = .ok (.aload_n 0, 1) := dk_42 (dk_at dksX2_burn_1 13 rfl rfl)
theorem dX2_burn_36 : decode cX2_burn 36 = .ok (.dup, 1) := dk_89 (dk_at dksX2_burn_1 14 rfl rfl)
theorem dX2_burn_37 : decode cX2_burn 37 = .ok (.getfield 109, 3) := dk_180 0 109 (dk_at dksX2_burn_1 15 rfl rfl)
theorem dX2_burn_40 : decode cX2_burn 40 = .ok (.iconst 2, 1) := dk_5 (dk_at dksX2_burn_1 18 rfl rfl)
theorem dX2_burn_41 : decode cX2_burn 41 = .ok (.iload_n 2, 1) := dk_28 (dk_at dksX2_burn_1 19 rfl rfl)
theorem dX2_burn_42 : decode cX2_burn 42 = .ok (.imul, 1) := dk_104 (dk_at dksX2_burn_1 20 rfl rfl)
theorem dX2_burn_43 : decode cX2_burn 43 = .ok (.isub, 1) := dk_100 (dk_at dksX2_burn_1 21 rfl rfl)
theorem dX2_burn_44 : decode cX2_burn 44 = .ok (.putfield 109, 3) := dk_181 0 109 (dk_at dksX2_burn_2 0 rfl rfl)
theorem dX2_burn_47 : decode cX2_burn 47 = .ok (.iload_n 2, 1) := dk_28 (dk_at dksX2_burn_2 3 rfl rfl)
theorem dX2_burn_48 : decode cX2_burn 48 = .ok (.ireturn, 1) := dk_172 (dk_at dksX2_burn_2 4 rfl rfl)
abbrev cX2_endDay : ByteArray := prog_5_method_12_code
def yX2_endDay : MethodName := ⟨RX2, "endDay", "(II)V"⟩
def dkwX2_endDay_9 : List UInt8 := [132, 5, 1, 167, 255, 239, 177]
abbrev dktX2_endDay_9 : List UInt8 := dkwX2_endDay_9 ++ []
def dkwX2_endDay_8 : List UInt8 := [79, 132, 5, 1, 167, 255, 163, 3, 54, 5, 21, 5, 7, 162, 0, 17, 42, 180, 0, 24, 21, 5, 3, 79]
abbrev dktX2_endDay_8 : List UInt8 := dkwX2_endDay_8 ++ dktX2_endDay_9
def dkwX2_endDay_7 : List UInt8 := [3, 25, 6, 180, 0, 171, 16, 100, 25, 6, 180, 0, 161, 96, 21, 4, 29, 108, 100, 104, 184, 0, 100, 96]
abbrev dktX2_endDay_7 : List UInt8 := dkwX2_endDay_7 ++ dktX2_endDay_8
def dkwX2_endDay_6 : List UInt8 := [25, 6, 180, 0, 136, 6, 159, 0, 6, 167, 0, 40, 42, 180, 0, 31, 42, 25, 6, 182, 0, 157, 92, 46]
abbrev dktX2_endDay_6 : List UInt8 := dkwX2_endDay_6 ++ dktX2_endDay_7
def dkwX2_endDay_5 : List UInt8 := [182, 0, 49, 192, 0, 68, 58, 6, 25, 6, 180, 0, 183, 42, 180, 0, 79, 16, 24, 100, 164, 0, 52]
abbrev dktX2_endDay_5 : List UInt8 := dkwX2_endDay_5 ++ dktX2_endDay_6
def dkwX2_endDay_4 : List UInt8 := [167, 255, 176, 3, 54, 5, 21, 5, 42, 180, 0, 21, 182, 0, 45, 162, 0, 87, 42, 180, 0, 21, 21, 5]
abbrev dktX2_endDay_4 : List UInt8 := dkwX2_endDay_4 ++ dktX2_endDay_5
def dkwX2_endDay_3 : List UInt8 := [180, 0, 171, 96, 62, 21, 4, 25, 6, 180, 0, 171, 25, 6, 180, 0, 161, 104, 96, 54, 4, 132, 5, 1]
abbrev dktX2_endDay_3 : List UInt8 := dkwX2_endDay_3 ++ dktX2_endDay_4
def dkwX2_endDay_2 : List UInt8 := [180, 0, 79, 16, 24, 100, 164, 0, 39, 25, 6, 180, 0, 136, 6, 159, 0, 6, 167, 0, 27, 29, 25, 6]
abbrev dktX2_endDay_2 : List UInt8 := dkwX2_endDay_2 ++ dktX2_endDay_3
def dkwX2_endDay_1 : List UInt8 := [162, 0, 74, 42, 180, 0, 21, 21, 5, 182, 0, 49, 192, 0, 68, 58, 6, 25, 6, 180, 0, 183, 42]
abbrev dktX2_endDay_1 : List UInt8 := dkwX2_endDay_1 ++ dktX2_endDay_2
def dkwX2_endDay_0 : List UInt8 := [42, 27, 28, 182, 0, 199, 3, 62, 3, 54, 4, 3, 54, 5, 21, 5, 42, 180, 0, 21, 182, 0, 45]
abbrev dktX2_endDay_0 : List UInt8 := dkwX2_endDay_0 ++ dktX2_endDay_1
theorem dksX2_endDay_0 : cX2_endDay.data.toList.drop 0 = dktX2_endDay_0 := by decide +kernel
theorem dksX2_endDay_1 : cX2_endDay.data.toList.drop 23 = dktX2_endDay_1 := dk_seg dksX2_endDay_0 23 rfl rfl
theorem dksX2_endDay_2 : cX2_endDay.data.toList.drop 46 = dktX2_endDay_2 := dk_seg dksX2_endDay_1 23 rfl rfl
theorem dksX2_endDay_3 : cX2_endDay.data.toList.drop 70 = dktX2_endDay_3 := dk_seg dksX2_endDay_2 24 rfl rfl
theorem dksX2_endDay_4 : cX2_endDay.data.toList.drop 94 = dktX2_endDay_4 := dk_seg dksX2_endDay_3 24 rfl rfl
theorem dksX2_endDay_5 : cX2_endDay.data.toList.drop 118 = dktX2_endDay_5 := dk_seg dksX2_endDay_4 24 rfl rfl
theorem dksX2_endDay_6 : cX2_endDay.data.toList.drop 141 = dktX2_endDay_6 := dk_seg dksX2_endDay_5 23 rfl rfl
theorem dksX2_endDay_7 : cX2_endDay.data.toList.drop 165 = dktX2_endDay_7 := dk_seg dksX2_endDay_6 24 rfl rfl
theorem dksX2_endDay_8 : cX2_endDay.data.toList.drop 189 = dktX2_endDay_8 := dk_seg dksX2_endDay_7 24 rfl rfl
theorem dksX2_endDay_9 : cX2_endDay.data.toList.drop 213 = dktX2_endDay_9 := dk_seg dksX2_endDay_8 24 rfl rfl
theorem dX2_endDay_0 : decode cX2_endDay 0 = .ok (.aload_n 0, 1) := dk_42 (dk_at dksX2_endDay_0 0 rfl rfl)
theorem dX2_endDay_1 : decode cX2_endDay 1 = .ok (.iload_n 1, 1) := dk_27 (dk_at dksX2_endDay_0 1 rfl rfl)
theorem dX2_endDay_2 : decode cX2_endDay 2 = .ok (.iload_n 2, 1) := dk_28 (dk_at dksX2_endDay_0 2 rfl rfl)
theorem dX2_endDay_3 : decode cX2_endDay 3 = .ok (.invokevirtual 199, 3) := dk_182 0 199 (dk_at dksX2_endDay_0 3 rfl rfl)
theorem dX2_endDay_6 : decode cX2_endDay 6 = .ok (.iconst 0, 1) := dk_3 (dk_at dksX2_endDay_0 6 rfl rfl)
theorem dX2_endDay_7 : decode cX2_endDay 7 = .ok (.istore_n 3, 1) := dk_62 (dk_at dksX2_endDay_0 7 rfl rfl)
theorem dX2_endDay_8 : decode cX2_endDay 8 = .ok (.iconst 0, 1) := dk_3 (dk_at dksX2_endDay_0 8 rfl rfl)
theorem dX2_endDay_9 : decode cX2_endDay 9 = .ok (.istore 4, 2) := dk_54 4 (dk_at dksX2_endDay_0 9 rfl rfl)
theorem dX2_endDay_11 : decode cX2_endDay 11 = .ok (.iconst 0, 1) := dk_3 (dk_at dksX2_endDay_0 11 rfl rfl)
theorem dX2_endDay_12 : decode cX2_endDay 12 = .ok (.istore 5, 2) := dk_54 5 (dk_at dksX2_endDay_0 12 rfl rfl)
theorem dX2_endDay_14 : decode cX2_endDay 14 = .ok (.iload 5, 2) := dk_21 5 (dk_at dksX2_endDay_0 14 rfl rfl)
theorem dX2_endDay_16 : decode cX2_endDay 16 = .ok (.aload_n 0, 1) := dk_42 (dk_at dksX2_endDay_0 16 rfl rfl)
theorem dX2_endDay_17 : decode cX2_endDay 17 = .ok (.getfield 21, 3) := dk_180 0 21 (dk_at dksX2_endDay_0 17 rfl rfl)
theorem dX2_endDay_20 : decode cX2_endDay 20 = .ok (.invokevirtual 45, 3) := dk_182 0 45 (dk_at dksX2_endDay_0 20 rfl rfl)
theorem dX2_endDay_23 : decode cX2_endDay 23 = .ok (.if_icmp .ge 74, 3) := dk_162 0 74 (dk_at dksX2_endDay_1 0 rfl rfl)
theorem dX2_endDay_26 : decode cX2_endDay 26 = .ok (.aload_n 0, 1) := dk_42 (dk_at dksX2_endDay_1 3 rfl rfl)
theorem dX2_endDay_27 : decode cX2_endDay 27 = .ok (.getfield 21, 3) := dk_180 0 21 (dk_at dksX2_endDay_1 4 rfl rfl)
theorem dX2_endDay_30 : decode cX2_endDay 30 = .ok (.iload 5, 2) := dk_21 5 (dk_at dksX2_endDay_1 7 rfl rfl)
theorem dX2_endDay_32 : decode cX2_endDay 32 = .ok (.invokevirtual 49, 3) := dk_182 0 49 (dk_at dksX2_endDay_1 9 rfl rfl)
theorem dX2_endDay_35 : decode cX2_endDay 35 = .ok (.checkcast 68, 3) := dk_192 0 68 (dk_at dksX2_endDay_1 12 rfl rfl)
theorem dX2_endDay_38 : decode cX2_endDay 38 = .ok (.astore 6, 2) := dk_58 6 (dk_at dksX2_endDay_1 15 rfl rfl)
theorem dX2_endDay_40 : decode cX2_endDay 40 = .ok (.aload 6, 2) := dk_25 6 (dk_at dksX2_endDay_1 17 rfl rfl)
theorem dX2_endDay_42 : decode cX2_endDay 42 = .ok (.getfield 183, 3) := dk_180 0 183 (dk_at dksX2_endDay_1 19 rfl rfl)
theorem dX2_endDay_45 : decode cX2_endDay 45 = .ok (.aload_n 0, 1) := dk_42 (dk_at dksX2_endDay_1 22 rfl rfl)
theorem dX2_endDay_46 : decode cX2_endDay 46 = .ok (.getfield 79, 3) := dk_180 0 79 (dk_at dksX2_endDay_2 0 rfl rfl)
theorem dX2_endDay_49 : decode cX2_endDay 49 = .ok (.bipush 24, 2) := dk_16 24 (dk_at dksX2_endDay_2 3 rfl rfl)
theorem dX2_endDay_51 : decode cX2_endDay 51 = .ok (.isub, 1) := dk_100 (dk_at dksX2_endDay_2 5 rfl rfl)
theorem dX2_endDay_52 : decode cX2_endDay 52 = .ok (.if_icmp .le 39, 3) := dk_164 0 39 (dk_at dksX2_endDay_2 6 rfl rfl)
theorem dX2_endDay_55 : decode cX2_endDay 55 = .ok (.aload 6, 2) := dk_25 6 (dk_at dksX2_endDay_2 9 rfl rfl)
theorem dX2_endDay_57 : decode cX2_endDay 57 = .ok (.getfield 136, 3) := dk_180 0 136 (dk_at dksX2_endDay_2 11 rfl rfl)
theorem dX2_endDay_60 : decode cX2_endDay 60 = .ok (.iconst 3, 1) := dk_6 (dk_at dksX2_endDay_2 14 rfl rfl)
theorem dX2_endDay_61 : decode cX2_endDay 61 = .ok (.if_icmp .eq 6, 3) := dk_159 0 6 (dk_at dksX2_endDay_2 15 rfl rfl)
theorem dX2_endDay_64 : decode cX2_endDay 64 = .ok (.goto 27, 3) := dk_167 0 27 (dk_at dksX2_endDay_2 18 rfl rfl)
theorem dX2_endDay_67 : decode cX2_endDay 67 = .ok (.iload_n 3, 1) := dk_29 (dk_at dksX2_endDay_2 21 rfl rfl)
theorem dX2_endDay_68 : decode cX2_endDay 68 = .ok (.aload 6, 2) := dk_25 6 (dk_at dksX2_endDay_2 22 rfl rfl)
theorem dX2_endDay_70 : decode cX2_endDay 70 = .ok (.getfield 171, 3) := dk_180 0 171 (dk_at dksX2_endDay_3 0 rfl rfl)
theorem dX2_endDay_73 : decode cX2_endDay 73 = .ok (.iadd, 1) := dk_96 (dk_at dksX2_endDay_3 3 rfl rfl)
theorem dX2_endDay_74 : decode cX2_endDay 74 = .ok (.istore_n 3, 1) := dk_62 (dk_at dksX2_endDay_3 4 rfl rfl)
theorem dX2_endDay_75 : decode cX2_endDay 75 = .ok (.iload 4, 2) := dk_21 4 (dk_at dksX2_endDay_3 5 rfl rfl)
theorem dX2_endDay_77 : decode cX2_endDay 77 = .ok (.aload 6, 2) := dk_25 6 (dk_at dksX2_endDay_3 7 rfl rfl)
theorem dX2_endDay_79 : decode cX2_endDay 79 = .ok (.getfield 171, 3) := dk_180 0 171 (dk_at dksX2_endDay_3 9 rfl rfl)
theorem dX2_endDay_82 : decode cX2_endDay 82 = .ok (.aload 6, 2) := dk_25 6 (dk_at dksX2_endDay_3 12 rfl rfl)
theorem dX2_endDay_84 : decode cX2_endDay 84 = .ok (.getfield 161, 3) := dk_180 0 161 (dk_at dksX2_endDay_3 14 rfl rfl)
theorem dX2_endDay_87 : decode cX2_endDay 87 = .ok (.imul, 1) := dk_104 (dk_at dksX2_endDay_3 17 rfl rfl)
theorem dX2_endDay_88 : decode cX2_endDay 88 = .ok (.iadd, 1) := dk_96 (dk_at dksX2_endDay_3 18 rfl rfl)
theorem dX2_endDay_89 : decode cX2_endDay 89 = .ok (.istore 4, 2) := dk_54 4 (dk_at dksX2_endDay_3 19 rfl rfl)
theorem dX2_endDay_91 : decode cX2_endDay 91 = .ok (.iinc 5 1, 3) := dk_132 5 1 (dk_at dksX2_endDay_3 21 rfl rfl)
theorem dX2_endDay_94 : decode cX2_endDay 94 = .ok (.goto (-80), 3) := dk_167 255 176 (dk_at dksX2_endDay_4 0 rfl rfl)
theorem dX2_endDay_97 : decode cX2_endDay 97 = .ok (.iconst 0, 1) := dk_3 (dk_at dksX2_endDay_4 3 rfl rfl)
theorem dX2_endDay_98 : decode cX2_endDay 98 = .ok (.istore 5, 2) := dk_54 5 (dk_at dksX2_endDay_4 4 rfl rfl)
theorem dX2_endDay_100 : decode cX2_endDay 100 = .ok (.iload 5, 2) := dk_21 5 (dk_at dksX2_endDay_4 6 rfl rfl)
theorem dX2_endDay_102 : decode cX2_endDay 102 = .ok (.aload_n 0, 1) := dk_42 (dk_at dksX2_endDay_4 8 rfl rfl)
theorem dX2_endDay_103 : decode cX2_endDay 103 = .ok (.getfield 21, 3) := dk_180 0 21 (dk_at dksX2_endDay_4 9 rfl rfl)
theorem dX2_endDay_106 : decode cX2_endDay 106 = .ok (.invokevirtual 45, 3) := dk_182 0 45 (dk_at dksX2_endDay_4 12 rfl rfl)
theorem dX2_endDay_109 : decode cX2_endDay 109 = .ok (.if_icmp .ge 87, 3) := dk_162 0 87 (dk_at dksX2_endDay_4 15 rfl rfl)
theorem dX2_endDay_112 : decode cX2_endDay 112 = .ok (.aload_n 0, 1) := dk_42 (dk_at dksX2_endDay_4 18 rfl rfl)
theorem dX2_endDay_113 : decode cX2_endDay 113 = .ok (.getfield 21, 3) := dk_180 0 21 (dk_at dksX2_endDay_4 19 rfl rfl)
theorem dX2_endDay_116 : decode cX2_endDay 116 = .ok (.iload 5, 2) := dk_21 5 (dk_at dksX2_endDay_4 22 rfl rfl)
theorem dX2_endDay_118 : decode cX2_endDay 118 = .ok (.invokevirtual 49, 3) := dk_182 0 49 (dk_at dksX2_endDay_5 0 rfl rfl)
theorem dX2_endDay_121 : decode cX2_endDay 121 = .ok (.checkcast 68, 3) := dk_192 0 68 (dk_at dksX2_endDay_5 3 rfl rfl)
theorem dX2_endDay_124 : decode cX2_endDay 124 = .ok (.astore 6, 2) := dk_58 6 (dk_at dksX2_endDay_5 6 rfl rfl)
theorem dX2_endDay_126 : decode cX2_endDay 126 = .ok (.aload 6, 2) := dk_25 6 (dk_at dksX2_endDay_5 8 rfl rfl)
theorem dX2_endDay_128 : decode cX2_endDay 128 = .ok (.getfield 183, 3) := dk_180 0 183 (dk_at dksX2_endDay_5 10 rfl rfl)
theorem dX2_endDay_131 : decode cX2_endDay 131 = .ok (.aload_n 0, 1) := dk_42 (dk_at dksX2_endDay_5 13 rfl rfl)
theorem dX2_endDay_132 : decode cX2_endDay 132 = .ok (.getfield 79, 3) := dk_180 0 79 (dk_at dksX2_endDay_5 14 rfl rfl)
theorem dX2_endDay_135 : decode cX2_endDay 135 = .ok (.bipush 24, 2) := dk_16 24 (dk_at dksX2_endDay_5 17 rfl rfl)
theorem dX2_endDay_137 : decode cX2_endDay 137 = .ok (.isub, 1) := dk_100 (dk_at dksX2_endDay_5 19 rfl rfl)
theorem dX2_endDay_138 : decode cX2_endDay 138 = .ok (.if_icmp .le 52, 3) := dk_164 0 52 (dk_at dksX2_endDay_5 20 rfl rfl)
theorem dX2_endDay_141 : decode cX2_endDay 141 = .ok (.aload 6, 2) := dk_25 6 (dk_at dksX2_endDay_6 0 rfl rfl)
theorem dX2_endDay_143 : decode cX2_endDay 143 = .ok (.getfield 136, 3) := dk_180 0 136 (dk_at dksX2_endDay_6 2 rfl rfl)
theorem dX2_endDay_146 : decode cX2_endDay 146 = .ok (.iconst 3, 1) := dk_6 (dk_at dksX2_endDay_6 5 rfl rfl)
theorem dX2_endDay_147 : decode cX2_endDay 147 = .ok (.if_icmp .eq 6, 3) := dk_159 0 6 (dk_at dksX2_endDay_6 6 rfl rfl)
theorem dX2_endDay_150 : decode cX2_endDay 150 = .ok (.goto 40, 3) := dk_167 0 40 (dk_at dksX2_endDay_6 9 rfl rfl)
theorem dX2_endDay_153 : decode cX2_endDay 153 = .ok (.aload_n 0, 1) := dk_42 (dk_at dksX2_endDay_6 12 rfl rfl)
theorem dX2_endDay_154 : decode cX2_endDay 154 = .ok (.getfield 31, 3) := dk_180 0 31 (dk_at dksX2_endDay_6 13 rfl rfl)
theorem dX2_endDay_157 : decode cX2_endDay 157 = .ok (.aload_n 0, 1) := dk_42 (dk_at dksX2_endDay_6 16 rfl rfl)
theorem dX2_endDay_158 : decode cX2_endDay 158 = .ok (.aload 6, 2) := dk_25 6 (dk_at dksX2_endDay_6 17 rfl rfl)
theorem dX2_endDay_160 : decode cX2_endDay 160 = .ok (.invokevirtual 157, 3) := dk_182 0 157 (dk_at dksX2_endDay_6 19 rfl rfl)
theorem dX2_endDay_163 : decode cX2_endDay 163 = .ok (.dup2, 1) := dk_92 (dk_at dksX2_endDay_6 22 rfl rfl)
theorem dX2_endDay_164 : decode cX2_endDay 164 = .ok (.iaload, 1) := dk_46 (dk_at dksX2_endDay_6 23 rfl rfl)
theorem dX2_endDay_165 : decode cX2_endDay 165 = .ok (.iconst 0, 1) := dk_3 (dk_at dksX2_endDay_7 0 rfl rfl)
theorem dX2_endDay_166 : decode cX2_endDay 166 = .ok (.aload 6, 2) := dk_25 6 (dk_at dksX2_endDay_7 1 rfl rfl)
theorem dX2_endDay_168 : decode cX2_endDay 168 = .ok (.getfield 171, 3) := dk_180 0 171 (dk_at dksX2_endDay_7 3 rfl rfl)
theorem dX2_endDay_171 : decode cX2_endDay 171 = .ok (.bipush 100, 2) := dk_16 100 (dk_at dksX2_endDay_7 6 rfl rfl)
theorem dX2_endDay_173 : decode cX2_endDay 173 = .ok (.aload 6, 2) := dk_25 6 (dk_at dksX2_endDay_7 8 rfl rfl)
theorem dX2_endDay_175 : decode cX2_endDay 175 = .ok (.getfield 161, 3) := dk_180 0 161 (dk_at dksX2_endDay_7 10 rfl rfl)
theorem dX2_endDay_178 : decode cX2_endDay 178 = .ok (.iadd, 1) := dk_96 (dk_at dksX2_endDay_7 13 rfl rfl)
theorem dX2_endDay_179 : decode cX2_endDay 179 = .ok (.iload 4, 2) := dk_21 4 (dk_at dksX2_endDay_7 14 rfl rfl)
theorem dX2_endDay_181 : decode cX2_endDay 181 = .ok (.iload_n 3, 1) := dk_29 (dk_at dksX2_endDay_7 16 rfl rfl)
theorem dX2_endDay_182 : decode cX2_endDay 182 = .ok (.idiv, 1) := dk_108 (dk_at dksX2_endDay_7 17 rfl rfl)
theorem dX2_endDay_183 : decode cX2_endDay 183 = .ok (.isub, 1) := dk_100 (dk_at dksX2_endDay_7 18 rfl rfl)
theorem dX2_endDay_184 : decode cX2_endDay 184 = .ok (.imul, 1) := dk_104 (dk_at dksX2_endDay_7 19 rfl rfl)
theorem dX2_endDay_185 : decode cX2_endDay 185 = .ok (.invokestatic 100, 3) := dk_184 0 100 (dk_at dksX2_endDay_7 20 rfl rfl)
theorem dX2_endDay_188 : decode cX2_endDay 188 = .ok (.iadd, 1) := dk_96 (dk_at dksX2_endDay_7 23 rfl rfl)
theorem dX2_endDay_189 : decode cX2_endDay 189 = .ok (.iastore, 1) := dk_79 (dk_at dksX2_endDay_8 0 rfl rfl)
theorem dX2_endDay_190 : decode cX2_endDay 190 = .ok (.iinc 5 1, 3) := dk_132 5 1 (dk_at dksX2_endDay_8 1 rfl rfl)
theorem dX2_endDay_193 : decode cX2_endDay 193 = .ok (.goto (-93), 3) := dk_167 255 163 (dk_at dksX2_endDay_8 4 rfl rfl)
theorem dX2_endDay_196 : decode cX2_endDay 196 = .ok (.iconst 0, 1) := dk_3 (dk_at dksX2_endDay_8 7 rfl rfl)
theorem dX2_endDay_197 : decode cX2_endDay 197 = .ok (.istore 5, 2) := dk_54 5 (dk_at dksX2_endDay_8 8 rfl rfl)
theorem dX2_endDay_199 : decode cX2_endDay 199 = .ok (.iload 5, 2) := dk_21 5 (dk_at dksX2_endDay_8 10 rfl rfl)
theorem dX2_endDay_201 : decode cX2_endDay 201 = .ok (.iconst 4, 1) := dk_7 (dk_at dksX2_endDay_8 12 rfl rfl)
theorem dX2_endDay_202 : decode cX2_endDay 202 = .ok (.if_icmp .ge 17, 3) := dk_162 0 17 (dk_at dksX2_endDay_8 13 rfl rfl)
theorem dX2_endDay_205 : decode cX2_endDay 205 = .ok (.aload_n 0, 1) := dk_42 (dk_at dksX2_endDay_8 16 rfl rfl)
theorem dX2_endDay_206 : decode cX2_endDay 206 = .ok (.getfield 24, 3) := dk_180 0 24 (dk_at dksX2_endDay_8 17 rfl rfl)
theorem dX2_endDay_209 : decode cX2_endDay 209 = .ok (.iload 5, 2) := dk_21 5 (dk_at dksX2_endDay_8 20 rfl rfl)
theorem dX2_endDay_211 : decode cX2_endDay 211 = .ok (.iconst 0, 1) := dk_3 (dk_at dksX2_endDay_8 22 rfl rfl)
theorem dX2_endDay_212 : decode cX2_endDay 212 = .ok (.iastore, 1) := dk_79 (dk_at dksX2_endDay_8 23 rfl rfl)
theorem dX2_endDay_213 : decode cX2_endDay 213 = .ok (.iinc 5 1, 3) := dk_132 5 1 (dk_at dksX2_endDay_9 0 rfl rfl)
theorem dX2_endDay_216 : decode cX2_endDay 216 = .ok (.goto (-17), 3) := dk_167 255 239 (dk_at dksX2_endDay_9 3 rfl rfl)
theorem dX2_endDay_219 : decode cX2_endDay 219 = .ok (.return_, 1) := dk_177 (dk_at dksX2_endDay_9 6 rfl rfl)
theorem q51 : (Jvm.Cond.initialized "Canecrush$Works") ∈ lw_all := lw_g (lw_at lw_m1 2 rfl) rfl
theorem q89 : (Jvm.Cond.instantiable "Canecrush$Works" (22 : Nat)) ∈ lw_all := lw_g (lw_at lw_m1 40 rfl) rfl
theorem q91 : (Jvm.Cond.instanceMethod ({ cls := "Canecrush$Works", name := "<init>", desc := "()V" } : Jvm.MethodName)) ∈ lw_all := lw_g (lw_at lw_m1 42 rfl) rfl
theorem q92 : (Jvm.Cond.code ({ cls := "Canecrush$Works", name := "<init>", desc := "()V" } : Jvm.MethodName) prog_5_method_1_code (1 : Nat) (Option.none : Option Jvm.ClassFile.FieldType)) ∈ lw_all := lw_g (lw_at lw_m1 43 rfl) rfl
theorem q93 : (Jvm.Cond.methodLink "Canecrush$Works" (3 : Nat) ({ cls := "java/lang/Object", name := "<init>", desc := "()V" } : Jvm.MethodName)) ∈ lw_all := lw_g (lw_at lw_m1 44 rfl) rfl
theorem q94 : (Jvm.Cond.classLink "Canecrush$Works" (9 : Nat) "java/util/ArrayList") ∈ lw_all := lw_g (lw_at lw_m1 45 rfl) rfl
theorem q96 : (Jvm.Cond.methodLink "Canecrush$Works" (11 : Nat) ({ cls := "java/util/ArrayList", name := "<init>", desc := "()V" } : Jvm.MethodName)) ∈ lw_all := lw_g (lw_at lw_m1 47 rfl) rfl
theorem q120 : (Jvm.Cond.fieldLink "Canecrush$Works" (12 : Nat) "Canecrush$Works" "fields" "Ljava/util/ArrayList;") ∈ lw_all := lw_g (lw_at lw_m1 71 rfl) rfl
theorem q122 : (Jvm.Cond.fieldLink "Canecrush$Works" (18 : Nat) "Canecrush$Works" "trucks" "Ljava/util/ArrayList;") ∈ lw_all := lw_g (lw_at lw_m1 73 rfl) rfl
theorem q124 : (Jvm.Cond.fieldLink "Canecrush$Works" (21 : Nat) "Canecrush$Works" "loads" "Ljava/util/ArrayList;") ∈ lw_all := lw_g (lw_at lw_m1 75 rfl) rfl
theorem q126 : (Jvm.Cond.fieldLink "Canecrush$Works" (24 : Nat) "Canecrush$Works" "dayTons" "[I") ∈ lw_all := lw_g (lw_at lw_m1 77 rfl) rfl
theorem q128 : (Jvm.Cond.fieldLink "Canecrush$Works" (28 : Nat) "Canecrush$Works" "allTons" "[I") ∈ lw_all := lw_g (lw_at lw_m1 79 rfl) rfl
theorem q130 : (Jvm.Cond.fieldLink "Canecrush$Works" (31 : Nat) "Canecrush$Works" "points" "[I") ∈ lw_all := lw_g (lw_at lw_m1 81 rfl) rfl
theorem q132 : (Jvm.Cond.fieldLink "Canecrush$Works" (79 : Nat) "Canecrush$Works" "hour" "I") ∈ lw_all := lw_g (lw_at lw_m1 83 rfl) rfl
theorem q134 : (Jvm.Cond.fieldLink "Canecrush$Works" (82 : Nat) "Canecrush$Works" "arrivals" "I") ∈ lw_all := lw_g (lw_at lw_m1 85 rfl) rfl
theorem q135 : (Jvm.Cond.fieldLink "Canecrush$Works" (34 : Nat) "Canecrush$Works" "mill" "I") ∈ lw_all := lw_g (lw_at lw_m1 86 rfl) rfl
theorem q137 : (Jvm.Cond.fieldLink "Canecrush$Works" (85 : Nat) "Canecrush$Works" "starting" "I") ∈ lw_all := lw_g (lw_at lw_m1 88 rfl) rfl
theorem q139 : (Jvm.Cond.fieldLink "Canecrush$Works" (88 : Nat) "Canecrush$Works" "idle" "I") ∈ lw_all := lw_g (lw_at lw_m1 90 rfl) rfl
theorem q141 : (Jvm.Cond.fieldLink "Canecrush$Works" (177 : Nat) "Canecrush$Works" "idled" "I") ∈ lw_all := lw_g (lw_at lw_m1 92 rfl) rfl
theorem q143 : (Jvm.Cond.fieldLink "Canecrush$Works" (180 : Nat) "Canecrush$Works" "stops" "I") ∈ lw_all := lw_g (lw_at lw_m1 94 rfl) rfl
theorem q145 : (Jvm.Cond.fieldLink "Canecrush$Works" (38 : Nat) "Canecrush$Works" "rate" "I") ∈ lw_all := lw_g (lw_at lw_m1 96 rfl) rfl
theorem q147 : (Jvm.Cond.fieldLink "Canecrush$Works" (41 : Nat) "Canecrush$Works" "water" "I") ∈ lw_all := lw_g (lw_at lw_m1 98 rfl) rfl
theorem q149 : (Jvm.Cond.fieldLink "Canecrush$Works" (91 : Nat) "Canecrush$Works" "order" "I") ∈ lw_all := lw_g (lw_at lw_m1 100 rfl) rfl
theorem q151 : (Jvm.Cond.fieldLink "Canecrush$Works" (94 : Nat) "Canecrush$Works" "syrup" "I") ∈ lw_all := lw_g (lw_at lw_m1 102 rfl) rfl
theorem q153 : (Jvm.Cond.fieldLink "Canecrush$Works" (193 : Nat) "Canecrush$Works" "lost" "I") ∈ lw_all := lw_g (lw_at lw_m1 104 rfl) rfl
theorem q155 : (Jvm.Cond.fieldLink "Canecrush$Works" (97 : Nat) "Canecrush$Works" "fibre" "I") ∈ lw_all := lw_g (lw_at lw_m1 106 rfl) rfl
theorem q157 : (Jvm.Cond.fieldLink "Canecrush$Works" (106 : Nat) "Canecrush$Works" "oil" "I") ∈ lw_all := lw_g (lw_at lw_m1 108 rfl) rfl
theorem q159 : (Jvm.Cond.fieldLink "Canecrush$Works" (109 : Nat) "Canecrush$Works" "money" "I") ∈ lw_all := lw_g (lw_at lw_m1 110 rfl) rfl
theorem q161 : (Jvm.Cond.fieldLink "Canecrush$Works" (186 : Nat) "Canecrush$Works" "sweetTons" "J") ∈ lw_all := lw_g (lw_at lw_m1 112 rfl) rfl
theorem q163 : (Jvm.Cond.laysFinal "Canecrush$Works" "Canecrush$Works" "fields" "Ljava/util/ArrayList;") ∈ lw_all := lw_g (lw_at lw_m1 114 rfl) rfl
theorem q164 : (Jvm.Cond.soleField "Canecrush$Works" "fields") ∈ lw_all := lw_g (lw_at lw_m1 115 rfl) rfl
theorem q165 : (Jvm.Cond.laysFinal "Canecrush$Works" "Canecrush$Works" "trucks" "Ljava/util/ArrayList;") ∈ lw_all := lw_g (lw_at lw_m1 116 rfl) rfl
theorem q166 : (Jvm.Cond.soleField "Canecrush$Works" "trucks") ∈ lw_all := lw_g (lw_at lw_m1 117 rfl) rfl
theorem q167 : (Jvm.Cond.laysFinal "Canecrush$Works" "Canecrush$Works" "loads" "Ljava/util/ArrayList;") ∈ lw_all := lw_g (lw_at lw_m1 118 rfl) rfl
theorem q168 : (Jvm.Cond.soleField "Canecrush$Works" "loads") ∈ lw_all := lw_g (lw_at lw_m1 119 rfl) rfl
theorem q169 : (Jvm.Cond.laysFinal "Canecrush$Works" "Canecrush$Works" "dayTons" "[I") ∈ lw_all := lw_g (lw_at lw_m1 120 rfl) rfl
theorem q170 : (Jvm.Cond.soleField "Canecrush$Works" "dayTons") ∈ lw_all := lw_g (lw_at lw_m1 121 rfl) rfl
theorem q171 : (Jvm.Cond.laysFinal "Canecrush$Works" "Canecrush$Works" "allTons" "[I") ∈ lw_all := lw_g (lw_at lw_m1 122 rfl) rfl
theorem q172 : (Jvm.Cond.soleField "Canecrush$Works" "allTons") ∈ lw_all := lw_g (lw_at lw_m1 123 rfl) rfl
theorem q173 : (Jvm.Cond.laysFinal "Canecrush$Works" "Canecrush$Works" "points" "[I") ∈ lw_all := lw_g (lw_at lw_m1 124 rfl) rfl
theorem q174 : (Jvm.Cond.soleField "Canecrush$Works" "points") ∈ lw_all := lw_g (lw_at lw_m1 125 rfl) rfl
theorem q175 : (Jvm.Cond.lays "Canecrush$Works" "Canecrush$Works" "hour" "I") ∈ lw_all := lw_g (lw_at lw_m1 126 rfl) rfl
theorem q176 : (Jvm.Cond.soleField "Canecrush$Works" "hour") ∈ lw_all := lw_g (lw_at lw_m1 127 rfl) rfl
theorem q177 : (Jvm.Cond.lays "Canecrush$Works" "Canecrush$Works" "arrivals" "I") ∈ lw_all := lw_g (lw_at lw_m1 128 rfl) rfl
theorem q178 : (Jvm.Cond.soleField "Canecrush$Works" "arrivals") ∈ lw_all := lw_g (lw_at lw_m1 129 rfl) rfl
theorem q179 : (Jvm.Cond.lays "Canecrush$Works" "Canecrush$Works" "mill" "I") ∈ lw_all := lw_g (lw_at lw_m1 130 rfl) rfl
theorem q180 : (Jvm.Cond.soleField "Canecrush$Works" "mill") ∈ lw_all := lw_g (lw_at lw_m1 131 rfl) rfl
theorem q181 : (Jvm.Cond.lays "Canecrush$Works" "Canecrush$Works" "starting" "I") ∈ lw_all := lw_g (lw_at lw_m1 132 rfl) rfl
theorem q182 : (Jvm.Cond.soleField "Canecrush$Works" "starting") ∈ lw_all := lw_g (lw_at lw_m1 133 rfl) rfl
theorem q183 : (Jvm.Cond.lays "Canecrush$Works" "Canecrush$Works" "idle" "I") ∈ lw_all := lw_g (lw_at lw_m1 134 rfl) rfl
theorem q184 : (Jvm.Cond.soleField "Canecrush$Works" "idle") ∈ lw_all := lw_g (lw_at lw_m1 135 rfl) rfl
theorem q185 : (Jvm.Cond.lays "Canecrush$Works" "Canecrush$Works" "idled" "I") ∈ lw_all := lw_g (lw_at lw_m1 136 rfl) rfl
theorem q186 : (Jvm.Cond.soleField "Canecrush$Works" "idled") ∈ lw_all := lw_g (lw_at lw_m1 137 rfl) rfl
theorem q187 : (Jvm.Cond.lays "Canecrush$Works" "Canecrush$Works" "stops" "I") ∈ lw_all := lw_g (lw_at lw_m1 138 rfl) rfl
theorem q188 : (Jvm.Cond.soleField "Canecrush$Works" "stops") ∈ lw_all := lw_g (lw_at lw_m1 139 rfl) rfl
theorem q189 : (Jvm.Cond.lays "Canecrush$Works" "Canecrush$Works" "rate" "I") ∈ lw_all := lw_g (lw_at lw_m1 140 rfl) rfl
theorem q190 : (Jvm.Cond.soleField "Canecrush$Works" "rate") ∈ lw_all := lw_g (lw_at lw_m1 141 rfl) rfl
theorem q191 : (Jvm.Cond.lays "Canecrush$Works" "Canecrush$Works" "water" "I") ∈ lw_all := lw_g (lw_at lw_m1 142 rfl) rfl
theorem q192 : (Jvm.Cond.soleField "Canecrush$Works" "water") ∈ lw_all := lw_g (lw_at lw_m1 143 rfl) rfl
theorem q193 : (Jvm.Cond.lays "Canecrush$Works" "Canecrush$Works" "order" "I") ∈ lw_all := lw_g (lw_at lw_m1 144 rfl) rfl
theorem q194 : (Jvm.Cond.soleField "Canecrush$Works" "order") ∈ lw_all := lw_g (lw_at lw_m1 145 rfl) rfl
theorem q195 : (Jvm.Cond.lays "Canecrush$Works" "Canecrush$Works" "syrup" "I") ∈ lw_all := lw_g (lw_at lw_m1 146 rfl) rfl
theorem q196 : (Jvm.Cond.soleField "Canecrush$Works" "syrup") ∈ lw_all := lw_g (lw_at lw_m1 147 rfl) rfl
theorem q197 : (Jvm.Cond.lays "Canecrush$Works" "Canecrush$Works" "lost" "I") ∈ lw_all := lw_g (lw_at lw_m1 148 rfl) rfl
theorem q198 : (Jvm.Cond.soleField "Canecrush$Works" "lost") ∈ lw_all := lw_g (lw_at lw_m1 149 rfl) rfl
theorem q199 : (Jvm.Cond.lays "Canecrush$Works" "Canecrush$Works" "fibre" "I") ∈ lw_all := lw_g (lw_at lw_m1 150 rfl) rfl
theorem q200 : (Jvm.Cond.soleField "Canecrush$Works" "fibre") ∈ lw_all := lw_g (lw_at lw_m1 151 rfl) rfl
theorem q201 : (Jvm.Cond.lays "Canecrush$Works" "Canecrush$Works" "oil" "I") ∈ lw_all := lw_g (lw_at lw_m1 152 rfl) rfl
theorem q202 : (Jvm.Cond.soleField "Canecrush$Works" "oil") ∈ lw_all := lw_g (lw_at lw_m1 153 rfl) rfl
theorem q203 : (Jvm.Cond.lays "Canecrush$Works" "Canecrush$Works" "money" "I") ∈ lw_all := lw_g (lw_at lw_m1 154 rfl) rfl
theorem q204 : (Jvm.Cond.soleField "Canecrush$Works" "money") ∈ lw_all := lw_g (lw_at lw_m1 155 rfl) rfl
theorem q205 : (Jvm.Cond.lays "Canecrush$Works" "Canecrush$Works" "sweetTons" "J") ∈ lw_all := lw_g (lw_at lw_m1 156 rfl) rfl
theorem q206 : (Jvm.Cond.soleField "Canecrush$Works" "sweetTons") ∈ lw_all := lw_g (lw_at lw_m1 157 rfl) rfl
theorem q207 : (Jvm.Cond.superclass "Canecrush$Works" "java/lang/Object") ∈ lw_all := lw_g (lw_at lw_m1 158 rfl) rfl
theorem q258 : (Jvm.Cond.instanceMethod ({ cls := "Canecrush$Works", name := "inYard", desc := "()I" } : Jvm.MethodName)) ∈ lw_all := lw_g (lw_at lw_m1 209 rfl) rfl
theorem q259 : (Jvm.Cond.selects "Canecrush$Works" ({ cls := "Canecrush$Works", name := "inYard", desc := "()I" } : Jvm.MethodName) ({ cls := "Canecrush$Works", name := "inYard", desc := "()I" } : Jvm.MethodName)) ∈ lw_all := lw_g (lw_at lw_m1 210 rfl) rfl
theorem q260 : (Jvm.Cond.code ({ cls := "Canecrush$Works", name := "inYard", desc := "()I" } : Jvm.MethodName) prog_5_method_14_code (3 : Nat) (Option.some Jvm.ClassFile.FieldType.int)) ∈ lw_all := lw_g (lw_at lw_m1 211 rfl) rfl
theorem q261 : (Jvm.Cond.methodLink "Canecrush$Works" (45 : Nat) ({ cls := "java/util/ArrayList", name := "size", desc := "()I" } : Jvm.MethodName)) ∈ lw_all := lw_g (lw_at lw_m1 212 rfl) rfl
theorem q262 : (Jvm.Cond.methodLink "Canecrush$Works" (49 : Nat) ({ cls := "java/util/ArrayList", name := "get", desc := "(I)Ljava/lang/Object;" } : Jvm.MethodName)) ∈ lw_all := lw_g (lw_at lw_m1 213 rfl) rfl
theorem q276 : (Jvm.Cond.classLink "Canecrush$Works" (68 : Nat) "Canecrush$Load") ∈ lw_all := lw_g (lw_at lw_m1 227 rfl) rfl
theorem q308 : (Jvm.Cond.fieldLinkNest "Canecrush$Works" (154 : Nat) "Canecrush$Field" "grower" "I" "Canecrush") ∈ lw_tbl := lw_at lw_m2 19 rfl
theorem q313 : (Jvm.Cond.fieldLinkNest "Canecrush$Works" (150 : Nat) "Canecrush$Field" "far" "I" "Canecrush") ∈ lw_tbl := lw_at lw_m2 24 rfl
theorem q325 : (Jvm.Cond.fieldLinkNest "Canecrush$Works" (202 : Nat) "Canecrush$Field" "smut" "I" "Canecrush") ∈ lw_tbl := lw_at lw_m2 36 rfl
theorem q391 : (Jvm.Cond.selects "Canecrush$Works" ({ cls := "java/lang/Object", name := "getClass", desc := "()Ljava/lang/Class;" } : Jvm.MethodName) ({ cls := "java/lang/Object", name := "getClass", desc := "()Ljava/lang/Class;" } : Jvm.MethodName)) ∈ lw_all := lw_g (lw_at lw_m2 102 rfl) rfl
theorem q419 : (Jvm.Cond.instanceMethod ({ cls := "Canecrush$Works", name := "endFields", desc := "(II)V" } : Jvm.MethodName)) ∈ lw_all := lw_g (lw_at lw_m2 130 rfl) rfl
theorem q420 : (Jvm.Cond.selects "Canecrush$Works" ({ cls := "Canecrush$Works", name := "endFields", desc := "(II)V" } : Jvm.MethodName) ({ cls := "Canecrush$Works", name := "endFields", desc := "(II)V" } : Jvm.MethodName)) ∈ lw_all := lw_g (lw_at lw_m2 131 rfl) rfl
theorem q421 : (Jvm.Cond.code ({ cls := "Canecrush$Works", name := "endFields", desc := "(II)V" } : Jvm.MethodName) prog_5_method_13_code (5 : Nat) (Option.none : Option Jvm.ClassFile.FieldType)) ∈ lw_all := lw_g (lw_at lw_m2 132 rfl) rfl
theorem q422 : (Jvm.Cond.classLink "Canecrush$Works" (53 : Nat) "Canecrush$Field") ∈ lw_all := lw_g (lw_at lw_m2 133 rfl) rfl
theorem q423 : (Jvm.Cond.methodLink "Canecrush$Works" (100 : Nat) ({ cls := "java/lang/Math", name := "max", desc := "(II)I" } : Jvm.MethodName)) ∈ lw_all := lw_g (lw_at lw_m2 134 rfl) rfl
theorem q424 : (Jvm.Cond.methodLink "Canecrush$Works" (205 : Nat) ({ cls := "Canecrush$Field", name := "endDay", desc := "(III)V" } : Jvm.MethodName)) ∈ lw_all := lw_g (lw_at lw_m2 135 rfl) rfl
theorem q460 : (Jvm.Cond.instanceMethod ({ cls := "Canecrush$Works", name := "copy", desc := "()LCanecrush$Works;" } : Jvm.MethodName)) ∈ lw_all := lw_g (lw_at lw_m2 171 rfl) rfl
theorem q461 : (Jvm.Cond.selects "Canecrush$Works" ({ cls := "Canecrush$Works", name := "copy", desc := "()LCanecrush$Works;" } : Jvm.MethodName) ({ cls := "Canecrush$Works", name := "copy", desc := "()LCanecrush$Works;" } : Jvm.MethodName)) ∈ lw_all := lw_g (lw_at lw_m2 172 rfl) rfl
theorem q462 : (Jvm.Cond.code ({ cls := "Canecrush$Works", name := "copy", desc := "()LCanecrush$Works;" } : Jvm.MethodName) prog_5_method_2_code (3 : Nat) (Option.some (Jvm.ClassFile.FieldType.object "Canecrush$Works"))) ∈ lw_all := lw_g (lw_at lw_m2 173 rfl) rfl
theorem q463 : (Jvm.Cond.classLink "Canecrush$Works" (13 : Nat) "Canecrush$Works") ∈ lw_all := lw_g (lw_at lw_m2 174 rfl) rfl
theorem q464 : (Jvm.Cond.methodLink "Canecrush$Works" (44 : Nat) ({ cls := "Canecrush$Works", name := "<init>", desc := "()V" } : Jvm.MethodName)) ∈ lw_all := lw_g (lw_at lw_m2 175 rfl) rfl
theorem q465 : (Jvm.Cond.methodLink "Canecrush$Works" (55 : Nat) ({ cls := "Canecrush$Field", name := "copy", desc := "()LCanecrush$Field;" } : Jvm.MethodName)) ∈ lw_all := lw_g (lw_at lw_m2 176 rfl) rfl
theorem q466 : (Jvm.Cond.methodLink "Canecrush$Works" (59 : Nat) ({ cls := "java/util/ArrayList", name := "add", desc := "(Ljava/lang/Object;)Z" } : Jvm.MethodName)) ∈ lw_all := lw_g (lw_at lw_m2 177 rfl) rfl
theorem q467 : (Jvm.Cond.classLink "Canecrush$Works" (63 : Nat) "Canecrush$Truck") ∈ lw_all := lw_g (lw_at lw_m2 178 rfl) rfl
theorem q468 : (Jvm.Cond.methodLink "Canecrush$Works" (65 : Nat) ({ cls := "Canecrush$Truck", name := "copy", desc := "()LCanecrush$Truck;" } : Jvm.MethodName)) ∈ lw_all := lw_g (lw_at lw_m2 179 rfl) rfl
theorem q479 : (Jvm.Cond.fieldLinkNest "Canecrush$Works" (112 : Nat) "Canecrush$Truck" "where" "I" "Canecrush") ∈ lw_tbl := lw_at lw_m2 190 rfl
theorem q482 : (Jvm.Cond.fieldLinkNest "Canecrush$Works" (143 : Nat) "Canecrush$Truck" "field" "I" "Canecrush") ∈ lw_tbl := lw_at lw_m2 193 rfl
theorem q485 : (Jvm.Cond.fieldLinkNest "Canecrush$Works" (133 : Nat) "Canecrush$Truck" "load" "I" "Canecrush") ∈ lw_tbl := lw_at lw_m2 196 rfl
theorem q488 : (Jvm.Cond.fieldLinkNest "Canecrush$Works" (130 : Nat) "Canecrush$Truck" "hours" "I" "Canecrush") ∈ lw_tbl := lw_at lw_m2 199 rfl
theorem q499 : (Jvm.Cond.methodLink "Canecrush$Works" (70 : Nat) ({ cls := "Canecrush$Load", name := "copy", desc := "()LCanecrush$Load;" } : Jvm.MethodName)) ∈ lw_all := lw_g (lw_at lw_m2 210 rfl) rfl
theorem q510 : (Jvm.Cond.fieldLinkNest "Canecrush$Works" (153 : Nat) "Canecrush$Load" "field" "I" "Canecrush") ∈ lw_tbl := lw_at lw_m2 221 rfl
theorem q513 : (Jvm.Cond.fieldLinkNest "Canecrush$Works" (171 : Nat) "Canecrush$Load" "tons" "I" "Canecrush") ∈ lw_tbl := lw_at lw_m2 224 rfl
theorem q516 : (Jvm.Cond.fieldLinkNest "Canecrush$Works" (190 : Nat) "Canecrush$Load" "trash" "I" "Canecrush") ∈ lw_tbl := lw_at lw_m2 227 rfl
theorem q522 : (Jvm.Cond.fieldLinkNest "Canecrush$Works" (161 : Nat) "Canecrush$Load" "sweet" "I" "Canecrush") ∈ lw_tbl := lw_at lw_m2 233 rfl
theorem q525 : (Jvm.Cond.fieldLinkNest "Canecrush$Works" (136 : Nat) "Canecrush$Load" "where" "I" "Canecrush") ∈ lw_tbl := lw_at lw_m2 236 rfl
theorem q528 : (Jvm.Cond.fieldLinkNest "Canecrush$Works" (137 : Nat) "Canecrush$Load" "came" "I" "Canecrush") ∈ lw_tbl := lw_at lw_m2 239 rfl
theorem q530 : (Jvm.Cond.fieldLinkNest "Canecrush$Works" (183 : Nat) "Canecrush$Load" "crushedAt" "I" "Canecrush") ∈ lw_tbl := lw_at lw_m3 1 rfl
theorem q551 : (Jvm.Cond.methodLink "Canecrush$Works" (73 : Nat) ({ cls := "java/lang/System", name := "arraycopy", desc := "(Ljava/lang/Object;ILjava/lang/Object;II)V" } : Jvm.MethodName)) ∈ lw_all := lw_g (lw_at lw_m3 22 rfl) rfl
theorem q553 : (Jvm.Cond.instanceMethod ({ cls := "Canecrush$Works", name := "pass", desc := "(II)I" } : Jvm.MethodName)) ∈ lw_all := lw_g (lw_at lw_m3 24 rfl) rfl
theorem q554 : (Jvm.Cond.selects "Canecrush$Works" ({ cls := "Canecrush$Works", name := "pass", desc := "(II)I" } : Jvm.MethodName) ({ cls := "Canecrush$Works", name := "pass", desc := "(II)I" } : Jvm.MethodName)) ∈ lw_all := lw_g (lw_at lw_m3 25 rfl) rfl
theorem q555 : (Jvm.Cond.code ({ cls := "Canecrush$Works", name := "pass", desc := "(II)I" } : Jvm.MethodName) prog_5_method_4_code (4 : Nat) (Option.some Jvm.ClassFile.FieldType.int)) ∈ lw_all := lw_g (lw_at lw_m3 26 rfl) rfl
theorem q556 : (Jvm.Cond.methodLink "Canecrush$Works" (115 : Nat) ({ cls := "Canecrush$Works", name := "drive", desc := "(LCanecrush$Truck;)V" } : Jvm.MethodName)) ∈ lw_all := lw_g (lw_at lw_m3 27 rfl) rfl
theorem q557 : (Jvm.Cond.privateMethod ({ cls := "Canecrush$Works", name := "drive", desc := "(LCanecrush$Truck;)V" } : Jvm.MethodName)) ∈ lw_tbl := lw_at lw_m3 28 rfl
theorem q558 : (Jvm.Cond.instanceMethod ({ cls := "Canecrush$Works", name := "drive", desc := "(LCanecrush$Truck;)V" } : Jvm.MethodName)) ∈ lw_all := lw_g (lw_at lw_m3 29 rfl) rfl
theorem q559 : (Jvm.Cond.code ({ cls := "Canecrush$Works", name := "drive", desc := "(LCanecrush$Truck;)V" } : Jvm.MethodName) prog_5_method_5_code (3 : Nat) (Option.none : Option Jvm.ClassFile.FieldType)) ∈ lw_all := lw_g (lw_at lw_m3 30 rfl) rfl
theorem q560 : (Jvm.Cond.methodLink "Canecrush$Works" (140 : Nat) ({ cls := "Canecrush$Truck", name := "stand", desc := "()V" } : Jvm.MethodName)) ∈ lw_all := lw_g (lw_at lw_m3 31 rfl) rfl
theorem q564 : (Jvm.Cond.methodLink "Canecrush$Works" (146 : Nat) ({ cls := "Canecrush$Works", name := "firstAt", desc := "(I)I" } : Jvm.MethodName)) ∈ lw_all := lw_g (lw_at lw_m3 35 rfl) rfl
theorem q565 : (Jvm.Cond.privateMethod ({ cls := "Canecrush$Works", name := "firstAt", desc := "(I)I" } : Jvm.MethodName)) ∈ lw_tbl := lw_at lw_m3 36 rfl
theorem q566 : (Jvm.Cond.instanceMethod ({ cls := "Canecrush$Works", name := "firstAt", desc := "(I)I" } : Jvm.MethodName)) ∈ lw_all := lw_g (lw_at lw_m3 37 rfl) rfl
theorem q567 : (Jvm.Cond.code ({ cls := "Canecrush$Works", name := "firstAt", desc := "(I)I" } : Jvm.MethodName) prog_5_method_6_code (3 : Nat) (Option.some Jvm.ClassFile.FieldType.int)) ∈ lw_all := lw_g (lw_at lw_m3 38 rfl) rfl
theorem q568 : (Jvm.Cond.methodLink "Canecrush$Works" (119 : Nat) ({ cls := "Canecrush$Load", name := "spoil", desc := "(I)V" } : Jvm.MethodName)) ∈ lw_all := lw_g (lw_at lw_m3 39 rfl) rfl
theorem q573 : (Jvm.Cond.methodLink "Canecrush$Works" (123 : Nat) ({ cls := "Canecrush$Works", name := "crush", desc := "()I" } : Jvm.MethodName)) ∈ lw_all := lw_g (lw_at lw_m3 44 rfl) rfl
theorem q574 : (Jvm.Cond.privateMethod ({ cls := "Canecrush$Works", name := "crush", desc := "()I" } : Jvm.MethodName)) ∈ lw_tbl := lw_at lw_m3 45 rfl
theorem q575 : (Jvm.Cond.instanceMethod ({ cls := "Canecrush$Works", name := "crush", desc := "()I" } : Jvm.MethodName)) ∈ lw_all := lw_g (lw_at lw_m3 46 rfl) rfl
theorem q576 : (Jvm.Cond.code ({ cls := "Canecrush$Works", name := "crush", desc := "()I" } : Jvm.MethodName) prog_5_method_10_code (3 : Nat) (Option.some Jvm.ClassFile.FieldType.int)) ∈ lw_all := lw_g (lw_at lw_m3 47 rfl) rfl
theorem q577 : (Jvm.Cond.methodLink "Canecrush$Works" (168 : Nat) ({ cls := "Canecrush$Works", name := "next", desc := "()LCanecrush$Load;" } : Jvm.MethodName)) ∈ lw_all := lw_g (lw_at lw_m3 48 rfl) rfl
theorem q578 : (Jvm.Cond.privateMethod ({ cls := "Canecrush$Works", name := "next", desc := "()LCanecrush$Load;" } : Jvm.MethodName)) ∈ lw_tbl := lw_at lw_m3 49 rfl
theorem q579 : (Jvm.Cond.instanceMethod ({ cls := "Canecrush$Works", name := "next", desc := "()LCanecrush$Load;" } : Jvm.MethodName)) ∈ lw_all := lw_g (lw_at lw_m3 50 rfl) rfl
theorem q580 : (Jvm.Cond.code ({ cls := "Canecrush$Works", name := "next", desc := "()LCanecrush$Load;" } : Jvm.MethodName) prog_5_method_9_code (4 : Nat) (Option.some (Jvm.ClassFile.FieldType.object "Canecrush$Load"))) ∈ lw_all := lw_g (lw_at lw_m3 51 rfl) rfl
theorem q581 : (Jvm.Cond.methodLink "Canecrush$Works" (164 : Nat) ({ cls := "Canecrush$Works", name := "isAhead", desc := "(LCanecrush$Load;LCanecrush$Load;)Z" } : Jvm.MethodName)) ∈ lw_all := lw_g (lw_at lw_m3 52 rfl) rfl
theorem q582 : (Jvm.Cond.privateMethod ({ cls := "Canecrush$Works", name := "isAhead", desc := "(LCanecrush$Load;LCanecrush$Load;)Z" } : Jvm.MethodName)) ∈ lw_tbl := lw_at lw_m3 53 rfl
theorem q583 : (Jvm.Cond.instanceMethod ({ cls := "Canecrush$Works", name := "isAhead", desc := "(LCanecrush$Load;LCanecrush$Load;)Z" } : Jvm.MethodName)) ∈ lw_all := lw_g (lw_at lw_m3 54 rfl) rfl
theorem q584 : (Jvm.Cond.code ({ cls := "Canecrush$Works", name := "isAhead", desc := "(LCanecrush$Load;LCanecrush$Load;)Z" } : Jvm.MethodName) prog_5_method_8_code (4 : Nat) (Option.some Jvm.ClassFile.FieldType.boolean)) ∈ lw_all := lw_g (lw_at lw_m3 55 rfl) rfl
theorem q585 : (Jvm.Cond.methodLink "Canecrush$Works" (157 : Nat) ({ cls := "Canecrush$Works", name := "growerOf", desc := "(LCanecrush$Load;)I" } : Jvm.MethodName)) ∈ lw_all := lw_g (lw_at lw_m3 56 rfl) rfl
theorem q586 : (Jvm.Cond.privateMethod ({ cls := "Canecrush$Works", name := "growerOf", desc := "(LCanecrush$Load;)I" } : Jvm.MethodName)) ∈ lw_tbl := lw_at lw_m3 57 rfl
theorem q587 : (Jvm.Cond.instanceMethod ({ cls := "Canecrush$Works", name := "growerOf", desc := "(LCanecrush$Load;)I" } : Jvm.MethodName)) ∈ lw_all := lw_g (lw_at lw_m3 58 rfl) rfl
theorem q588 : (Jvm.Cond.code ({ cls := "Canecrush$Works", name := "growerOf", desc := "(LCanecrush$Load;)I" } : Jvm.MethodName) prog_5_method_7_code (2 : Nat) (Option.some Jvm.ClassFile.FieldType.int)) ∈ lw_all := lw_g (lw_at lw_m3 59 rfl) rfl
theorem q589 : (Jvm.Cond.methodLink "Canecrush$Works" (174 : Nat) ({ cls := "Canecrush$Works", name := "crush", desc := "(LCanecrush$Load;)V" } : Jvm.MethodName)) ∈ lw_all := lw_g (lw_at lw_m3 60 rfl) rfl
theorem q590 : (Jvm.Cond.privateMethod ({ cls := "Canecrush$Works", name := "crush", desc := "(LCanecrush$Load;)V" } : Jvm.MethodName)) ∈ lw_tbl := lw_at lw_m3 61 rfl
theorem q591 : (Jvm.Cond.instanceMethod ({ cls := "Canecrush$Works", name := "crush", desc := "(LCanecrush$Load;)V" } : Jvm.MethodName)) ∈ lw_all := lw_g (lw_at lw_m3 62 rfl) rfl
theorem q592 : (Jvm.Cond.code ({ cls := "Canecrush$Works", name := "crush", desc := "(LCanecrush$Load;)V" } : Jvm.MethodName) prog_5_method_11_code (4 : Nat) (Option.none : Option Jvm.ClassFile.FieldType)) ∈ lw_all := lw_g (lw_at lw_m3 63 rfl) rfl
theorem q593 : (Jvm.Cond.methodLink "Canecrush$Works" (196 : Nat) ({ cls := "Canecrush$Works", name := "burn", desc := "(I)I" } : Jvm.MethodName)) ∈ lw_all := lw_g (lw_at lw_m3 64 rfl) rfl
theorem q594 : (Jvm.Cond.instanceMethod ({ cls := "Canecrush$Works", name := "burn", desc := "(I)I" } : Jvm.MethodName)) ∈ lw_all := lw_g (lw_at lw_m3 65 rfl) rfl
theorem q595 : (Jvm.Cond.selects "Canecrush$Works" ({ cls := "Canecrush$Works", name := "burn", desc := "(I)I" } : Jvm.MethodName) ({ cls := "Canecrush$Works", name := "burn", desc := "(I)I" } : Jvm.MethodName)) ∈ lw_all := lw_g (lw_at lw_m3 66 rfl) rfl
theorem q596 : (Jvm.Cond.code ({ cls := "Canecrush$Works", name := "burn", desc := "(I)I" } : Jvm.MethodName) prog_5_method_3_code (3 : Nat) (Option.some Jvm.ClassFile.FieldType.int)) ∈ lw_all := lw_g (lw_at lw_m3 67 rfl) rfl
theorem q597 : (Jvm.Cond.methodLink "Canecrush$Works" (126 : Nat) ({ cls := "Canecrush$Works", name := "endDay", desc := "(II)V" } : Jvm.MethodName)) ∈ lw_all := lw_g (lw_at lw_m3 68 rfl) rfl
theorem q598 : (Jvm.Cond.instanceMethod ({ cls := "Canecrush$Works", name := "endDay", desc := "(II)V" } : Jvm.MethodName)) ∈ lw_all := lw_g (lw_at lw_m3 69 rfl) rfl
theorem q599 : (Jvm.Cond.selects "Canecrush$Works" ({ cls := "Canecrush$Works", name := "endDay", desc := "(II)V" } : Jvm.MethodName) ({ cls := "Canecrush$Works", name := "endDay", desc := "(II)V" } : Jvm.MethodName)) ∈ lw_all := lw_g (lw_at lw_m3 70 rfl) rfl
theorem q600 : (Jvm.Cond.code ({ cls := "Canecrush$Works", name := "endDay", desc := "(II)V" } : Jvm.MethodName) prog_5_method_12_code (7 : Nat) (Option.none : Option Jvm.ClassFile.FieldType)) ∈ lw_all := lw_g (lw_at lw_m3 71 rfl) rfl
theorem q601 : (Jvm.Cond.methodLink "Canecrush$Works" (199 : Nat) ({ cls := "Canecrush$Works", name := "endFields", desc := "(II)V" } : Jvm.MethodName)) ∈ lw_all := lw_g (lw_at lw_m3 72 rfl) rfl
theorem q1518 : (Jvm.Cond.castable "Canecrush$Works" "java/lang/Object") ∈ lw_tbl := lw_at lw_m7 29 rfl
theorem in_X2 : ∀ w ∈ wsX20, w ∈ lw_all := lw_in wsX20 [163, 165, 167, 169, 171, 173, 175, 177, 179, 181, 183, 185, 187, 189, 191, 193, 195, 197, 199, 201, 203, 205] (by decide +kernel) (by decide +kernel)

/-! Canecrush$Field -/
set_option maxRecDepth 100000
def RX5 : String := "Canecrush$Field"
def TX5 : u_T := fun k => match k with
  | 0 => ("Canecrush$Field", "grower", "I", true)
  | 1 => ("Canecrush$Field", "area", "I", true)
  | 2 => ("Canecrush$Field", "far", "I", true)
  | 3 => ("Canecrush$Field", "cane", "I", false)
  | 4 => ("Canecrush$Field", "sweet", "I", false)
  | 5 => ("Canecrush$Field", "age", "I", false)
  | 6 => ("Canecrush$Field", "ratoons", "I", false)
  | 7 => ("Canecrush$Field", "smut", "I", false)
  | 8 => ("Canecrush$Field", "isLodged", "Z", false)
  | 9 => ("Canecrush$Field", "isFrosted", "Z", false)
  | _ => ("Canecrush$Field", "isBurnt", "Z", false)
def tyX5 : Nat → FieldType := fun k => match k with
  | 0 => .int
  | 1 => .int
  | 2 => .int
  | 3 => .int
  | 4 => .int
  | 5 => .int
  | 6 => .int
  | 7 => .int
  | 8 => .boolean
  | 9 => .boolean
  | _ => .boolean
abbrev wsX50 : List Cond := u_ws RX5 TX5 11
theorem nmX5 : ∀ a, a < 11 → ∀ b, b < 11 → a ≠ b → (TX5 a).2.1 ≠ (TX5 b).2.1 := by decide +kernel
theorem tyX5_ok : ∀ k, k < 11 → parseFieldDescriptor (TX5 k).2.2.1 = some (tyX5 k) := by decide +kernel
abbrev cX5_copy : ByteArray := prog_2_method_2_code
def yX5_copy : MethodName := ⟨RX5, "copy", "()LCanecrush$Field;"⟩
def dkwX5_copy_3 : List UInt8 := [180, 0, 43, 181, 0, 43, 43, 42, 180, 0, 46, 181, 0, 46, 43, 176]
abbrev dktX5_copy_3 : List UInt8 := dkwX5_copy_3 ++ []
def dkwX5_copy_2 : List UInt8 := [180, 0, 33, 181, 0, 33, 43, 42, 180, 0, 36, 181, 0, 36, 43, 42, 180, 0, 39, 181, 0, 39, 43, 42]
abbrev dktX5_copy_2 : List UInt8 := dkwX5_copy_2 ++ dktX5_copy_3
def dkwX5_copy_1 : List UInt8 := [180, 0, 27, 181, 0, 27, 43, 42, 180, 0, 9, 181, 0, 9, 43, 42, 180, 0, 30, 181, 0, 30, 43, 42]
abbrev dktX5_copy_1 : List UInt8 := dkwX5_copy_1 ++ dktX5_copy_2
def dkwX5_copy_0 : List UInt8 := [187, 0, 10, 89, 42, 180, 0, 15, 42, 180, 0, 18, 42, 180, 0, 21, 183, 0, 24, 76, 43, 42]
abbrev dktX5_copy_0 : List UInt8 := dkwX5_copy_0 ++ dktX5_copy_1
theorem dksX5_copy_0 : cX5_copy.data.toList.drop 0 = dktX5_copy_0 := by decide +kernel
theorem dksX5_copy_1 : cX5_copy.data.toList.drop 22 = dktX5_copy_1 := dk_seg dksX5_copy_0 22 rfl rfl
theorem dksX5_copy_2 : cX5_copy.data.toList.drop 46 = dktX5_copy_2 := dk_seg dksX5_copy_1 24 rfl rfl
theorem dksX5_copy_3 : cX5_copy.data.toList.drop 70 = dktX5_copy_3 := dk_seg dksX5_copy_2 24 rfl rfl
theorem dX5_copy_0 : decode cX5_copy 0 = .ok (.new 10, 3) := dk_187 0 10 (dk_at dksX5_copy_0 0 rfl rfl)
theorem dX5_copy_3 : decode cX5_copy 3 = .ok (.dup, 1) := dk_89 (dk_at dksX5_copy_0 3 rfl rfl)
theorem dX5_copy_4 : decode cX5_copy 4 = .ok (.aload_n 0, 1) := dk_42 (dk_at dksX5_copy_0 4 rfl rfl)
theorem dX5_copy_5 : decode cX5_copy 5 = .ok (.getfield 15, 3) := dk_180 0 15 (dk_at dksX5_copy_0 5 rfl rfl)
theorem dX5_copy_8 : decode cX5_copy 8 = .ok (.aload_n 0, 1) := dk_42 (dk_at dksX5_copy_0 8 rfl rfl)
theorem dX5_copy_9 : decode cX5_copy 9 = .ok (.getfield 18, 3) := dk_180 0 18 (dk_at dksX5_copy_0 9 rfl rfl)
theorem dX5_copy_12 : decode cX5_copy 12 = .ok (.aload_n 0, 1) := dk_42 (dk_at dksX5_copy_0 12 rfl rfl)
theorem dX5_copy_13 : decode cX5_copy 13 = .ok (.getfield 21, 3) := dk_180 0 21 (dk_at dksX5_copy_0 13 rfl rfl)
theorem dX5_copy_16 : decode cX5_copy 16 = .ok (.invokespecial 24, 3) := dk_183 0 24 (dk_at dksX5_copy_0 16 rfl rfl)
theorem dX5_copy_19 : decode cX5_copy 19 = .ok (.astore_n 1, 1) := dk_76 (dk_at dksX5_copy_0 19 rfl rfl)
theorem dX5_copy_20 : decode cX5_copy 20 = .ok (.aload_n 1, 1) := dk_43 (dk_at dksX5_copy_0 20 rfl rfl)
theorem dX5_copy_21 : decode cX5_copy 21 = .ok (.aload_n 0, 1) := dk_42 (dk_at dksX5_copy_0 21 rfl rfl)
theorem dX5_copy_22 : decode cX5_copy 22 = .ok (.getfield 27, 3) := dk_180 0 27 (dk_at dksX5_copy_1 0 rfl rfl)
theorem dX5_copy_25 : decode cX5_copy 25 = .ok (.putfield 27, 3) := dk_181 0 27 (dk_at dksX5_copy_1 3 rfl rfl)
theorem dX5_copy_28 : decode cX5_copy 28 = .ok (.aload_n 1, 1) := dk_43 (dk_at dksX5_copy_1 6 rfl rfl)
theorem dX5_copy_29 : decode cX5_copy 29 = .ok (.aload_n 0, 1) := dk_42 (dk_at dksX5_copy_1 7 rfl rfl)
theorem dX5_copy_30 : decode cX5_copy 30 = .ok (.getfield 9, 3) := dk_180 0 9 (dk_at dksX5_copy_1 8 rfl rfl)
theorem dX5_copy_33 : decode cX5_copy 33 = .ok (.putfield 9, 3) := dk_181 0 9 (dk_at dksX5_copy_1 11 rfl rfl)
theorem dX5_copy_36 : decode cX5_copy 36 = .ok (.aload_n 1, 1) := dk_43 (dk_at dksX5_copy_1 14 rfl rfl)
theorem dX5_copy_37 : decode cX5_copy 37 = .ok (.aload_n 0, 1) := dk_42 (dk_at dksX5_copy_1 15 rfl rfl)
theorem dX5_copy_38 : decode cX5_copy 38 = .ok (.getfield 30, 3) := dk_180 0 30 (dk_at dksX5_copy_1 16 rfl rfl)
theorem dX5_copy_41 : decode cX5_copy 41 = .ok (.putfield 30, 3) := dk_181 0 30 (dk_at dksX5_copy_1 19 rfl rfl)
theorem dX5_copy_44 : decode cX5_copy 44 = .ok (.aload_n 1, 1) := dk_43 (dk_at dksX5_copy_1 22 rfl rfl)
theorem dX5_copy_45 : decode cX5_copy 45 = .ok (.aload_n 0, 1) := dk_42 (dk_at dksX5_copy_1 23 rfl rfl)
theorem dX5_copy_46 : decode cX5_copy 46 = .ok (.getfield 33, 3) := dk_180 0 33 (dk_at dksX5_copy_2 0 rfl rfl)
theorem dX5_copy_49 : decode cX5_copy 49 = .ok (.putfield 33, 3) := dk_181 0 33 (dk_at dksX5_copy_2 3 rfl rfl)
theorem dX5_copy_52 : decode cX5_copy 52 = .ok (.aload_n 1, 1) := dk_43 (dk_at dksX5_copy_2 6 rfl rfl)
theorem dX5_copy_53 : decode cX5_copy 53 = .ok (.aload_n 0, 1) := dk_42 (dk_at dksX5_copy_2 7 rfl rfl)
theorem dX5_copy_54 : decode cX5_copy 54 = .ok (.getfield 36, 3) := dk_180 0 36 (dk_at dksX5_copy_2 8 rfl rfl)
theorem dX5_copy_57 : decode cX5_copy 57 = .ok (.putfield 36, 3) := dk_181 0 36 (dk_at dksX5_copy_2 11 rfl rfl)
theorem dX5_copy_60 : decode cX5_copy 60 = .ok (.aload_n 1, 1) := dk_43 (dk_at dksX5_copy_2 14 rfl rfl)
theorem dX5_copy_61 : decode cX5_copy 61 = .ok (.aload_n 0, 1) := dk_42 (dk_at dksX5_copy_2 15 rfl rfl)
theorem dX5_copy_62 : decode cX5_copy 62 = .ok (.getfield 39, 3) := dk_180 0 39 (dk_at dksX5_copy_2 16 rfl rfl)
theorem dX5_copy_65 : decode cX5_copy 65 = .ok (.putfield 39, 3) := dk_181 0 39 (dk_at dksX5_copy_2 19 rfl rfl)
theorem dX5_copy_68 : decode cX5_copy 68 = .ok (.aload_n 1, 1) := dk_43 (dk_at dksX5_copy_2 22 rfl rfl)
theorem dX5_copy_69 : decode cX5_copy 69 = .ok (.aload_n 0, 1) := dk_42 (dk_at dksX5_copy_2 23 rfl rfl)
theorem dX5_copy_70 : decode cX5_copy 70 = .ok (.getfield 43, 3) := dk_180 0 43 (dk_at dksX5_copy_3 0 rfl rfl)
theorem dX5_copy_73 : decode cX5_copy 73 = .ok (.putfield 43, 3) := dk_181 0 43 (dk_at dksX5_copy_3 3 rfl rfl)
theorem dX5_copy_76 : decode cX5_copy 76 = .ok (.aload_n 1, 1) := dk_43 (dk_at dksX5_copy_3 6 rfl rfl)
theorem dX5_copy_77 : decode cX5_copy 77 = .ok (.aload_n 0, 1) := dk_42 (dk_at dksX5_copy_3 7 rfl rfl)
theorem dX5_copy_78 : decode cX5_copy 78 = .ok (.getfield 46, 3) := dk_180 0 46 (dk_at dksX5_copy_3 8 rfl rfl)
theorem dX5_copy_81 : decode cX5_copy 81 = .ok (.putfield 46, 3) := dk_181 0 46 (dk_at dksX5_copy_3 11 rfl rfl)
theorem dX5_copy_84 : decode cX5_copy 84 = .ok (.aload_n 1, 1) := dk_43 (dk_at dksX5_copy_3 14 rfl rfl)
theorem dX5_copy_85 : decode cX5_copy 85 = .ok (.areturn, 1) := dk_176 (dk_at dksX5_copy_3 15 rfl rfl)
abbrev cX5_init : ByteArray := prog_2_method_1_code
def yX5_init : MethodName := ⟨RX5, "<init>", "(III)V"⟩
def dkwX5_init_1 : List UInt8 := [181, 0, 21, 177]
abbrev dktX5_init_1 : List UInt8 := dkwX5_init_1 ++ []
def dkwX5_init_0 : List UInt8 := [42, 183, 0, 3, 42, 16, 60, 181, 0, 9, 42, 27, 181, 0, 15, 42, 28, 181, 0, 18, 42, 29]
abbrev dktX5_init_0 : List UInt8 := dkwX5_init_0 ++ dktX5_init_1
theorem dksX5_init_0 : cX5_init.data.toList.drop 0 = dktX5_init_0 := by decide +kernel
theorem dksX5_init_1 : cX5_init.data.toList.drop 22 = dktX5_init_1 := dk_seg dksX5_init_0 22 rfl rfl
theorem dX5_init_0 : decode cX5_init 0 = .ok (.aload_n 0, 1) := dk_42 (dk_at dksX5_init_0 0 rfl rfl)
theorem dX5_init_1 : decode cX5_init 1 = .ok (.invokespecial 3, 3) := dk_183 0 3 (dk_at dksX5_init_0 1 rfl rfl)
theorem dX5_init_4 : decode cX5_init 4 = .ok (.aload_n 0, 1) := dk_42 (dk_at dksX5_init_0 4 rfl rfl)
theorem dX5_init_5 : decode cX5_init 5 = .ok (.bipush 60, 2) := dk_16 60 (dk_at dksX5_init_0 5 rfl rfl)
theorem dX5_init_7 : decode cX5_init 7 = .ok (.putfield 9, 3) := dk_181 0 9 (dk_at dksX5_init_0 7 rfl rfl)
theorem dX5_init_10 : decode cX5_init 10 = .ok (.aload_n 0, 1) := dk_42 (dk_at dksX5_init_0 10 rfl rfl)
theorem dX5_init_11 : decode cX5_init 11 = .ok (.iload_n 1, 1) := dk_27 (dk_at dksX5_init_0 11 rfl rfl)
theorem dX5_init_12 : decode cX5_init 12 = .ok (.putfield 15, 3) := dk_181 0 15 (dk_at dksX5_init_0 12 rfl rfl)
theorem dX5_init_15 : decode cX5_init 15 = .ok (.aload_n 0, 1) := dk_42 (dk_at dksX5_init_0 15 rfl rfl)
theorem dX5_init_16 : decode cX5_init 16 = .ok (.iload_n 2, 1) := dk_28 (dk_at dksX5_init_0 16 rfl rfl)
theorem dX5_init_17 : decode cX5_init 17 = .ok (.putfield 18, 3) := dk_181 0 18 (dk_at dksX5_init_0 17 rfl rfl)
theorem dX5_init_20 : decode cX5_init 20 = .ok (.aload_n 0, 1) := dk_42 (dk_at dksX5_init_0 20 rfl rfl)
theorem dX5_init_21 : decode cX5_init 21 = .ok (.iload_n 3, 1) := dk_29 (dk_at dksX5_init_0 21 rfl rfl)
theorem dX5_init_22 : decode cX5_init 22 = .ok (.putfield 21, 3) := dk_181 0 21 (dk_at dksX5_init_1 0 rfl rfl)
theorem dX5_init_25 : decode cX5_init 25 = .ok (.return_, 1) := dk_177 (dk_at dksX5_init_1 3 rfl rfl)
abbrev cX5_endDay : ByteArray := prog_2_method_3_code
def yX5_endDay : MethodName := ⟨RX5, "endDay", "(III)V"⟩
def dkwX5_endDay_9 : List UInt8 := [164, 0, 13, 27, 16, 25, 161, 0, 7, 5, 167, 0, 4, 3, 96, 184, 0, 62, 181, 0, 36, 177]
abbrev dktX5_endDay_9 : List UInt8 := dkwX5_endDay_9 ++ []
def dkwX5_endDay_8 : List UInt8 := [42, 3, 16, 100, 42, 180, 0, 36, 21, 4, 158, 0, 7, 4, 167, 0, 4, 3, 96, 29, 21, 4]
abbrev dktX5_endDay_8 : List UInt8 := dkwX5_endDay_8 ++ dktX5_endDay_9
def dkwX5_endDay_7 : List UInt8 := [3, 128, 181, 0, 39, 42, 89, 180, 0, 43, 27, 5, 162, 0, 7, 4, 167, 0, 4, 3, 128, 181, 0, 43]
abbrev dktX5_endDay_7 : List UInt8 := dkwX5_endDay_7 ++ dktX5_endDay_8
def dkwX5_endDay_6 : List UInt8 := [28, 16, 8, 161, 0, 21, 42, 180, 0, 27, 16, 20, 42, 180, 0, 18, 104, 161, 0, 7, 4, 167, 0, 4]
abbrev dktX5_endDay_6 : List UInt8 := dkwX5_endDay_6 ++ dktX5_endDay_7
def dkwX5_endDay_5 : List UInt8 := [42, 180, 0, 46, 153, 0, 7, 8, 167, 0, 4, 3, 100, 184, 0, 62, 181, 0, 9, 42, 89, 180, 0, 39]
abbrev dktX5_endDay_5 : List UInt8 := dkwX5_endDay_5 ++ dktX5_endDay_6
def dkwX5_endDay_4 : List UInt8 := [17, 0, 180, 42, 180, 0, 9, 21, 5, 96, 42, 180, 0, 43, 153, 0, 8, 16, 6, 167, 0, 4, 3, 100]
abbrev dktX5_endDay_4 : List UInt8 := dkwX5_endDay_4 ++ dktX5_endDay_5
def dkwX5_endDay_3 : List UInt8 := [5, 167, 0, 4, 3, 100, 3, 16, 20, 27, 100, 16, 10, 184, 0, 49, 184, 0, 55, 96, 54, 5, 42, 3]
abbrev dktX5_endDay_3 : List UInt8 := dkwX5_endDay_3 ++ dktX5_endDay_4
def dkwX5_endDay_2 : List UInt8 := [180, 0, 30, 16, 10, 161, 0, 12, 28, 6, 162, 0, 7, 7, 167, 0, 4, 3, 28, 16, 6, 161, 0, 7]
abbrev dktX5_endDay_2 : List UInt8 := dkwX5_endDay_2 ++ dktX5_endDay_3
def dkwX5_endDay_1 : List UInt8 := [42, 180, 0, 18, 3, 27, 16, 8, 184, 0, 49, 184, 0, 55, 28, 6, 108, 96, 104, 182, 0, 58, 42]
abbrev dktX5_endDay_1 : List UInt8 := dkwX5_endDay_1 ++ dktX5_endDay_2
def dkwX5_endDay_0 : List UInt8 := [42, 180, 0, 36, 54, 4, 42, 89, 180, 0, 30, 4, 96, 181, 0, 30, 42, 180, 0, 46, 154, 0, 26, 42]
abbrev dktX5_endDay_0 : List UInt8 := dkwX5_endDay_0 ++ dktX5_endDay_1
theorem dksX5_endDay_0 : cX5_endDay.data.toList.drop 0 = dktX5_endDay_0 := by decide +kernel
theorem dksX5_endDay_1 : cX5_endDay.data.toList.drop 24 = dktX5_endDay_1 := dk_seg dksX5_endDay_0 24 rfl rfl
theorem dksX5_endDay_2 : cX5_endDay.data.toList.drop 47 = dktX5_endDay_2 := dk_seg dksX5_endDay_1 23 rfl rfl
theorem dksX5_endDay_3 : cX5_endDay.data.toList.drop 71 = dktX5_endDay_3 := dk_seg dksX5_endDay_2 24 rfl rfl
theorem dksX5_endDay_4 : cX5_endDay.data.toList.drop 95 = dktX5_endDay_4 := dk_seg dksX5_endDay_3 24 rfl rfl
theorem dksX5_endDay_5 : cX5_endDay.data.toList.drop 119 = dktX5_endDay_5 := dk_seg dksX5_endDay_4 24 rfl rfl
theorem dksX5_endDay_6 : cX5_endDay.data.toList.drop 143 = dktX5_endDay_6 := dk_seg dksX5_endDay_5 24 rfl rfl
theorem dksX5_endDay_7 : cX5_endDay.data.toList.drop 167 = dktX5_endDay_7 := dk_seg dksX5_endDay_6 24 rfl rfl
theorem dksX5_endDay_8 : cX5_endDay.data.toList.drop 191 = dktX5_endDay_8 := dk_seg dksX5_endDay_7 24 rfl rfl
theorem dksX5_endDay_9 : cX5_endDay.data.toList.drop 213 = dktX5_endDay_9 := dk_seg dksX5_endDay_8 22 rfl rfl
theorem dX5_endDay_0 : decode cX5_endDay 0 = .ok (.aload_n 0, 1) := dk_42 (dk_at dksX5_endDay_0 0 rfl rfl)
theorem dX5_endDay_1 : decode cX5_endDay 1 = .ok (.getfield 36, 3) := dk_180 0 36 (dk_at dksX5_endDay_0 1 rfl rfl)
theorem dX5_endDay_4 : decode cX5_endDay 4 = .ok (.istore 4, 2) := dk_54 4 (dk_at dksX5_endDay_0 4 rfl rfl)
theorem dX5_endDay_6 : decode cX5_endDay 6 = .ok (.aload_n 0, 1) := dk_42 (dk_at dksX5_endDay_0 6 rfl rfl)
theorem dX5_endDay_7 : decode cX5_endDay 7 = .ok (.dup, 1) := dk_89 (dk_at dksX5_endDay_0 7 rfl rfl)
theorem dX5_endDay_8 : decode cX5_endDay 8 = .ok (.getfield 30, 3) := dk_180 0 30 (dk_at dksX5_endDay_0 8 rfl rfl)
theorem dX5_endDay_11 : decode cX5_endDay 11 = .ok (.iconst 1, 1) := dk_4 (dk_at dksX5_endDay_0 11 rfl rfl)
theorem dX5_endDay_12 : decode cX5_endDay 12 = .ok (.iadd, 1) := dk_96 (dk_at dksX5_endDay_0 12 rfl rfl)
theorem dX5_endDay_13 : decode cX5_endDay 13 = .ok (.putfield 30, 3) := dk_181 0 30 (dk_at dksX5_endDay_0 13 rfl rfl)
theorem dX5_endDay_16 : decode cX5_endDay 16 = .ok (.aload_n 0, 1) := dk_42 (dk_at dksX5_endDay_0 16 rfl rfl)
theorem dX5_endDay_17 : decode cX5_endDay 17 = .ok (.getfield 46, 3) := dk_180 0 46 (dk_at dksX5_endDay_0 17 rfl rfl)
theorem dX5_endDay_20 : decode cX5_endDay 20 = .ok (.ifCond .ne 26, 3) := dk_154 0 26 (dk_at dksX5_endDay_0 20 rfl rfl)
theorem dX5_endDay_23 : decode cX5_endDay 23 = .ok (.aload_n 0, 1) := dk_42 (dk_at dksX5_endDay_0 23 rfl rfl)
theorem dX5_endDay_24 : decode cX5_endDay 24 = .ok (.aload_n 0, 1) := dk_42 (dk_at dksX5_endDay_1 0 rfl rfl)
theorem dX5_endDay_25 : decode cX5_endDay 25 = .ok (.getfield 18, 3) := dk_180 0 18 (dk_at dksX5_endDay_1 1 rfl rfl)
theorem dX5_endDay_28 : decode cX5_endDay 28 = .ok (.iconst 0, 1) := dk_3 (dk_at dksX5_endDay_1 4 rfl rfl)
theorem dX5_endDay_29 : decode cX5_endDay 29 = .ok (.iload_n 1, 1) := dk_27 (dk_at dksX5_endDay_1 5 rfl rfl)
theorem dX5_endDay_30 : decode cX5_endDay 30 = .ok (.bipush 8, 2) := dk_16 8 (dk_at dksX5_endDay_1 6 rfl rfl)
theorem dX5_endDay_32 : decode cX5_endDay 32 = .ok (.invokestatic 49, 3) := dk_184 0 49 (dk_at dksX5_endDay_1 8 rfl rfl)
theorem dX5_endDay_35 : decode cX5_endDay 35 = .ok (.invokestatic 55, 3) := dk_184 0 55 (dk_at dksX5_endDay_1 11 rfl rfl)
theorem dX5_endDay_38 : decode cX5_endDay 38 = .ok (.iload_n 2, 1) := dk_28 (dk_at dksX5_endDay_1 14 rfl rfl)
theorem dX5_endDay_39 : decode cX5_endDay 39 = .ok (.iconst 3, 1) := dk_6 (dk_at dksX5_endDay_1 15 rfl rfl)
theorem dX5_endDay_40 : decode cX5_endDay 40 = .ok (.idiv, 1) := dk_108 (dk_at dksX5_endDay_1 16 rfl rfl)
theorem dX5_endDay_41 : decode cX5_endDay 41 = .ok (.iadd, 1) := dk_96 (dk_at dksX5_endDay_1 17 rfl rfl)
theorem dX5_endDay_42 : decode cX5_endDay 42 = .ok (.imul, 1) := dk_104 (dk_at dksX5_endDay_1 18 rfl rfl)
theorem dX5_endDay_43 : decode cX5_endDay 43 = .ok (.invokevirtual 58, 3) := dk_182 0 58 (dk_at dksX5_endDay_1 19 rfl rfl)
theorem dX5_endDay_46 : decode cX5_endDay 46 = .ok (.aload_n 0, 1) := dk_42 (dk_at dksX5_endDay_1 22 rfl rfl)
theorem dX5_endDay_47 : decode cX5_endDay 47 = .ok (.getfield 30, 3) := dk_180 0 30 (dk_at dksX5_endDay_2 0 rfl rfl)
theorem dX5_endDay_50 : decode cX5_endDay 50 = .ok (.bipush 10, 2) := dk_16 10 (dk_at dksX5_endDay_2 3 rfl rfl)
theorem dX5_endDay_52 : decode cX5_endDay 52 = .ok (.if_icmp .lt 12, 3) := dk_161 0 12 (dk_at dksX5_endDay_2 5 rfl rfl)
theorem dX5_endDay_55 : decode cX5_endDay 55 = .ok (.iload_n 2, 1) := dk_28 (dk_at dksX5_endDay_2 8 rfl rfl)
theorem dX5_endDay_56 : decode cX5_endDay 56 = .ok (.iconst 3, 1) := dk_6 (dk_at dksX5_endDay_2 9 rfl rfl)
theorem dX5_endDay_57 : decode cX5_endDay 57 = .ok (.if_icmp .ge 7, 3) := dk_162 0 7 (dk_at dksX5_endDay_2 10 rfl rfl)
theorem dX5_endDay_60 : decode cX5_endDay 60 = .ok (.iconst 4, 1) := dk_7 (dk_at dksX5_endDay_2 13 rfl rfl)
theorem dX5_endDay_61 : decode cX5_endDay 61 = .ok (.goto 4, 3) := dk_167 0 4 (dk_at dksX5_endDay_2 14 rfl rfl)
theorem dX5_endDay_64 : decode cX5_endDay 64 = .ok (.iconst 0, 1) := dk_3 (dk_at dksX5_endDay_2 17 rfl rfl)
theorem dX5_endDay_65 : decode cX5_endDay 65 = .ok (.iload_n 2, 1) := dk_28 (dk_at dksX5_endDay_2 18 rfl rfl)
theorem dX5_endDay_66 : decode cX5_endDay 66 = .ok (.bipush 6, 2) := dk_16 6 (dk_at dksX5_endDay_2 19 rfl rfl)
theorem dX5_endDay_68 : decode cX5_endDay 68 = .ok (.if_icmp .lt 7, 3) := dk_161 0 7 (dk_at dksX5_endDay_2 21 rfl rfl)
theorem dX5_endDay_71 : decode cX5_endDay 71 = .ok (.iconst 2, 1) := dk_5 (dk_at dksX5_endDay_3 0 rfl rfl)
theorem dX5_endDay_72 : decode cX5_endDay 72 = .ok (.goto 4, 3) := dk_167 0 4 (dk_at dksX5_endDay_3 1 rfl rfl)
theorem dX5_endDay_75 : decode cX5_endDay 75 = .ok (.iconst 0, 1) := dk_3 (dk_at dksX5_endDay_3 4 rfl rfl)
theorem dX5_endDay_76 : decode cX5_endDay 76 = .ok (.isub, 1) := dk_100 (dk_at dksX5_endDay_3 5 rfl rfl)
theorem dX5_endDay_77 : decode cX5_endDay 77 = .ok (.iconst 0, 1) := dk_3 (dk_at dksX5_endDay_3 6 rfl rfl)
theorem dX5_endDay_78 : decode cX5_endDay 78 = .ok (.bipush 20, 2) := dk_16 20 (dk_at dksX5_endDay_3 7 rfl rfl)
theorem dX5_endDay_80 : decode cX5_endDay 80 = .ok (.iload_n 1, 1) := dk_27 (dk_at dksX5_endDay_3 9 rfl rfl)
theorem dX5_endDay_81 : decode cX5_endDay 81 = .ok (.isub, 1) := dk_100 (dk_at dksX5_endDay_3 10 rfl rfl)
theorem dX5_endDay_82 : decode cX5_endDay 82 = .ok (.bipush 10, 2) := dk_16 10 (dk_at dksX5_endDay_3 11 rfl rfl)
theorem dX5_endDay_84 : decode cX5_endDay 84 = .ok (.invokestatic 49, 3) := dk_184 0 49 (dk_at dksX5_endDay_3 13 rfl rfl)
theorem dX5_endDay_87 : decode cX5_endDay 87 = .ok (.invokestatic 55, 3) := dk_184 0 55 (dk_at dksX5_endDay_3 16 rfl rfl)
theorem dX5_endDay_90 : decode cX5_endDay 90 = .ok (.iadd, 1) := dk_96 (dk_at dksX5_endDay_3 19 rfl rfl)
theorem dX5_endDay_91 : decode cX5_endDay 91 = .ok (.istore 5, 2) := dk_54 5 (dk_at dksX5_endDay_3 20 rfl rfl)
theorem dX5_endDay_93 : decode cX5_endDay 93 = .ok (.aload_n 0, 1) := dk_42 (dk_at dksX5_endDay_3 22 rfl rfl)
theorem dX5_endDay_94 : decode cX5_endDay 94 = .ok (.iconst 0, 1) := dk_3 (dk_at dksX5_endDay_3 23 rfl rfl)
theorem dX5_endDay_95 : decode cX5_endDay 95 = .ok (.sipush 180, 3) := dk_17 0 180 (dk_at dksX5_endDay_4 0 rfl rfl)
theorem dX5_endDay_98 : decode cX5_endDay 98 = .ok (.aload_n 0, 1) := dk_42 (dk_at dksX5_endDay_4 3 rfl rfl)
theorem dX5_endDay_99 : decode cX5_endDay 99 = .ok (.getfield 9, 3) := dk_180 0 9 (dk_at dksX5_endDay_4 4 rfl rfl)
theorem dX5_endDay_102 : decode cX5_endDay 102 = .ok (.iload 5, 2) := dk_21 5 (dk_at dksX5_endDay_4 7 rfl rfl)
theorem dX5_endDay_104 : decode cX5_endDay 104 = .ok (.iadd, 1) := dk_96 (dk_at dksX5_endDay_4 9 rfl rfl)
theorem dX5_endDay_105 : decode cX5_endDay 105 = .ok (.aload_n 0, 1) := dk_42 (dk_at dksX5_endDay_4 10 rfl rfl)
theorem dX5_endDay_106 : decode cX5_endDay 106 = .ok (.getfield 43, 3) := dk_180 0 43 (dk_at dksX5_endDay_4 11 rfl rfl)
theorem dX5_endDay_109 : decode cX5_endDay 109 = .ok (.ifCond .eq 8, 3) := dk_153 0 8 (dk_at dksX5_endDay_4 14 rfl rfl)
theorem dX5_endDay_112 : decode cX5_endDay 112 = .ok (.bipush 6, 2) := dk_16 6 (dk_at dksX5_endDay_4 17 rfl rfl)
theorem dX5_endDay_114 : decode cX5_endDay 114 = .ok (.goto 4, 3) := dk_167 0 4 (dk_at dksX5_endDay_4 19 rfl rfl)
theorem dX5_endDay_117 : decode cX5_endDay 117 = .ok (.iconst 0, 1) := dk_3 (dk_at dksX5_endDay_4 22 rfl rfl)
theorem dX5_endDay_118 : decode cX5_endDay 118 = .ok (.isub, 1) := dk_100 (dk_at dksX5_endDay_4 23 rfl rfl)
theorem dX5_endDay_119 : decode cX5_endDay 119 = .ok (.aload_n 0, 1) := dk_42 (dk_at dksX5_endDay_5 0 rfl rfl)
theorem dX5_endDay_120 : decode cX5_endDay 120 = .ok (.getfield 46, 3) := dk_180 0 46 (dk_at dksX5_endDay_5 1 rfl rfl)
theorem dX5_endDay_123 : decode cX5_endDay 123 = .ok (.ifCond .eq 7, 3) := dk_153 0 7 (dk_at dksX5_endDay_5 4 rfl rfl)
theorem dX5_endDay_126 : decode cX5_endDay 126 = .ok (.iconst 5, 1) := dk_8 (dk_at dksX5_endDay_5 7 rfl rfl)
theorem dX5_endDay_127 : decode cX5_endDay 127 = .ok (.goto 4, 3) := dk_167 0 4 (dk_at dksX5_endDay_5 8 rfl rfl)
theorem dX5_endDay_130 : decode cX5_endDay 130 = .ok (.iconst 0, 1) := dk_3 (dk_at dksX5_endDay_5 11 rfl rfl)
theorem dX5_endDay_131 : decode cX5_endDay 131 = .ok (.isub, 1) := dk_100 (dk_at dksX5_endDay_5 12 rfl rfl)
theorem dX5_endDay_132 : decode cX5_endDay 132 = .ok (.invokestatic 62, 3) := dk_184 0 62 (dk_at dksX5_endDay_5 13 rfl rfl)
theorem dX5_endDay_135 : decode cX5_endDay 135 = .ok (.putfield 9, 3) := dk_181 0 9 (dk_at dksX5_endDay_5 16 rfl rfl)
theorem dX5_endDay_138 : decode cX5_endDay 138 = .ok (.aload_n 0, 1) := dk_42 (dk_at dksX5_endDay_5 19 rfl rfl)
theorem dX5_endDay_139 : decode cX5_endDay 139 = .ok (.dup, 1) := dk_89 (dk_at dksX5_endDay_5 20 rfl rfl)
theorem dX5_endDay_140 : decode cX5_endDay 140 = .ok (.getfield 39, 3) := dk_180 0 39 (dk_at dksX5_endDay_5 21 rfl rfl)
theorem dX5_endDay_143 : decode cX5_endDay 143 = .ok (.iload_n 2, 1) := dk_28 (dk_at dksX5_endDay_6 0 rfl rfl)
theorem dX5_endDay_144 : decode cX5_endDay 144 = .ok (.bipush 8, 2) := dk_16 8 (dk_at dksX5_endDay_6 1 rfl rfl)
theorem dX5_endDay_146 : decode cX5_endDay 146 = .ok (.if_icmp .lt 21, 3) := dk_161 0 21 (dk_at dksX5_endDay_6 3 rfl rfl)
theorem dX5_endDay_149 : decode cX5_endDay 149 = .ok (.aload_n 0, 1) := dk_42 (dk_at dksX5_endDay_6 6 rfl rfl)
theorem dX5_endDay_150 : decode cX5_endDay 150 = .ok (.getfield 27, 3) := dk_180 0 27 (dk_at dksX5_endDay_6 7 rfl rfl)
theorem dX5_endDay_153 : decode cX5_endDay 153 = .ok (.bipush 20, 2) := dk_16 20 (dk_at dksX5_endDay_6 10 rfl rfl)
theorem dX5_endDay_155 : decode cX5_endDay 155 = .ok (.aload_n 0, 1) := dk_42 (dk_at dksX5_endDay_6 12 rfl rfl)
theorem dX5_endDay_156 : decode cX5_endDay 156 = .ok (.getfield 18, 3) := dk_180 0 18 (dk_at dksX5_endDay_6 13 rfl rfl)
theorem dX5_endDay_159 : decode cX5_endDay 159 = .ok (.imul, 1) := dk_104 (dk_at dksX5_endDay_6 16 rfl rfl)
theorem dX5_endDay_160 : decode cX5_endDay 160 = .ok (.if_icmp .lt 7, 3) := dk_161 0 7 (dk_at dksX5_endDay_6 17 rfl rfl)
theorem dX5_endDay_163 : decode cX5_endDay 163 = .ok (.iconst 1, 1) := dk_4 (dk_at dksX5_endDay_6 20 rfl rfl)
theorem dX5_endDay_164 : decode cX5_endDay 164 = .ok (.goto 4, 3) := dk_167 0 4 (dk_at dksX5_endDay_6 21 rfl rfl)
theorem dX5_endDay_167 : decode cX5_endDay 167 = .ok (.iconst 0, 1) := dk_3 (dk_at dksX5_endDay_7 0 rfl rfl)
theorem dX5_endDay_168 : decode cX5_endDay 168 = .ok (.ior, 1) := dk_128 (dk_at dksX5_endDay_7 1 rfl rfl)
theorem dX5_endDay_169 : decode cX5_endDay 169 = .ok (.putfield 39, 3) := dk_181 0 39 (dk_at dksX5_endDay_7 2 rfl rfl)
theorem dX5_endDay_172 : decode cX5_endDay 172 = .ok (.aload_n 0, 1) := dk_42 (dk_at dksX5_endDay_7 5 rfl rfl)
theorem dX5_endDay_173 : decode cX5_endDay 173 = .ok (.dup, 1) := dk_89 (dk_at dksX5_endDay_7 6 rfl rfl)
theorem dX5_endDay_174 : decode cX5_endDay 174 = .ok (.getfield 43, 3) := dk_180 0 43 (dk_at dksX5_endDay_7 7 rfl rfl)
theorem dX5_endDay_177 : decode cX5_endDay 177 = .ok (.iload_n 1, 1) := dk_27 (dk_at dksX5_endDay_7 10 rfl rfl)
theorem dX5_endDay_178 : decode cX5_endDay 178 = .ok (.iconst 2, 1) := dk_5 (dk_at dksX5_endDay_7 11 rfl rfl)
theorem dX5_endDay_179 : decode cX5_endDay 179 = .ok (.if_icmp .ge 7, 3) := dk_162 0 7 (dk_at dksX5_endDay_7 12 rfl rfl)
theorem dX5_endDay_182 : decode cX5_endDay 182 = .ok (.iconst 1, 1) := dk_4 (dk_at dksX5_endDay_7 15 rfl rfl)
theorem dX5_endDay_183 : decode cX5_endDay 183 = .ok (.goto 4, 3) := dk_167 0 4 (dk_at dksX5_endDay_7 16 rfl rfl)
theorem dX5_endDay_186 : decode cX5_endDay 186 = .ok (.iconst 0, 1) := dk_3 (dk_at dksX5_endDay_7 19 rfl rfl)
theorem dX5_endDay_187 : decode cX5_endDay 187 = .ok (.ior, 1) := dk_128 (dk_at dksX5_endDay_7 20 rfl rfl)
theorem dX5_endDay_188 : decode cX5_endDay 188 = .ok (.putfield 43, 3) := dk_181 0 43 (dk_at dksX5_endDay_7 21 rfl rfl)
theorem dX5_endDay_191 : decode cX5_endDay 191 = .ok (.aload_n 0, 1) := dk_42 (dk_at dksX5_endDay_8 0 rfl rfl)
theorem dX5_endDay_192 : decode cX5_endDay 192 = .ok (.iconst 0, 1) := dk_3 (dk_at dksX5_endDay_8 1 rfl rfl)
theorem dX5_endDay_193 : decode cX5_endDay 193 = .ok (.bipush 100, 2) := dk_16 100 (dk_at dksX5_endDay_8 2 rfl rfl)
theorem dX5_endDay_195 : decode cX5_endDay 195 = .ok (.aload_n 0, 1) := dk_42 (dk_at dksX5_endDay_8 4 rfl rfl)
theorem dX5_endDay_196 : decode cX5_endDay 196 = .ok (.getfield 36, 3) := dk_180 0 36 (dk_at dksX5_endDay_8 5 rfl rfl)
theorem dX5_endDay_199 : decode cX5_endDay 199 = .ok (.iload 4, 2) := dk_21 4 (dk_at dksX5_endDay_8 8 rfl rfl)
theorem dX5_endDay_201 : decode cX5_endDay 201 = .ok (.ifCond .le 7, 3) := dk_158 0 7 (dk_at dksX5_endDay_8 10 rfl rfl)
theorem dX5_endDay_204 : decode cX5_endDay 204 = .ok (.iconst 1, 1) := dk_4 (dk_at dksX5_endDay_8 13 rfl rfl)
theorem dX5_endDay_205 : decode cX5_endDay 205 = .ok (.goto 4, 3) := dk_167 0 4 (dk_at dksX5_endDay_8 14 rfl rfl)
theorem dX5_endDay_208 : decode cX5_endDay 208 = .ok (.iconst 0, 1) := dk_3 (dk_at dksX5_endDay_8 17 rfl rfl)
theorem dX5_endDay_209 : decode cX5_endDay 209 = .ok (.iadd, 1) := dk_96 (dk_at dksX5_endDay_8 18 rfl rfl)
theorem dX5_endDay_210 : decode cX5_endDay 210 = .ok (.iload_n 3, 1) := dk_29 (dk_at dksX5_endDay_8 19 rfl rfl)
theorem dX5_endDay_211 : decode cX5_endDay 211 = .ok (.iload 4, 2) := dk_21 4 (dk_at dksX5_endDay_8 20 rfl rfl)
theorem dX5_endDay_213 : decode cX5_endDay 213 = .ok (.if_icmp .le 13, 3) := dk_164 0 13 (dk_at dksX5_endDay_9 0 rfl rfl)
theorem dX5_endDay_216 : decode cX5_endDay 216 = .ok (.iload_n 1, 1) := dk_27 (dk_at dksX5_endDay_9 3 rfl rfl)
theorem dX5_endDay_217 : decode cX5_endDay 217 = .ok (.bipush 25, 2) := dk_16 25 (dk_at dksX5_endDay_9 4 rfl rfl)
theorem dX5_endDay_219 : decode cX5_endDay 219 = .ok (.if_icmp .lt 7, 3) := dk_161 0 7 (dk_at dksX5_endDay_9 6 rfl rfl)
theorem dX5_endDay_222 : decode cX5_endDay 222 = .ok (.iconst 2, 1) := dk_5 (dk_at dksX5_endDay_9 9 rfl rfl)
theorem dX5_endDay_223 : decode cX5_endDay 223 = .ok (.goto 4, 3) := dk_167 0 4 (dk_at dksX5_endDay_9 10 rfl rfl)
theorem dX5_endDay_226 : decode cX5_endDay 226 = .ok (.iconst 0, 1) := dk_3 (dk_at dksX5_endDay_9 13 rfl rfl)
theorem dX5_endDay_227 : decode cX5_endDay 227 = .ok (.iadd, 1) := dk_96 (dk_at dksX5_endDay_9 14 rfl rfl)
theorem dX5_endDay_228 : decode cX5_endDay 228 = .ok (.invokestatic 62, 3) := dk_184 0 62 (dk_at dksX5_endDay_9 15 rfl rfl)
theorem dX5_endDay_231 : decode cX5_endDay 231 = .ok (.putfield 36, 3) := dk_181 0 36 (dk_at dksX5_endDay_9 18 rfl rfl)
theorem dX5_endDay_234 : decode cX5_endDay 234 = .ok (.return_, 1) := dk_177 (dk_at dksX5_endDay_9 21 rfl rfl)
abbrev cX5_grow : ByteArray := prog_2_method_4_code
def yX5_grow : MethodName := ⟨RX5, "grow", "(I)V"⟩
def dkwX5_grow_1 : List UInt8 := [96, 28, 42, 180, 0, 36, 104, 16, 100, 108, 100, 184, 0, 66, 181, 0, 27, 177]
abbrev dktX5_grow_1 : List UInt8 := dkwX5_grow_1 ++ []
def dkwX5_grow_0 : List UInt8 := [42, 180, 0, 39, 153, 0, 9, 27, 5, 108, 167, 0, 4, 27, 61, 42, 17, 3, 231, 42, 180, 0, 27, 28]
abbrev dktX5_grow_0 : List UInt8 := dkwX5_grow_0 ++ dktX5_grow_1
theorem dksX5_grow_0 : cX5_grow.data.toList.drop 0 = dktX5_grow_0 := by decide +kernel
theorem dksX5_grow_1 : cX5_grow.data.toList.drop 24 = dktX5_grow_1 := dk_seg dksX5_grow_0 24 rfl rfl
theorem dX5_grow_0 : decode cX5_grow 0 = .ok (.aload_n 0, 1) := dk_42 (dk_at dksX5_grow_0 0 rfl rfl)
theorem dX5_grow_1 : decode cX5_grow 1 = .ok (.getfield 39, 3) := dk_180 0 39 (dk_at dksX5_grow_0 1 rfl rfl)
theorem dX5_grow_4 : decode cX5_grow 4 = .ok (.ifCond .eq 9, 3) := dk_153 0 9 (dk_at dksX5_grow_0 4 rfl rfl)
theorem dX5_grow_7 : decode cX5_grow 7 = .ok (.iload_n 1, 1) := dk_27 (dk_at dksX5_grow_0 7 rfl rfl)
theorem dX5_grow_8 : decode cX5_grow 8 = .ok (.iconst 2, 1) := dk_5 (dk_at dksX5_grow_0 8 rfl rfl)
theorem dX5_grow_9 : decode cX5_grow 9 = .ok (.idiv, 1) := dk_108 (dk_at dksX5_grow_0 9 rfl rfl)
theorem dX5_grow_10 : decode cX5_grow 10 = .ok (.goto 4, 3) := dk_167 0 4 (dk_at dksX5_grow_0 10 rfl rfl)
theorem dX5_grow_13 : decode cX5_grow 13 = .ok (.iload_n 1, 1) := dk_27 (dk_at dksX5_grow_0 13 rfl rfl)
theorem dX5_grow_14 : decode cX5_grow 14 = .ok (.istore_n 2, 1) := dk_61 (dk_at dksX5_grow_0 14 rfl rfl)
theorem dX5_grow_15 : decode cX5_grow 15 = .ok (.aload_n 0, 1) := dk_42 (dk_at dksX5_grow_0 15 rfl rfl)
theorem dX5_grow_16 : decode cX5_grow 16 = .ok (.sipush 999, 3) := dk_17 3 231 (dk_at dksX5_grow_0 16 rfl rfl)
theorem dX5_grow_19 : decode cX5_grow 19 = .ok (.aload_n 0, 1) := dk_42 (dk_at dksX5_grow_0 19 rfl rfl)
theorem dX5_grow_20 : decode cX5_grow 20 = .ok (.getfield 27, 3) := dk_180 0 27 (dk_at dksX5_grow_0 20 rfl rfl)
theorem dX5_grow_23 : decode cX5_grow 23 = .ok (.iload_n 2, 1) := dk_28 (dk_at dksX5_grow_0 23 rfl rfl)
theorem dX5_grow_24 : decode cX5_grow 24 = .ok (.iadd, 1) := dk_96 (dk_at dksX5_grow_1 0 rfl rfl)
theorem dX5_grow_25 : decode cX5_grow 25 = .ok (.iload_n 2, 1) := dk_28 (dk_at dksX5_grow_1 1 rfl rfl)
theorem dX5_grow_26 : decode cX5_grow 26 = .ok (.aload_n 0, 1) := dk_42 (dk_at dksX5_grow_1 2 rfl rfl)
theorem dX5_grow_27 : decode cX5_grow 27 = .ok (.getfield 36, 3) := dk_180 0 36 (dk_at dksX5_grow_1 3 rfl rfl)
theorem dX5_grow_30 : decode cX5_grow 30 = .ok (.imul, 1) := dk_104 (dk_at dksX5_grow_1 6 rfl rfl)
theorem dX5_grow_31 : decode cX5_grow 31 = .ok (.bipush 100, 2) := dk_16 100 (dk_at dksX5_grow_1 7 rfl rfl)
theorem dX5_grow_33 : decode cX5_grow 33 = .ok (.idiv, 1) := dk_108 (dk_at dksX5_grow_1 9 rfl rfl)
theorem dX5_grow_34 : decode cX5_grow 34 = .ok (.isub, 1) := dk_100 (dk_at dksX5_grow_1 10 rfl rfl)
theorem dX5_grow_35 : decode cX5_grow 35 = .ok (.invokestatic 66, 3) := dk_184 0 66 (dk_at dksX5_grow_1 11 rfl rfl)
theorem dX5_grow_38 : decode cX5_grow 38 = .ok (.putfield 27, 3) := dk_181 0 27 (dk_at dksX5_grow_1 14 rfl rfl)
theorem dX5_grow_41 : decode cX5_grow 41 = .ok (.return_, 1) := dk_177 (dk_at dksX5_grow_1 17 rfl rfl)
abbrev cX5_renew : ByteArray := prog_2_method_5_code
def yX5_renew : MethodName := ⟨RX5, "renew", "()V"⟩
def dkwX5_renew_1 : List UInt8 := [180, 0, 36, 5, 108, 181, 0, 36, 42, 3, 181, 0, 39, 42, 3, 181, 0, 43, 42, 3, 181, 0, 46, 177]
abbrev dktX5_renew_1 : List UInt8 := dkwX5_renew_1 ++ []
def dkwX5_renew_0 : List UInt8 := [42, 89, 180, 0, 33, 4, 96, 181, 0, 33, 42, 3, 181, 0, 30, 42, 16, 60, 181, 0, 9, 42, 89]
abbrev dktX5_renew_0 : List UInt8 := dkwX5_renew_0 ++ dktX5_renew_1
theorem dksX5_renew_0 : cX5_renew.data.toList.drop 0 = dktX5_renew_0 := by decide +kernel
theorem dksX5_renew_1 : cX5_renew.data.toList.drop 23 = dktX5_renew_1 := dk_seg dksX5_renew_0 23 rfl rfl
theorem dX5_renew_0 : decode cX5_renew 0 = .ok (.aload_n 0, 1) := dk_42 (dk_at dksX5_renew_0 0 rfl rfl)
theorem dX5_renew_1 : decode cX5_renew 1 = .ok (.dup, 1) := dk_89 (dk_at dksX5_renew_0 1 rfl rfl)
theorem dX5_renew_2 : decode cX5_renew 2 = .ok (.getfield 33, 3) := dk_180 0 33 (dk_at dksX5_renew_0 2 rfl rfl)
theorem dX5_renew_5 : decode cX5_renew 5 = .ok (.iconst 1, 1) := dk_4 (dk_at dksX5_renew_0 5 rfl rfl)
theorem dX5_renew_6 : decode cX5_renew 6 = .ok (.iadd, 1) := dk_96 (dk_at dksX5_renew_0 6 rfl rfl)
theorem dX5_renew_7 : decode cX5_renew 7 = .ok (.putfield 33, 3) := dk_181 0 33 (dk_at dksX5_renew_0 7 rfl rfl)
theorem dX5_renew_10 : decode cX5_renew 10 = .ok (.aload_n 0, 1) := dk_42 (dk_at dksX5_renew_0 10 rfl rfl)
theorem dX5_renew_11 : decode cX5_renew 11 = .ok (.iconst 0, 1) := dk_3 (dk_at dksX5_renew_0 11 rfl rfl)
theorem dX5_renew_12 : decode cX5_renew 12 = .ok (.putfield 30, 3) := dk_181 0 30 (dk_at dksX5_renew_0 12 rfl rfl)
theorem dX5_renew_15 : decode cX5_renew 15 = .ok (.aload_n 0, 1) := dk_42 (dk_at dksX5_renew_0 15 rfl rfl)
theorem dX5_renew_16 : decode cX5_renew 16 = .ok (.bipush 60, 2) := dk_16 60 (dk_at dksX5_renew_0 16 rfl rfl)
theorem dX5_renew_18 : decode cX5_renew 18 = .ok (.putfield 9, 3) := dk_181 0 9 (dk_at dksX5_renew_0 18 rfl rfl)
theorem dX5_renew_21 : decode cX5_renew 21 = .ok (.aload_n 0, 1) := dk_42 (dk_at dksX5_renew_0 21 rfl rfl)
theorem dX5_renew_22 : decode cX5_renew 22 = .ok (.dup, 1) := dk_89 (dk_at dksX5_renew_0 22 rfl rfl)
theorem dX5_renew_23 : decode cX5_renew 23 = .ok (.getfield 36, 3) := dk_180 0 36 (dk_at dksX5_renew_1 0 rfl rfl)
theorem dX5_renew_26 : decode cX5_renew 26 = .ok (.iconst 2, 1) := dk_5 (dk_at dksX5_renew_1 3 rfl rfl)
theorem dX5_renew_27 : decode cX5_renew 27 = .ok (.idiv, 1) := dk_108 (dk_at dksX5_renew_1 4 rfl rfl)
theorem dX5_renew_28 : decode cX5_renew 28 = .ok (.putfield 36, 3) := dk_181 0 36 (dk_at dksX5_renew_1 5 rfl rfl)
theorem dX5_renew_31 : decode cX5_renew 31 = .ok (.aload_n 0, 1) := dk_42 (dk_at dksX5_renew_1 8 rfl rfl)
theorem dX5_renew_32 : decode cX5_renew 32 = .ok (.iconst 0, 1) := dk_3 (dk_at dksX5_renew_1 9 rfl rfl)
theorem dX5_renew_33 : decode cX5_renew 33 = .ok (.putfield 39, 3) := dk_181 0 39 (dk_at dksX5_renew_1 10 rfl rfl)
theorem dX5_renew_36 : decode cX5_renew 36 = .ok (.aload_n 0, 1) := dk_42 (dk_at dksX5_renew_1 13 rfl rfl)
theorem dX5_renew_37 : decode cX5_renew 37 = .ok (.iconst 0, 1) := dk_3 (dk_at dksX5_renew_1 14 rfl rfl)
theorem dX5_renew_38 : decode cX5_renew 38 = .ok (.putfield 43, 3) := dk_181 0 43 (dk_at dksX5_renew_1 15 rfl rfl)
theorem dX5_renew_41 : decode cX5_renew 41 = .ok (.aload_n 0, 1) := dk_42 (dk_at dksX5_renew_1 18 rfl rfl)
theorem dX5_renew_42 : decode cX5_renew 42 = .ok (.iconst 0, 1) := dk_3 (dk_at dksX5_renew_1 19 rfl rfl)
theorem dX5_renew_43 : decode cX5_renew 43 = .ok (.putfield 46, 3) := dk_181 0 46 (dk_at dksX5_renew_1 20 rfl rfl)
theorem dX5_renew_46 : decode cX5_renew 46 = .ok (.return_, 1) := dk_177 (dk_at dksX5_renew_1 23 rfl rfl)
theorem q65 : (Jvm.Cond.initialized "Canecrush$Field") ∈ lw_all := lw_g (lw_at lw_m1 16 rfl) rfl
theorem q298 : (Jvm.Cond.instanceMethod ({ cls := "Canecrush$Field", name := "copy", desc := "()LCanecrush$Field;" } : Jvm.MethodName)) ∈ lw_all := lw_g (lw_at lw_m2 9 rfl) rfl
theorem q299 : (Jvm.Cond.selects "Canecrush$Field" ({ cls := "Canecrush$Field", name := "copy", desc := "()LCanecrush$Field;" } : Jvm.MethodName) ({ cls := "Canecrush$Field", name := "copy", desc := "()LCanecrush$Field;" } : Jvm.MethodName)) ∈ lw_all := lw_g (lw_at lw_m2 10 rfl) rfl
theorem q300 : (Jvm.Cond.code ({ cls := "Canecrush$Field", name := "copy", desc := "()LCanecrush$Field;" } : Jvm.MethodName) prog_2_method_2_code (2 : Nat) (Option.some (Jvm.ClassFile.FieldType.object "Canecrush$Field"))) ∈ lw_all := lw_g (lw_at lw_m2 11 rfl) rfl
theorem q301 : (Jvm.Cond.classLink "Canecrush$Field" (10 : Nat) "Canecrush$Field") ∈ lw_all := lw_g (lw_at lw_m2 12 rfl) rfl
theorem q302 : (Jvm.Cond.instantiable "Canecrush$Field" (11 : Nat)) ∈ lw_all := lw_g (lw_at lw_m2 13 rfl) rfl
theorem q303 : (Jvm.Cond.methodLink "Canecrush$Field" (24 : Nat) ({ cls := "Canecrush$Field", name := "<init>", desc := "(III)V" } : Jvm.MethodName)) ∈ lw_all := lw_g (lw_at lw_m2 14 rfl) rfl
theorem q304 : (Jvm.Cond.instanceMethod ({ cls := "Canecrush$Field", name := "<init>", desc := "(III)V" } : Jvm.MethodName)) ∈ lw_all := lw_g (lw_at lw_m2 15 rfl) rfl
theorem q305 : (Jvm.Cond.code ({ cls := "Canecrush$Field", name := "<init>", desc := "(III)V" } : Jvm.MethodName) prog_2_method_1_code (4 : Nat) (Option.none : Option Jvm.ClassFile.FieldType)) ∈ lw_all := lw_g (lw_at lw_m2 16 rfl) rfl
theorem q306 : (Jvm.Cond.methodLink "Canecrush$Field" (3 : Nat) ({ cls := "java/lang/Object", name := "<init>", desc := "()V" } : Jvm.MethodName)) ∈ lw_all := lw_g (lw_at lw_m2 17 rfl) rfl
theorem q307 : (Jvm.Cond.fieldLink "Canecrush$Field" (15 : Nat) "Canecrush$Field" "grower" "I") ∈ lw_all := lw_g (lw_at lw_m2 18 rfl) rfl
theorem q310 : (Jvm.Cond.fieldLink "Canecrush$Field" (18 : Nat) "Canecrush$Field" "area" "I") ∈ lw_all := lw_g (lw_at lw_m2 21 rfl) rfl
theorem q312 : (Jvm.Cond.fieldLink "Canecrush$Field" (21 : Nat) "Canecrush$Field" "far" "I") ∈ lw_all := lw_g (lw_at lw_m2 23 rfl) rfl
theorem q315 : (Jvm.Cond.fieldLink "Canecrush$Field" (27 : Nat) "Canecrush$Field" "cane" "I") ∈ lw_all := lw_g (lw_at lw_m2 26 rfl) rfl
theorem q317 : (Jvm.Cond.fieldLink "Canecrush$Field" (9 : Nat) "Canecrush$Field" "sweet" "I") ∈ lw_all := lw_g (lw_at lw_m2 28 rfl) rfl
theorem q319 : (Jvm.Cond.fieldLink "Canecrush$Field" (30 : Nat) "Canecrush$Field" "age" "I") ∈ lw_all := lw_g (lw_at lw_m2 30 rfl) rfl
theorem q321 : (Jvm.Cond.fieldLink "Canecrush$Field" (33 : Nat) "Canecrush$Field" "ratoons" "I") ∈ lw_all := lw_g (lw_at lw_m2 32 rfl) rfl
theorem q323 : (Jvm.Cond.fieldLink "Canecrush$Field" (36 : Nat) "Canecrush$Field" "smut" "I") ∈ lw_all := lw_g (lw_at lw_m2 34 rfl) rfl
theorem q326 : (Jvm.Cond.fieldLink "Canecrush$Field" (39 : Nat) "Canecrush$Field" "isLodged" "Z") ∈ lw_all := lw_g (lw_at lw_m2 37 rfl) rfl
theorem q328 : (Jvm.Cond.fieldLink "Canecrush$Field" (43 : Nat) "Canecrush$Field" "isFrosted" "Z") ∈ lw_all := lw_g (lw_at lw_m2 39 rfl) rfl
theorem q330 : (Jvm.Cond.fieldLink "Canecrush$Field" (46 : Nat) "Canecrush$Field" "isBurnt" "Z") ∈ lw_all := lw_g (lw_at lw_m2 41 rfl) rfl
theorem q332 : (Jvm.Cond.laysFinal "Canecrush$Field" "Canecrush$Field" "grower" "I") ∈ lw_all := lw_g (lw_at lw_m2 43 rfl) rfl
theorem q333 : (Jvm.Cond.soleField "Canecrush$Field" "grower") ∈ lw_all := lw_g (lw_at lw_m2 44 rfl) rfl
theorem q334 : (Jvm.Cond.laysFinal "Canecrush$Field" "Canecrush$Field" "area" "I") ∈ lw_all := lw_g (lw_at lw_m2 45 rfl) rfl
theorem q335 : (Jvm.Cond.soleField "Canecrush$Field" "area") ∈ lw_all := lw_g (lw_at lw_m2 46 rfl) rfl
theorem q336 : (Jvm.Cond.laysFinal "Canecrush$Field" "Canecrush$Field" "far" "I") ∈ lw_all := lw_g (lw_at lw_m2 47 rfl) rfl
theorem q337 : (Jvm.Cond.soleField "Canecrush$Field" "far") ∈ lw_all := lw_g (lw_at lw_m2 48 rfl) rfl
theorem q338 : (Jvm.Cond.lays "Canecrush$Field" "Canecrush$Field" "cane" "I") ∈ lw_all := lw_g (lw_at lw_m2 49 rfl) rfl
theorem q339 : (Jvm.Cond.soleField "Canecrush$Field" "cane") ∈ lw_all := lw_g (lw_at lw_m2 50 rfl) rfl
theorem q340 : (Jvm.Cond.lays "Canecrush$Field" "Canecrush$Field" "sweet" "I") ∈ lw_all := lw_g (lw_at lw_m2 51 rfl) rfl
theorem q341 : (Jvm.Cond.soleField "Canecrush$Field" "sweet") ∈ lw_all := lw_g (lw_at lw_m2 52 rfl) rfl
theorem q342 : (Jvm.Cond.lays "Canecrush$Field" "Canecrush$Field" "age" "I") ∈ lw_all := lw_g (lw_at lw_m2 53 rfl) rfl
theorem q343 : (Jvm.Cond.soleField "Canecrush$Field" "age") ∈ lw_all := lw_g (lw_at lw_m2 54 rfl) rfl
theorem q344 : (Jvm.Cond.lays "Canecrush$Field" "Canecrush$Field" "ratoons" "I") ∈ lw_all := lw_g (lw_at lw_m2 55 rfl) rfl
theorem q345 : (Jvm.Cond.soleField "Canecrush$Field" "ratoons") ∈ lw_all := lw_g (lw_at lw_m2 56 rfl) rfl
theorem q346 : (Jvm.Cond.lays "Canecrush$Field" "Canecrush$Field" "smut" "I") ∈ lw_all := lw_g (lw_at lw_m2 57 rfl) rfl
theorem q347 : (Jvm.Cond.soleField "Canecrush$Field" "smut") ∈ lw_all := lw_g (lw_at lw_m2 58 rfl) rfl
theorem q348 : (Jvm.Cond.lays "Canecrush$Field" "Canecrush$Field" "isLodged" "Z") ∈ lw_all := lw_g (lw_at lw_m2 59 rfl) rfl
theorem q349 : (Jvm.Cond.soleField "Canecrush$Field" "isLodged") ∈ lw_all := lw_g (lw_at lw_m2 60 rfl) rfl
theorem q350 : (Jvm.Cond.lays "Canecrush$Field" "Canecrush$Field" "isFrosted" "Z") ∈ lw_all := lw_g (lw_at lw_m2 61 rfl) rfl
theorem q351 : (Jvm.Cond.soleField "Canecrush$Field" "isFrosted") ∈ lw_all := lw_g (lw_at lw_m2 62 rfl) rfl
theorem q352 : (Jvm.Cond.lays "Canecrush$Field" "Canecrush$Field" "isBurnt" "Z") ∈ lw_all := lw_g (lw_at lw_m2 63 rfl) rfl
theorem q353 : (Jvm.Cond.soleField "Canecrush$Field" "isBurnt") ∈ lw_all := lw_g (lw_at lw_m2 64 rfl) rfl
theorem q354 : (Jvm.Cond.superclass "Canecrush$Field" "java/lang/Object") ∈ lw_all := lw_g (lw_at lw_m2 65 rfl) rfl
theorem q388 : (Jvm.Cond.selects "Canecrush$Field" ({ cls := "java/lang/Object", name := "getClass", desc := "()Ljava/lang/Class;" } : Jvm.MethodName) ({ cls := "java/lang/Object", name := "getClass", desc := "()Ljava/lang/Class;" } : Jvm.MethodName)) ∈ lw_all := lw_g (lw_at lw_m2 99 rfl) rfl
theorem q425 : (Jvm.Cond.instanceMethod ({ cls := "Canecrush$Field", name := "endDay", desc := "(III)V" } : Jvm.MethodName)) ∈ lw_all := lw_g (lw_at lw_m2 136 rfl) rfl
theorem q426 : (Jvm.Cond.selects "Canecrush$Field" ({ cls := "Canecrush$Field", name := "endDay", desc := "(III)V" } : Jvm.MethodName) ({ cls := "Canecrush$Field", name := "endDay", desc := "(III)V" } : Jvm.MethodName)) ∈ lw_all := lw_g (lw_at lw_m2 137 rfl) rfl
theorem q427 : (Jvm.Cond.code ({ cls := "Canecrush$Field", name := "endDay", desc := "(III)V" } : Jvm.MethodName) prog_2_method_3_code (6 : Nat) (Option.none : Option Jvm.ClassFile.FieldType)) ∈ lw_all := lw_g (lw_at lw_m2 138 rfl) rfl
theorem q428 : (Jvm.Cond.methodLink "Canecrush$Field" (49 : Nat) ({ cls := "java/lang/Math", name := "floorDiv", desc := "(II)I" } : Jvm.MethodName)) ∈ lw_all := lw_g (lw_at lw_m2 139 rfl) rfl
theorem q431 : (Jvm.Cond.methodLink "Canecrush$Field" (55 : Nat) ({ cls := "java/lang/Math", name := "max", desc := "(II)I" } : Jvm.MethodName)) ∈ lw_all := lw_g (lw_at lw_m2 142 rfl) rfl
theorem q432 : (Jvm.Cond.methodLink "Canecrush$Field" (58 : Nat) ({ cls := "Canecrush$Field", name := "grow", desc := "(I)V" } : Jvm.MethodName)) ∈ lw_all := lw_g (lw_at lw_m2 143 rfl) rfl
theorem q433 : (Jvm.Cond.privateMethod ({ cls := "Canecrush$Field", name := "grow", desc := "(I)V" } : Jvm.MethodName)) ∈ lw_tbl := lw_at lw_m2 144 rfl
theorem q434 : (Jvm.Cond.instanceMethod ({ cls := "Canecrush$Field", name := "grow", desc := "(I)V" } : Jvm.MethodName)) ∈ lw_all := lw_g (lw_at lw_m2 145 rfl) rfl
theorem q435 : (Jvm.Cond.code ({ cls := "Canecrush$Field", name := "grow", desc := "(I)V" } : Jvm.MethodName) prog_2_method_4_code (3 : Nat) (Option.none : Option Jvm.ClassFile.FieldType)) ∈ lw_all := lw_g (lw_at lw_m2 146 rfl) rfl
theorem q436 : (Jvm.Cond.methodLink "Canecrush$Field" (66 : Nat) ({ cls := "java/lang/Math", name := "min", desc := "(II)I" } : Jvm.MethodName)) ∈ lw_all := lw_g (lw_at lw_m2 147 rfl) rfl
theorem q437 : (Jvm.Cond.methodLinkNest "Canecrush$Field" (62 : Nat) ({ cls := "Canecrush", name := "held", desc := "(III)I" } : Jvm.MethodName) "Canecrush") ∈ lw_tbl := lw_at lw_m2 148 rfl
theorem q802 : (Jvm.Cond.instanceMethod ({ cls := "Canecrush$Field", name := "renew", desc := "()V" } : Jvm.MethodName)) ∈ lw_all := lw_g (lw_at lw_m4 33 rfl) rfl
theorem q803 : (Jvm.Cond.selects "Canecrush$Field" ({ cls := "Canecrush$Field", name := "renew", desc := "()V" } : Jvm.MethodName) ({ cls := "Canecrush$Field", name := "renew", desc := "()V" } : Jvm.MethodName)) ∈ lw_all := lw_g (lw_at lw_m4 34 rfl) rfl
theorem q804 : (Jvm.Cond.code ({ cls := "Canecrush$Field", name := "renew", desc := "()V" } : Jvm.MethodName) prog_2_method_5_code (1 : Nat) (Option.none : Option Jvm.ClassFile.FieldType)) ∈ lw_all := lw_g (lw_at lw_m4 35 rfl) rfl
theorem q1526 : (Jvm.Cond.castable "Canecrush$Field" "java/lang/Object") ∈ lw_tbl := lw_at lw_m7 37 rfl
theorem in_X5 : ∀ w ∈ wsX50, w ∈ lw_all := lw_in wsX50 [332, 334, 336, 338, 340, 342, 344, 346, 348, 350, 352] (by decide +kernel) (by decide +kernel)

/-! Canecrush$Truck -/
set_option maxRecDepth 100000
def RX7 : String := "Canecrush$Truck"
def TX7 : u_T := fun k => match k with
  | 0 => ("Canecrush$Truck", "where", "I", false)
  | 1 => ("Canecrush$Truck", "field", "I", false)
  | 2 => ("Canecrush$Truck", "load", "I", false)
  | _ => ("Canecrush$Truck", "hours", "I", false)
def tyX7 : Nat → FieldType := fun k => match k with
  | 0 => .int
  | 1 => .int
  | 2 => .int
  | _ => .int
abbrev wsX70 : List Cond := u_ws RX7 TX7 4
theorem nmX7 : ∀ a, a < 4 → ∀ b, b < 4 → a ≠ b → (TX7 a).2.1 ≠ (TX7 b).2.1 := by decide +kernel
theorem tyX7_ok : ∀ k, k < 4 → parseFieldDescriptor (TX7 k).2.2.1 = some (tyX7 k) := by decide +kernel
abbrev cX7_copy : ByteArray := prog_4_method_2_code
def yX7_copy : MethodName := ⟨RX7, "copy", "()LCanecrush$Truck;"⟩
def dkwX7_copy_1 : List UInt8 := [43, 42, 180, 0, 18, 181, 0, 18, 43, 42, 180, 0, 22, 181, 0, 22, 43, 176]
abbrev dktX7_copy_1 : List UInt8 := dkwX7_copy_1 ++ []
def dkwX7_copy_0 : List UInt8 := [187, 0, 10, 89, 183, 0, 21, 76, 43, 42, 180, 0, 9, 181, 0, 9, 43, 42, 180, 0, 15, 181, 0, 15]
abbrev dktX7_copy_0 : List UInt8 := dkwX7_copy_0 ++ dktX7_copy_1
theorem dksX7_copy_0 : cX7_copy.data.toList.drop 0 = dktX7_copy_0 := by decide +kernel
theorem dksX7_copy_1 : cX7_copy.data.toList.drop 24 = dktX7_copy_1 := dk_seg dksX7_copy_0 24 rfl rfl
theorem dX7_copy_0 : decode cX7_copy 0 = .ok (.new 10, 3) := dk_187 0 10 (dk_at dksX7_copy_0 0 rfl rfl)
theorem dX7_copy_3 : decode cX7_copy 3 = .ok (.dup, 1) := dk_89 (dk_at dksX7_copy_0 3 rfl rfl)
theorem dX7_copy_4 : decode cX7_copy 4 = .ok (.invokespecial 21, 3) := dk_183 0 21 (dk_at dksX7_copy_0 4 rfl rfl)
theorem dX7_copy_7 : decode cX7_copy 7 = .ok (.astore_n 1, 1) := dk_76 (dk_at dksX7_copy_0 7 rfl rfl)
theorem dX7_copy_8 : decode cX7_copy 8 = .ok (.aload_n 1, 1) := dk_43 (dk_at dksX7_copy_0 8 rfl rfl)
theorem dX7_copy_9 : decode cX7_copy 9 = .ok (.aload_n 0, 1) := dk_42 (dk_at dksX7_copy_0 9 rfl rfl)
theorem dX7_copy_10 : decode cX7_copy 10 = .ok (.getfield 9, 3) := dk_180 0 9 (dk_at dksX7_copy_0 10 rfl rfl)
theorem dX7_copy_13 : decode cX7_copy 13 = .ok (.putfield 9, 3) := dk_181 0 9 (dk_at dksX7_copy_0 13 rfl rfl)
theorem dX7_copy_16 : decode cX7_copy 16 = .ok (.aload_n 1, 1) := dk_43 (dk_at dksX7_copy_0 16 rfl rfl)
theorem dX7_copy_17 : decode cX7_copy 17 = .ok (.aload_n 0, 1) := dk_42 (dk_at dksX7_copy_0 17 rfl rfl)
theorem dX7_copy_18 : decode cX7_copy 18 = .ok (.getfield 15, 3) := dk_180 0 15 (dk_at dksX7_copy_0 18 rfl rfl)
theorem dX7_copy_21 : decode cX7_copy 21 = .ok (.putfield 15, 3) := dk_181 0 15 (dk_at dksX7_copy_0 21 rfl rfl)
theorem dX7_copy_24 : decode cX7_copy 24 = .ok (.aload_n 1, 1) := dk_43 (dk_at dksX7_copy_1 0 rfl rfl)
theorem dX7_copy_25 : decode cX7_copy 25 = .ok (.aload_n 0, 1) := dk_42 (dk_at dksX7_copy_1 1 rfl rfl)
theorem dX7_copy_26 : decode cX7_copy 26 = .ok (.getfield 18, 3) := dk_180 0 18 (dk_at dksX7_copy_1 2 rfl rfl)
theorem dX7_copy_29 : decode cX7_copy 29 = .ok (.putfield 18, 3) := dk_181 0 18 (dk_at dksX7_copy_1 5 rfl rfl)
theorem dX7_copy_32 : decode cX7_copy 32 = .ok (.aload_n 1, 1) := dk_43 (dk_at dksX7_copy_1 8 rfl rfl)
theorem dX7_copy_33 : decode cX7_copy 33 = .ok (.aload_n 0, 1) := dk_42 (dk_at dksX7_copy_1 9 rfl rfl)
theorem dX7_copy_34 : decode cX7_copy 34 = .ok (.getfield 22, 3) := dk_180 0 22 (dk_at dksX7_copy_1 10 rfl rfl)
theorem dX7_copy_37 : decode cX7_copy 37 = .ok (.putfield 22, 3) := dk_181 0 22 (dk_at dksX7_copy_1 13 rfl rfl)
theorem dX7_copy_40 : decode cX7_copy 40 = .ok (.aload_n 1, 1) := dk_43 (dk_at dksX7_copy_1 16 rfl rfl)
theorem dX7_copy_41 : decode cX7_copy 41 = .ok (.areturn, 1) := dk_176 (dk_at dksX7_copy_1 17 rfl rfl)
abbrev cX7_init : ByteArray := prog_4_method_1_code
def yX7_init : MethodName := ⟨RX7, "<init>", "()V"⟩
def dkwX7_init_0 : List UInt8 := [42, 183, 0, 3, 42, 3, 181, 0, 9, 42, 2, 181, 0, 15, 42, 2, 181, 0, 18, 177]
abbrev dktX7_init_0 : List UInt8 := dkwX7_init_0 ++ []
theorem dksX7_init_0 : cX7_init.data.toList.drop 0 = dktX7_init_0 := by decide +kernel
theorem dX7_init_0 : decode cX7_init 0 = .ok (.aload_n 0, 1) := dk_42 (dk_at dksX7_init_0 0 rfl rfl)
theorem dX7_init_1 : decode cX7_init 1 = .ok (.invokespecial 3, 3) := dk_183 0 3 (dk_at dksX7_init_0 1 rfl rfl)
theorem dX7_init_4 : decode cX7_init 4 = .ok (.aload_n 0, 1) := dk_42 (dk_at dksX7_init_0 4 rfl rfl)
theorem dX7_init_5 : decode cX7_init 5 = .ok (.iconst 0, 1) := dk_3 (dk_at dksX7_init_0 5 rfl rfl)
theorem dX7_init_6 : decode cX7_init 6 = .ok (.putfield 9, 3) := dk_181 0 9 (dk_at dksX7_init_0 6 rfl rfl)
theorem dX7_init_9 : decode cX7_init 9 = .ok (.aload_n 0, 1) := dk_42 (dk_at dksX7_init_0 9 rfl rfl)
theorem dX7_init_10 : decode cX7_init 10 = .ok (.iconst (-1), 1) := dk_2 (dk_at dksX7_init_0 10 rfl rfl)
theorem dX7_init_11 : decode cX7_init 11 = .ok (.putfield 15, 3) := dk_181 0 15 (dk_at dksX7_init_0 11 rfl rfl)
theorem dX7_init_14 : decode cX7_init 14 = .ok (.aload_n 0, 1) := dk_42 (dk_at dksX7_init_0 14 rfl rfl)
theorem dX7_init_15 : decode cX7_init 15 = .ok (.iconst (-1), 1) := dk_2 (dk_at dksX7_init_0 15 rfl rfl)
theorem dX7_init_16 : decode cX7_init 16 = .ok (.putfield 18, 3) := dk_181 0 18 (dk_at dksX7_init_0 16 rfl rfl)
theorem dX7_init_19 : decode cX7_init 19 = .ok (.return_, 1) := dk_177 (dk_at dksX7_init_0 19 rfl rfl)
abbrev cX7_stand : ByteArray := prog_4_method_3_code
def yX7_stand : MethodName := ⟨RX7, "stand", "()V"⟩
def dkwX7_stand_0 : List UInt8 := [42, 3, 181, 0, 9, 42, 2, 181, 0, 15, 42, 2, 181, 0, 18, 42, 3, 181, 0, 22, 177]
abbrev dktX7_stand_0 : List UInt8 := dkwX7_stand_0 ++ []
theorem dksX7_stand_0 : cX7_stand.data.toList.drop 0 = dktX7_stand_0 := by decide +kernel
theorem dX7_stand_0 : decode cX7_stand 0 = .ok (.aload_n 0, 1) := dk_42 (dk_at dksX7_stand_0 0 rfl rfl)
theorem dX7_stand_1 : decode cX7_stand 1 = .ok (.iconst 0, 1) := dk_3 (dk_at dksX7_stand_0 1 rfl rfl)
theorem dX7_stand_2 : decode cX7_stand 2 = .ok (.putfield 9, 3) := dk_181 0 9 (dk_at dksX7_stand_0 2 rfl rfl)
theorem dX7_stand_5 : decode cX7_stand 5 = .ok (.aload_n 0, 1) := dk_42 (dk_at dksX7_stand_0 5 rfl rfl)
theorem dX7_stand_6 : decode cX7_stand 6 = .ok (.iconst (-1), 1) := dk_2 (dk_at dksX7_stand_0 6 rfl rfl)
theorem dX7_stand_7 : decode cX7_stand 7 = .ok (.putfield 15, 3) := dk_181 0 15 (dk_at dksX7_stand_0 7 rfl rfl)
theorem dX7_stand_10 : decode cX7_stand 10 = .ok (.aload_n 0, 1) := dk_42 (dk_at dksX7_stand_0 10 rfl rfl)
theorem dX7_stand_11 : decode cX7_stand 11 = .ok (.iconst (-1), 1) := dk_2 (dk_at dksX7_stand_0 11 rfl rfl)
theorem dX7_stand_12 : decode cX7_stand 12 = .ok (.putfield 18, 3) := dk_181 0 18 (dk_at dksX7_stand_0 12 rfl rfl)
theorem dX7_stand_15 : decode cX7_stand 15 = .ok (.aload_n 0, 1) := dk_42 (dk_at dksX7_stand_0 15 rfl rfl)
theorem dX7_stand_16 : decode cX7_stand 16 = .ok (.iconst 0, 1) := dk_3 (dk_at dksX7_stand_0 16 rfl rfl)
theorem dX7_stand_17 : decode cX7_stand 17 = .ok (.putfield 22, 3) := dk_181 0 22 (dk_at dksX7_stand_0 17 rfl rfl)
theorem dX7_stand_20 : decode cX7_stand 20 = .ok (.return_, 1) := dk_177 (dk_at dksX7_stand_0 20 rfl rfl)
theorem q71 : (Jvm.Cond.initialized "Canecrush$Truck") ∈ lw_all := lw_g (lw_at lw_m1 22 rfl) rfl
theorem q390 : (Jvm.Cond.selects "Canecrush$Truck" ({ cls := "java/lang/Object", name := "getClass", desc := "()Ljava/lang/Class;" } : Jvm.MethodName) ({ cls := "java/lang/Object", name := "getClass", desc := "()Ljava/lang/Class;" } : Jvm.MethodName)) ∈ lw_all := lw_g (lw_at lw_m2 101 rfl) rfl
theorem q469 : (Jvm.Cond.instanceMethod ({ cls := "Canecrush$Truck", name := "copy", desc := "()LCanecrush$Truck;" } : Jvm.MethodName)) ∈ lw_all := lw_g (lw_at lw_m2 180 rfl) rfl
theorem q470 : (Jvm.Cond.selects "Canecrush$Truck" ({ cls := "Canecrush$Truck", name := "copy", desc := "()LCanecrush$Truck;" } : Jvm.MethodName) ({ cls := "Canecrush$Truck", name := "copy", desc := "()LCanecrush$Truck;" } : Jvm.MethodName)) ∈ lw_all := lw_g (lw_at lw_m2 181 rfl) rfl
theorem q471 : (Jvm.Cond.code ({ cls := "Canecrush$Truck", name := "copy", desc := "()LCanecrush$Truck;" } : Jvm.MethodName) prog_4_method_2_code (2 : Nat) (Option.some (Jvm.ClassFile.FieldType.object "Canecrush$Truck"))) ∈ lw_all := lw_g (lw_at lw_m2 182 rfl) rfl
theorem q472 : (Jvm.Cond.classLink "Canecrush$Truck" (10 : Nat) "Canecrush$Truck") ∈ lw_all := lw_g (lw_at lw_m2 183 rfl) rfl
theorem q473 : (Jvm.Cond.instantiable "Canecrush$Truck" (4 : Nat)) ∈ lw_all := lw_g (lw_at lw_m2 184 rfl) rfl
theorem q474 : (Jvm.Cond.methodLink "Canecrush$Truck" (21 : Nat) ({ cls := "Canecrush$Truck", name := "<init>", desc := "()V" } : Jvm.MethodName)) ∈ lw_all := lw_g (lw_at lw_m2 185 rfl) rfl
theorem q475 : (Jvm.Cond.instanceMethod ({ cls := "Canecrush$Truck", name := "<init>", desc := "()V" } : Jvm.MethodName)) ∈ lw_all := lw_g (lw_at lw_m2 186 rfl) rfl
theorem q476 : (Jvm.Cond.code ({ cls := "Canecrush$Truck", name := "<init>", desc := "()V" } : Jvm.MethodName) prog_4_method_1_code (1 : Nat) (Option.none : Option Jvm.ClassFile.FieldType)) ∈ lw_all := lw_g (lw_at lw_m2 187 rfl) rfl
theorem q477 : (Jvm.Cond.methodLink "Canecrush$Truck" (3 : Nat) ({ cls := "java/lang/Object", name := "<init>", desc := "()V" } : Jvm.MethodName)) ∈ lw_all := lw_g (lw_at lw_m2 188 rfl) rfl
theorem q478 : (Jvm.Cond.fieldLink "Canecrush$Truck" (9 : Nat) "Canecrush$Truck" "where" "I") ∈ lw_all := lw_g (lw_at lw_m2 189 rfl) rfl
theorem q481 : (Jvm.Cond.fieldLink "Canecrush$Truck" (15 : Nat) "Canecrush$Truck" "field" "I") ∈ lw_all := lw_g (lw_at lw_m2 192 rfl) rfl
theorem q484 : (Jvm.Cond.fieldLink "Canecrush$Truck" (18 : Nat) "Canecrush$Truck" "load" "I") ∈ lw_all := lw_g (lw_at lw_m2 195 rfl) rfl
theorem q487 : (Jvm.Cond.fieldLink "Canecrush$Truck" (22 : Nat) "Canecrush$Truck" "hours" "I") ∈ lw_all := lw_g (lw_at lw_m2 198 rfl) rfl
theorem q490 : (Jvm.Cond.lays "Canecrush$Truck" "Canecrush$Truck" "where" "I") ∈ lw_all := lw_g (lw_at lw_m2 201 rfl) rfl
theorem q491 : (Jvm.Cond.soleField "Canecrush$Truck" "where") ∈ lw_all := lw_g (lw_at lw_m2 202 rfl) rfl
theorem q492 : (Jvm.Cond.lays "Canecrush$Truck" "Canecrush$Truck" "field" "I") ∈ lw_all := lw_g (lw_at lw_m2 203 rfl) rfl
theorem q493 : (Jvm.Cond.soleField "Canecrush$Truck" "field") ∈ lw_all := lw_g (lw_at lw_m2 204 rfl) rfl
theorem q494 : (Jvm.Cond.lays "Canecrush$Truck" "Canecrush$Truck" "load" "I") ∈ lw_all := lw_g (lw_at lw_m2 205 rfl) rfl
theorem q495 : (Jvm.Cond.soleField "Canecrush$Truck" "load") ∈ lw_all := lw_g (lw_at lw_m2 206 rfl) rfl
theorem q496 : (Jvm.Cond.lays "Canecrush$Truck" "Canecrush$Truck" "hours" "I") ∈ lw_all := lw_g (lw_at lw_m2 207 rfl) rfl
theorem q497 : (Jvm.Cond.soleField "Canecrush$Truck" "hours") ∈ lw_all := lw_g (lw_at lw_m2 208 rfl) rfl
theorem q498 : (Jvm.Cond.superclass "Canecrush$Truck" "java/lang/Object") ∈ lw_all := lw_g (lw_at lw_m2 209 rfl) rfl
theorem q561 : (Jvm.Cond.instanceMethod ({ cls := "Canecrush$Truck", name := "stand", desc := "()V" } : Jvm.MethodName)) ∈ lw_all := lw_g (lw_at lw_m3 32 rfl) rfl
theorem q562 : (Jvm.Cond.selects "Canecrush$Truck" ({ cls := "Canecrush$Truck", name := "stand", desc := "()V" } : Jvm.MethodName) ({ cls := "Canecrush$Truck", name := "stand", desc := "()V" } : Jvm.MethodName)) ∈ lw_all := lw_g (lw_at lw_m3 33 rfl) rfl
theorem q563 : (Jvm.Cond.code ({ cls := "Canecrush$Truck", name := "stand", desc := "()V" } : Jvm.MethodName) prog_4_method_3_code (1 : Nat) (Option.none : Option Jvm.ClassFile.FieldType)) ∈ lw_all := lw_g (lw_at lw_m3 34 rfl) rfl
theorem q1528 : (Jvm.Cond.castable "Canecrush$Truck" "java/lang/Object") ∈ lw_tbl := lw_at lw_m7 39 rfl
theorem in_X7 : ∀ w ∈ wsX70, w ∈ lw_all := lw_in wsX70 [490, 492, 494, 496] (by decide +kernel) (by decide +kernel)

/-! Canecrush$Load -/
set_option maxRecDepth 100000
def RX9 : String := "Canecrush$Load"
def TX9 : u_T := fun k => match k with
  | 0 => ("Canecrush$Load", "field", "I", true)
  | 1 => ("Canecrush$Load", "tons", "I", true)
  | 2 => ("Canecrush$Load", "trash", "I", true)
  | 3 => ("Canecrush$Load", "isBurnt", "Z", true)
  | 4 => ("Canecrush$Load", "cutAt", "I", true)
  | 5 => ("Canecrush$Load", "sweet", "I", false)
  | 6 => ("Canecrush$Load", "where", "I", false)
  | 7 => ("Canecrush$Load", "came", "I", false)
  | _ => ("Canecrush$Load", "crushedAt", "I", false)
def tyX9 : Nat → FieldType := fun k => match k with
  | 0 => .int
  | 1 => .int
  | 2 => .int
  | 3 => .boolean
  | 4 => .int
  | 5 => .int
  | 6 => .int
  | 7 => .int
  | _ => .int
abbrev wsX90 : List Cond := u_ws RX9 TX9 9
theorem nmX9 : ∀ a, a < 9 → ∀ b, b < 9 → a ≠ b → (TX9 a).2.1 ≠ (TX9 b).2.1 := by decide +kernel
theorem tyX9_ok : ∀ k, k < 9 → parseFieldDescriptor (TX9 k).2.2.1 = some (tyX9 k) := by decide +kernel
abbrev cX9_copy : ByteArray := prog_3_method_2_code
def yX9_copy : MethodName := ⟨RX9, "copy", "()LCanecrush$Load;"⟩
def dkwX9_copy_2 : List UInt8 := [180, 0, 15, 181, 0, 15, 43, 176]
abbrev dktX9_copy_2 : List UInt8 := dkwX9_copy_2 ++ []
def dkwX9_copy_1 : List UInt8 := [183, 0, 37, 76, 43, 42, 180, 0, 9, 181, 0, 9, 43, 42, 180, 0, 40, 181, 0, 40, 43, 42]
abbrev dktX9_copy_1 : List UInt8 := dkwX9_copy_1 ++ dktX9_copy_2
def dkwX9_copy_0 : List UInt8 := [187, 0, 10, 89, 42, 180, 0, 18, 42, 180, 0, 21, 42, 180, 0, 24, 42, 180, 0, 27, 42, 180, 0, 31]
abbrev dktX9_copy_0 : List UInt8 := dkwX9_copy_0 ++ dktX9_copy_1
theorem dksX9_copy_0 : cX9_copy.data.toList.drop 0 = dktX9_copy_0 := by decide +kernel
theorem dksX9_copy_1 : cX9_copy.data.toList.drop 24 = dktX9_copy_1 := dk_seg dksX9_copy_0 24 rfl rfl
theorem dksX9_copy_2 : cX9_copy.data.toList.drop 46 = dktX9_copy_2 := dk_seg dksX9_copy_1 22 rfl rfl
theorem dX9_copy_0 : decode cX9_copy 0 = .ok (.new 10, 3) := dk_187 0 10 (dk_at dksX9_copy_0 0 rfl rfl)
theorem dX9_copy_3 : decode cX9_copy 3 = .ok (.dup, 1) := dk_89 (dk_at dksX9_copy_0 3 rfl rfl)
theorem dX9_copy_4 : decode cX9_copy 4 = .ok (.aload_n 0, 1) := dk_42 (dk_at dksX9_copy_0 4 rfl rfl)
theorem dX9_copy_5 : decode cX9_copy 5 = .ok (.getfield 18, 3) := dk_180 0 18 (dk_at dksX9_copy_0 5 rfl rfl)
theorem dX9_copy_8 : decode cX9_copy 8 = .ok (.aload_n 0, 1) := dk_42 (dk_at dksX9_copy_0 8 rfl rfl)
theorem dX9_copy_9 : decode cX9_copy 9 = .ok (.getfield 21, 3) := dk_180 0 21 (dk_at dksX9_copy_0 9 rfl rfl)
theorem dX9_copy_12 : decode cX9_copy 12 = .ok (.aload_n 0, 1) := dk_42 (dk_at dksX9_copy_0 12 rfl rfl)
theorem dX9_copy_13 : decode cX9_copy 13 = .ok (.getfield 24, 3) := dk_180 0 24 (dk_at dksX9_copy_0 13 rfl rfl)
theorem dX9_copy_16 : decode cX9_copy 16 = .ok (.aload_n 0, 1) := dk_42 (dk_at dksX9_copy_0 16 rfl rfl)
theorem dX9_copy_17 : decode cX9_copy 17 = .ok (.getfield 27, 3) := dk_180 0 27 (dk_at dksX9_copy_0 17 rfl rfl)
theorem dX9_copy_20 : decode cX9_copy 20 = .ok (.aload_n 0, 1) := dk_42 (dk_at dksX9_copy_0 20 rfl rfl)
theorem dX9_copy_21 : decode cX9_copy 21 = .ok (.getfield 31, 3) := dk_180 0 31 (dk_at dksX9_copy_0 21 rfl rfl)
theorem dX9_copy_24 : decode cX9_copy 24 = .ok (.invokespecial 37, 3) := dk_183 0 37 (dk_at dksX9_copy_1 0 rfl rfl)
theorem dX9_copy_27 : decode cX9_copy 27 = .ok (.astore_n 1, 1) := dk_76 (dk_at dksX9_copy_1 3 rfl rfl)
theorem dX9_copy_28 : decode cX9_copy 28 = .ok (.aload_n 1, 1) := dk_43 (dk_at dksX9_copy_1 4 rfl rfl)
theorem dX9_copy_29 : decode cX9_copy 29 = .ok (.aload_n 0, 1) := dk_42 (dk_at dksX9_copy_1 5 rfl rfl)
theorem dX9_copy_30 : decode cX9_copy 30 = .ok (.getfield 9, 3) := dk_180 0 9 (dk_at dksX9_copy_1 6 rfl rfl)
theorem dX9_copy_33 : decode cX9_copy 33 = .ok (.putfield 9, 3) := dk_181 0 9 (dk_at dksX9_copy_1 9 rfl rfl)
theorem dX9_copy_36 : decode cX9_copy 36 = .ok (.aload_n 1, 1) := dk_43 (dk_at dksX9_copy_1 12 rfl rfl)
theorem dX9_copy_37 : decode cX9_copy 37 = .ok (.aload_n 0, 1) := dk_42 (dk_at dksX9_copy_1 13 rfl rfl)
theorem dX9_copy_38 : decode cX9_copy 38 = .ok (.getfield 40, 3) := dk_180 0 40 (dk_at dksX9_copy_1 14 rfl rfl)
theorem dX9_copy_41 : decode cX9_copy 41 = .ok (.putfield 40, 3) := dk_181 0 40 (dk_at dksX9_copy_1 17 rfl rfl)
theorem dX9_copy_44 : decode cX9_copy 44 = .ok (.aload_n 1, 1) := dk_43 (dk_at dksX9_copy_1 20 rfl rfl)
theorem dX9_copy_45 : decode cX9_copy 45 = .ok (.aload_n 0, 1) := dk_42 (dk_at dksX9_copy_1 21 rfl rfl)
theorem dX9_copy_46 : decode cX9_copy 46 = .ok (.getfield 15, 3) := dk_180 0 15 (dk_at dksX9_copy_2 0 rfl rfl)
theorem dX9_copy_49 : decode cX9_copy 49 = .ok (.putfield 15, 3) := dk_181 0 15 (dk_at dksX9_copy_2 3 rfl rfl)
theorem dX9_copy_52 : decode cX9_copy 52 = .ok (.aload_n 1, 1) := dk_43 (dk_at dksX9_copy_2 6 rfl rfl)
theorem dX9_copy_53 : decode cX9_copy 53 = .ok (.areturn, 1) := dk_176 (dk_at dksX9_copy_2 7 rfl rfl)
abbrev cX9_init : ByteArray := prog_3_method_1_code
def yX9_init : MethodName := ⟨RX9, "<init>", "(IIIZI)V"⟩
def dkwX9_init_2 : List UInt8 := [167, 0, 5, 16, 8, 181, 0, 34, 177]
abbrev dktX9_init_2 : List UInt8 := dkwX9_init_2 ++ []
def dkwX9_init_1 : List UInt8 := [42, 29, 181, 0, 24, 42, 21, 4, 181, 0, 27, 42, 21, 5, 181, 0, 31, 42, 21, 4, 153, 0, 7, 5]
abbrev dktX9_init_1 : List UInt8 := dkwX9_init_1 ++ dktX9_init_2
def dkwX9_init_0 : List UInt8 := [42, 183, 0, 3, 42, 3, 181, 0, 9, 42, 2, 181, 0, 15, 42, 27, 181, 0, 18, 42, 28, 181, 0, 21]
abbrev dktX9_init_0 : List UInt8 := dkwX9_init_0 ++ dktX9_init_1
theorem dksX9_init_0 : cX9_init.data.toList.drop 0 = dktX9_init_0 := by decide +kernel
theorem dksX9_init_1 : cX9_init.data.toList.drop 24 = dktX9_init_1 := dk_seg dksX9_init_0 24 rfl rfl
theorem dksX9_init_2 : cX9_init.data.toList.drop 48 = dktX9_init_2 := dk_seg dksX9_init_1 24 rfl rfl
theorem dX9_init_0 : decode cX9_init 0 = .ok (.aload_n 0, 1) := dk_42 (dk_at dksX9_init_0 0 rfl rfl)
theorem dX9_init_1 : decode cX9_init 1 = .ok (.invokespecial 3, 3) := dk_183 0 3 (dk_at dksX9_init_0 1 rfl rfl)
theorem dX9_init_4 : decode cX9_init 4 = .ok (.aload_n 0, 1) := dk_42 (dk_at dksX9_init_0 4 rfl rfl)
theorem dX9_init_5 : decode cX9_init 5 = .ok (.iconst 0, 1) := dk_3 (dk_at dksX9_init_0 5 rfl rfl)
theorem dX9_init_6 : decode cX9_init 6 = .ok (.putfield 9, 3) := dk_181 0 9 (dk_at dksX9_init_0 6 rfl rfl)
theorem dX9_init_9 : decode cX9_init 9 = .ok (.aload_n 0, 1) := dk_42 (dk_at dksX9_init_0 9 rfl rfl)
theorem dX9_init_10 : decode cX9_init 10 = .ok (.iconst (-1), 1) := dk_2 (dk_at dksX9_init_0 10 rfl rfl)
theorem dX9_init_11 : decode cX9_init 11 = .ok (.putfield 15, 3) := dk_181 0 15 (dk_at dksX9_init_0 11 rfl rfl)
theorem dX9_init_14 : decode cX9_init 14 = .ok (.aload_n 0, 1) := dk_42 (dk_at dksX9_init_0 14 rfl rfl)
theorem dX9_init_15 : decode cX9_init 15 = .ok (.iload_n 1, 1) := dk_27 (dk_at dksX9_init_0 15 rfl rfl)
theorem dX9_init_16 : decode cX9_init 16 = .ok (.putfield 18, 3) := dk_181 0 18 (dk_at dksX9_init_0 16 rfl rfl)
theorem dX9_init_19 : decode cX9_init 19 = .ok (.aload_n 0, 1) := dk_42 (dk_at dksX9_init_0 19 rfl rfl)
theorem dX9_init_20 : decode cX9_init 20 = .ok (.iload_n 2, 1) := dk_28 (dk_at dksX9_init_0 20 rfl rfl)
theorem dX9_init_21 : decode cX9_init 21 = .ok (.putfield 21, 3) := dk_181 0 21 (dk_at dksX9_init_0 21 rfl rfl)
theorem dX9_init_24 : decode cX9_init 24 = .ok (.aload_n 0, 1) := dk_42 (dk_at dksX9_init_1 0 rfl rfl)
theorem dX9_init_25 : decode cX9_init 25 = .ok (.iload_n 3, 1) := dk_29 (dk_at dksX9_init_1 1 rfl rfl)
theorem dX9_init_26 : decode cX9_init 26 = .ok (.putfield 24, 3) := dk_181 0 24 (dk_at dksX9_init_1 2 rfl rfl)
theorem dX9_init_29 : decode cX9_init 29 = .ok (.aload_n 0, 1) := dk_42 (dk_at dksX9_init_1 5 rfl rfl)
theorem dX9_init_30 : decode cX9_init 30 = .ok (.iload 4, 2) := dk_21 4 (dk_at dksX9_init_1 6 rfl rfl)
theorem dX9_init_32 : decode cX9_init 32 = .ok (.putfield 27, 3) := dk_181 0 27 (dk_at dksX9_init_1 8 rfl rfl)
theorem dX9_init_35 : decode cX9_init 35 = .ok (.aload_n 0, 1) := dk_42 (dk_at dksX9_init_1 11 rfl rfl)
theorem dX9_init_36 : decode cX9_init 36 = .ok (.iload 5, 2) := dk_21 5 (dk_at dksX9_init_1 12 rfl rfl)
theorem dX9_init_38 : decode cX9_init 38 = .ok (.putfield 31, 3) := dk_181 0 31 (dk_at dksX9_init_1 14 rfl rfl)
theorem dX9_init_41 : decode cX9_init 41 = .ok (.aload_n 0, 1) := dk_42 (dk_at dksX9_init_1 17 rfl rfl)
theorem dX9_init_42 : decode cX9_init 42 = .ok (.iload 4, 2) := dk_21 4 (dk_at dksX9_init_1 18 rfl rfl)
theorem dX9_init_44 : decode cX9_init 44 = .ok (.ifCond .eq 7, 3) := dk_153 0 7 (dk_at dksX9_init_1 20 rfl rfl)
theorem dX9_init_47 : decode cX9_init 47 = .ok (.iconst 2, 1) := dk_5 (dk_at dksX9_init_1 23 rfl rfl)
theorem dX9_init_48 : decode cX9_init 48 = .ok (.goto 5, 3) := dk_167 0 5 (dk_at dksX9_init_2 0 rfl rfl)
theorem dX9_init_51 : decode cX9_init 51 = .ok (.bipush 8, 2) := dk_16 8 (dk_at dksX9_init_2 3 rfl rfl)
theorem dX9_init_53 : decode cX9_init 53 = .ok (.putfield 34, 3) := dk_181 0 34 (dk_at dksX9_init_2 5 rfl rfl)
theorem dX9_init_56 : decode cX9_init 56 = .ok (.return_, 1) := dk_177 (dk_at dksX9_init_2 8 rfl rfl)
abbrev cX9_spoil : ByteArray := prog_3_method_3_code
def yX9_spoil : MethodName := ⟨RX9, "spoil", "(I)V"⟩
def dkwX9_spoil_2 : List UInt8 := [177]
abbrev dktX9_spoil_2 : List UInt8 := dkwX9_spoil_2 ++ []
def dkwX9_spoil_1 : List UInt8 := [167, 0, 4, 3, 100, 42, 180, 0, 27, 153, 0, 7, 4, 167, 0, 4, 3, 100, 184, 0, 43, 181, 0, 24]
abbrev dktX9_spoil_1 : List UInt8 := dkwX9_spoil_1 ++ dktX9_spoil_2
def dkwX9_spoil_0 : List UInt8 := [42, 180, 0, 9, 6, 159, 0, 42, 42, 3, 42, 180, 0, 24, 4, 100, 27, 16, 30, 161, 0, 7, 4]
abbrev dktX9_spoil_0 : List UInt8 := dkwX9_spoil_0 ++ dktX9_spoil_1
theorem dksX9_spoil_0 : cX9_spoil.data.toList.drop 0 = dktX9_spoil_0 := by decide +kernel
theorem dksX9_spoil_1 : cX9_spoil.data.toList.drop 23 = dktX9_spoil_1 := dk_seg dksX9_spoil_0 23 rfl rfl
theorem dksX9_spoil_2 : cX9_spoil.data.toList.drop 47 = dktX9_spoil_2 := dk_seg dksX9_spoil_1 24 rfl rfl
theorem dX9_spoil_0 : decode cX9_spoil 0 = .ok (.aload_n 0, 1) := dk_42 (dk_at dksX9_spoil_0 0 rfl rfl)
theorem dX9_spoil_1 : decode cX9_spoil 1 = .ok (.getfield 9, 3) := dk_180 0 9 (dk_at dksX9_spoil_0 1 rfl rfl)
theorem dX9_spoil_4 : decode cX9_spoil 4 = .ok (.iconst 3, 1) := dk_6 (dk_at dksX9_spoil_0 4 rfl rfl)
theorem dX9_spoil_5 : decode cX9_spoil 5 = .ok (.if_icmp .eq 42, 3) := dk_159 0 42 (dk_at dksX9_spoil_0 5 rfl rfl)
theorem dX9_spoil_8 : decode cX9_spoil 8 = .ok (.aload_n 0, 1) := dk_42 (dk_at dksX9_spoil_0 8 rfl rfl)
theorem dX9_spoil_9 : decode cX9_spoil 9 = .ok (.iconst 0, 1) := dk_3 (dk_at dksX9_spoil_0 9 rfl rfl)
theorem dX9_spoil_10 : decode cX9_spoil 10 = .ok (.aload_n 0, 1) := dk_42 (dk_at dksX9_spoil_0 10 rfl rfl)
theorem dX9_spoil_11 : decode cX9_spoil 11 = .ok (.getfield 24, 3) := dk_180 0 24 (dk_at dksX9_spoil_0 11 rfl rfl)
theorem dX9_spoil_14 : decode cX9_spoil 14 = .ok (.iconst 1, 1) := dk_4 (dk_at dksX9_spoil_0 14 rfl rfl)
theorem dX9_spoil_15 : decode cX9_spoil 15 = .ok (.isub, 1) := dk_100 (dk_at dksX9_spoil_0 15 rfl rfl)
theorem dX9_spoil_16 : decode cX9_spoil 16 = .ok (.iload_n 1, 1) := dk_27 (dk_at dksX9_spoil_0 16 rfl rfl)
theorem dX9_spoil_17 : decode cX9_spoil 17 = .ok (.bipush 30, 2) := dk_16 30 (dk_at dksX9_spoil_0 17 rfl rfl)
theorem dX9_spoil_19 : decode cX9_spoil 19 = .ok (.if_icmp .lt 7, 3) := dk_161 0 7 (dk_at dksX9_spoil_0 19 rfl rfl)
theorem dX9_spoil_22 : decode cX9_spoil 22 = .ok (.iconst 1, 1) := dk_4 (dk_at dksX9_spoil_0 22 rfl rfl)
theorem dX9_spoil_23 : decode cX9_spoil 23 = .ok (.goto 4, 3) := dk_167 0 4 (dk_at dksX9_spoil_1 0 rfl rfl)
theorem dX9_spoil_26 : decode cX9_spoil 26 = .ok (.iconst 0, 1) := dk_3 (dk_at dksX9_spoil_1 3 rfl rfl)
theorem dX9_spoil_27 : decode cX9_spoil 27 = .ok (.isub, 1) := dk_100 (dk_at dksX9_spoil_1 4 rfl rfl)
theorem dX9_spoil_28 : decode cX9_spoil 28 = .ok (.aload_n 0, 1) := dk_42 (dk_at dksX9_spoil_1 5 rfl rfl)
theorem dX9_spoil_29 : decode cX9_spoil 29 = .ok (.getfield 27, 3) := dk_180 0 27 (dk_at dksX9_spoil_1 6 rfl rfl)
theorem dX9_spoil_32 : decode cX9_spoil 32 = .ok (.ifCond .eq 7, 3) := dk_153 0 7 (dk_at dksX9_spoil_1 9 rfl rfl)
theorem dX9_spoil_35 : decode cX9_spoil 35 = .ok (.iconst 1, 1) := dk_4 (dk_at dksX9_spoil_1 12 rfl rfl)
theorem dX9_spoil_36 : decode cX9_spoil 36 = .ok (.goto 4, 3) := dk_167 0 4 (dk_at dksX9_spoil_1 13 rfl rfl)
theorem dX9_spoil_39 : decode cX9_spoil 39 = .ok (.iconst 0, 1) := dk_3 (dk_at dksX9_spoil_1 16 rfl rfl)
theorem dX9_spoil_40 : decode cX9_spoil 40 = .ok (.isub, 1) := dk_100 (dk_at dksX9_spoil_1 17 rfl rfl)
theorem dX9_spoil_41 : decode cX9_spoil 41 = .ok (.invokestatic 43, 3) := dk_184 0 43 (dk_at dksX9_spoil_1 18 rfl rfl)
theorem dX9_spoil_44 : decode cX9_spoil 44 = .ok (.putfield 24, 3) := dk_181 0 24 (dk_at dksX9_spoil_1 21 rfl rfl)
theorem dX9_spoil_47 : decode cX9_spoil 47 = .ok (.return_, 1) := dk_177 (dk_at dksX9_spoil_2 0 rfl rfl)
theorem q75 : (Jvm.Cond.initialized "Canecrush$Load") ∈ lw_all := lw_g (lw_at lw_m1 26 rfl) rfl
theorem q389 : (Jvm.Cond.selects "Canecrush$Load" ({ cls := "java/lang/Object", name := "getClass", desc := "()Ljava/lang/Class;" } : Jvm.MethodName) ({ cls := "java/lang/Object", name := "getClass", desc := "()Ljava/lang/Class;" } : Jvm.MethodName)) ∈ lw_all := lw_g (lw_at lw_m2 100 rfl) rfl
theorem q500 : (Jvm.Cond.instanceMethod ({ cls := "Canecrush$Load", name := "copy", desc := "()LCanecrush$Load;" } : Jvm.MethodName)) ∈ lw_all := lw_g (lw_at lw_m2 211 rfl) rfl
theorem q501 : (Jvm.Cond.selects "Canecrush$Load" ({ cls := "Canecrush$Load", name := "copy", desc := "()LCanecrush$Load;" } : Jvm.MethodName) ({ cls := "Canecrush$Load", name := "copy", desc := "()LCanecrush$Load;" } : Jvm.MethodName)) ∈ lw_all := lw_g (lw_at lw_m2 212 rfl) rfl
theorem q502 : (Jvm.Cond.code ({ cls := "Canecrush$Load", name := "copy", desc := "()LCanecrush$Load;" } : Jvm.MethodName) prog_3_method_2_code (2 : Nat) (Option.some (Jvm.ClassFile.FieldType.object "Canecrush$Load"))) ∈ lw_all := lw_g (lw_at lw_m2 213 rfl) rfl
theorem q503 : (Jvm.Cond.classLink "Canecrush$Load" (10 : Nat) "Canecrush$Load") ∈ lw_all := lw_g (lw_at lw_m2 214 rfl) rfl
theorem q504 : (Jvm.Cond.instantiable "Canecrush$Load" (9 : Nat)) ∈ lw_all := lw_g (lw_at lw_m2 215 rfl) rfl
theorem q505 : (Jvm.Cond.methodLink "Canecrush$Load" (37 : Nat) ({ cls := "Canecrush$Load", name := "<init>", desc := "(IIIZI)V" } : Jvm.MethodName)) ∈ lw_all := lw_g (lw_at lw_m2 216 rfl) rfl
theorem q506 : (Jvm.Cond.instanceMethod ({ cls := "Canecrush$Load", name := "<init>", desc := "(IIIZI)V" } : Jvm.MethodName)) ∈ lw_all := lw_g (lw_at lw_m2 217 rfl) rfl
theorem q507 : (Jvm.Cond.code ({ cls := "Canecrush$Load", name := "<init>", desc := "(IIIZI)V" } : Jvm.MethodName) prog_3_method_1_code (6 : Nat) (Option.none : Option Jvm.ClassFile.FieldType)) ∈ lw_all := lw_g (lw_at lw_m2 218 rfl) rfl
theorem q508 : (Jvm.Cond.methodLink "Canecrush$Load" (3 : Nat) ({ cls := "java/lang/Object", name := "<init>", desc := "()V" } : Jvm.MethodName)) ∈ lw_all := lw_g (lw_at lw_m2 219 rfl) rfl
theorem q509 : (Jvm.Cond.fieldLink "Canecrush$Load" (18 : Nat) "Canecrush$Load" "field" "I") ∈ lw_all := lw_g (lw_at lw_m2 220 rfl) rfl
theorem q512 : (Jvm.Cond.fieldLink "Canecrush$Load" (21 : Nat) "Canecrush$Load" "tons" "I") ∈ lw_all := lw_g (lw_at lw_m2 223 rfl) rfl
theorem q515 : (Jvm.Cond.fieldLink "Canecrush$Load" (34 : Nat) "Canecrush$Load" "trash" "I") ∈ lw_all := lw_g (lw_at lw_m2 226 rfl) rfl
theorem q518 : (Jvm.Cond.fieldLink "Canecrush$Load" (27 : Nat) "Canecrush$Load" "isBurnt" "Z") ∈ lw_all := lw_g (lw_at lw_m2 229 rfl) rfl
theorem q519 : (Jvm.Cond.fieldLink "Canecrush$Load" (31 : Nat) "Canecrush$Load" "cutAt" "I") ∈ lw_all := lw_g (lw_at lw_m2 230 rfl) rfl
theorem q521 : (Jvm.Cond.fieldLink "Canecrush$Load" (24 : Nat) "Canecrush$Load" "sweet" "I") ∈ lw_all := lw_g (lw_at lw_m2 232 rfl) rfl
theorem q524 : (Jvm.Cond.fieldLink "Canecrush$Load" (9 : Nat) "Canecrush$Load" "where" "I") ∈ lw_all := lw_g (lw_at lw_m2 235 rfl) rfl
theorem q527 : (Jvm.Cond.fieldLink "Canecrush$Load" (40 : Nat) "Canecrush$Load" "came" "I") ∈ lw_all := lw_g (lw_at lw_m2 238 rfl) rfl
theorem q529 : (Jvm.Cond.fieldLink "Canecrush$Load" (15 : Nat) "Canecrush$Load" "crushedAt" "I") ∈ lw_all := lw_g (lw_at lw_m3 0 rfl) rfl
theorem q532 : (Jvm.Cond.laysFinal "Canecrush$Load" "Canecrush$Load" "field" "I") ∈ lw_all := lw_g (lw_at lw_m3 3 rfl) rfl
theorem q533 : (Jvm.Cond.soleField "Canecrush$Load" "field") ∈ lw_all := lw_g (lw_at lw_m3 4 rfl) rfl
theorem q534 : (Jvm.Cond.laysFinal "Canecrush$Load" "Canecrush$Load" "tons" "I") ∈ lw_all := lw_g (lw_at lw_m3 5 rfl) rfl
theorem q535 : (Jvm.Cond.soleField "Canecrush$Load" "tons") ∈ lw_all := lw_g (lw_at lw_m3 6 rfl) rfl
theorem q536 : (Jvm.Cond.laysFinal "Canecrush$Load" "Canecrush$Load" "trash" "I") ∈ lw_all := lw_g (lw_at lw_m3 7 rfl) rfl
theorem q537 : (Jvm.Cond.soleField "Canecrush$Load" "trash") ∈ lw_all := lw_g (lw_at lw_m3 8 rfl) rfl
theorem q538 : (Jvm.Cond.laysFinal "Canecrush$Load" "Canecrush$Load" "isBurnt" "Z") ∈ lw_all := lw_g (lw_at lw_m3 9 rfl) rfl
theorem q539 : (Jvm.Cond.soleField "Canecrush$Load" "isBurnt") ∈ lw_all := lw_g (lw_at lw_m3 10 rfl) rfl
theorem q540 : (Jvm.Cond.laysFinal "Canecrush$Load" "Canecrush$Load" "cutAt" "I") ∈ lw_all := lw_g (lw_at lw_m3 11 rfl) rfl
theorem q541 : (Jvm.Cond.soleField "Canecrush$Load" "cutAt") ∈ lw_all := lw_g (lw_at lw_m3 12 rfl) rfl
theorem q542 : (Jvm.Cond.lays "Canecrush$Load" "Canecrush$Load" "sweet" "I") ∈ lw_all := lw_g (lw_at lw_m3 13 rfl) rfl
theorem q543 : (Jvm.Cond.soleField "Canecrush$Load" "sweet") ∈ lw_all := lw_g (lw_at lw_m3 14 rfl) rfl
theorem q544 : (Jvm.Cond.lays "Canecrush$Load" "Canecrush$Load" "where" "I") ∈ lw_all := lw_g (lw_at lw_m3 15 rfl) rfl
theorem q545 : (Jvm.Cond.soleField "Canecrush$Load" "where") ∈ lw_all := lw_g (lw_at lw_m3 16 rfl) rfl
theorem q546 : (Jvm.Cond.lays "Canecrush$Load" "Canecrush$Load" "came" "I") ∈ lw_all := lw_g (lw_at lw_m3 17 rfl) rfl
theorem q547 : (Jvm.Cond.soleField "Canecrush$Load" "came") ∈ lw_all := lw_g (lw_at lw_m3 18 rfl) rfl
theorem q548 : (Jvm.Cond.lays "Canecrush$Load" "Canecrush$Load" "crushedAt" "I") ∈ lw_all := lw_g (lw_at lw_m3 19 rfl) rfl
theorem q549 : (Jvm.Cond.soleField "Canecrush$Load" "crushedAt") ∈ lw_all := lw_g (lw_at lw_m3 20 rfl) rfl
theorem q550 : (Jvm.Cond.superclass "Canecrush$Load" "java/lang/Object") ∈ lw_all := lw_g (lw_at lw_m3 21 rfl) rfl
theorem q569 : (Jvm.Cond.instanceMethod ({ cls := "Canecrush$Load", name := "spoil", desc := "(I)V" } : Jvm.MethodName)) ∈ lw_all := lw_g (lw_at lw_m3 40 rfl) rfl
theorem q570 : (Jvm.Cond.selects "Canecrush$Load" ({ cls := "Canecrush$Load", name := "spoil", desc := "(I)V" } : Jvm.MethodName) ({ cls := "Canecrush$Load", name := "spoil", desc := "(I)V" } : Jvm.MethodName)) ∈ lw_all := lw_g (lw_at lw_m3 41 rfl) rfl
theorem q571 : (Jvm.Cond.code ({ cls := "Canecrush$Load", name := "spoil", desc := "(I)V" } : Jvm.MethodName) prog_3_method_3_code (2 : Nat) (Option.none : Option Jvm.ClassFile.FieldType)) ∈ lw_all := lw_g (lw_at lw_m3 42 rfl) rfl
theorem q572 : (Jvm.Cond.methodLink "Canecrush$Load" (43 : Nat) ({ cls := "java/lang/Math", name := "max", desc := "(II)I" } : Jvm.MethodName)) ∈ lw_all := lw_g (lw_at lw_m3 43 rfl) rfl
theorem q1530 : (Jvm.Cond.castable "Canecrush$Load" "java/lang/Object") ∈ lw_tbl := lw_at lw_m7 41 rfl
theorem in_X9 : ∀ w ∈ wsX90, w ∈ lw_all := lw_in wsX90 [532, 534, 536, 538, 540, 542, 544, 546, 548] (by decide +kernel) (by decide +kernel)
