/-! YearSkins$Reader -/
set_option maxRecDepth 100000
def RX2 : String := "YearSkins$Reader"
def TX2 : u_T := fun k => match k with
  | 0 => ("YearSkins$Reader", "wrong", "LYearSkins$Refused;", true)
  | 1 => ("YearSkins$Reader", "text", "[B", true)
  | 2 => ("YearSkins$Reader", "letters", "[C", true)
  | 3 => ("YearSkins$Reader", "village", "LYearSkins$Village;", true)
  | 4 => ("YearSkins$Reader", "size", "I", false)
  | 5 => ("YearSkins$Reader", "end", "I", false)
  | 6 => ("YearSkins$Reader", "token", "I", false)
  | 7 => ("YearSkins$Reader", "at", "I", false)
  | 8 => ("YearSkins$Reader", "whole", "I", false)
  | 9 => ("YearSkins$Reader", "year", "I", false)
  | 10 => ("YearSkins$Reader", "word", "Ljava/lang/String;", false)
  | _ => ("YearSkins$Reader", "land", "LYearSkins$Land;", false)
def tyX2 : Nat → FieldType := fun k => match k with
  | 0 => .object "YearSkins$Refused"
  | 1 => .array .byte
  | 2 => .array .char
  | 3 => .object "YearSkins$Village"
  | 4 => .int
  | 5 => .int
  | 6 => .int
  | 7 => .int
  | 8 => .int
  | 9 => .int
  | 10 => .object "java/lang/String"
  | _ => .object "YearSkins$Land"
abbrev wsX20 : List Cond := u_ws RX2 TX2 12
theorem nmX2 : ∀ a, a < 12 → ∀ b, b < 12 → a ≠ b → (TX2 a).2.1 ≠ (TX2 b).2.1 := by decide +kernel
theorem tyX2_ok : ∀ k, k < 12 → parseFieldDescriptor (TX2 k).2.2.1 = some (tyX2 k) := by decide +kernel
abbrev cX2_init : ByteArray := prog_8_method_1_code
def yX2_init : MethodName := ⟨RX2, "<init>", "([B)V"⟩
def dkwX2_init_1 : List UInt8 := [187, 0, 22, 89, 183, 0, 24, 181, 0, 25, 42, 43, 181, 0, 29, 177]
abbrev dktX2_init_1 : List UInt8 := dkwX2_init_1 ++ []
def dkwX2_init_0 : List UInt8 := [42, 183, 0, 3, 42, 187, 0, 9, 89, 183, 0, 11, 181, 0, 12, 42, 16, 8, 188, 5, 181, 0, 18, 42]
abbrev dktX2_init_0 : List UInt8 := dkwX2_init_0 ++ dktX2_init_1
theorem dksX2_init_0 : cX2_init.data.toList.drop 0 = dktX2_init_0 := by decide +kernel
theorem dksX2_init_1 : cX2_init.data.toList.drop 24 = dktX2_init_1 := dk_seg dksX2_init_0 24 rfl rfl
theorem dX2_init_0 : decode cX2_init 0 = .ok (.aload_n 0, 1) := dk_42 (dk_at dksX2_init_0 0 rfl rfl)
theorem dX2_init_1 : decode cX2_init 1 = .ok (.invokespecial 3, 3) := dk_183 0 3 (dk_at dksX2_init_0 1 rfl rfl)
theorem dX2_init_4 : decode cX2_init 4 = .ok (.aload_n 0, 1) := dk_42 (dk_at dksX2_init_0 4 rfl rfl)
theorem dX2_init_5 : decode cX2_init 5 = .ok (.new 9, 3) := dk_187 0 9 (dk_at dksX2_init_0 5 rfl rfl)
theorem dX2_init_8 : decode cX2_init 8 = .ok (.dup, 1) := dk_89 (dk_at dksX2_init_0 8 rfl rfl)
theorem dX2_init_9 : decode cX2_init 9 = .ok (.invokespecial 11, 3) := dk_183 0 11 (dk_at dksX2_init_0 9 rfl rfl)
theorem dX2_init_12 : decode cX2_init 12 = .ok (.putfield 12, 3) := dk_181 0 12 (dk_at dksX2_init_0 12 rfl rfl)
theorem dX2_init_15 : decode cX2_init 15 = .ok (.aload_n 0, 1) := dk_42 (dk_at dksX2_init_0 15 rfl rfl)
theorem dX2_init_16 : decode cX2_init 16 = .ok (.bipush 8, 2) := dk_16 8 (dk_at dksX2_init_0 16 rfl rfl)
theorem dX2_init_18 : decode cX2_init 18 = .ok (.newarray .char, 2) := dk_188_5 (dk_at dksX2_init_0 18 rfl rfl)
theorem dX2_init_20 : decode cX2_init 20 = .ok (.putfield 18, 3) := dk_181 0 18 (dk_at dksX2_init_0 20 rfl rfl)
theorem dX2_init_23 : decode cX2_init 23 = .ok (.aload_n 0, 1) := dk_42 (dk_at dksX2_init_0 23 rfl rfl)
theorem dX2_init_24 : decode cX2_init 24 = .ok (.new 22, 3) := dk_187 0 22 (dk_at dksX2_init_1 0 rfl rfl)
theorem dX2_init_27 : decode cX2_init 27 = .ok (.dup, 1) := dk_89 (dk_at dksX2_init_1 3 rfl rfl)
theorem dX2_init_28 : decode cX2_init 28 = .ok (.invokespecial 24, 3) := dk_183 0 24 (dk_at dksX2_init_1 4 rfl rfl)
theorem dX2_init_31 : decode cX2_init 31 = .ok (.putfield 25, 3) := dk_181 0 25 (dk_at dksX2_init_1 7 rfl rfl)
theorem dX2_init_34 : decode cX2_init 34 = .ok (.aload_n 0, 1) := dk_42 (dk_at dksX2_init_1 10 rfl rfl)
theorem dX2_init_35 : decode cX2_init 35 = .ok (.aload_n 1, 1) := dk_43 (dk_at dksX2_init_1 11 rfl rfl)
theorem dX2_init_36 : decode cX2_init 36 = .ok (.putfield 29, 3) := dk_181 0 29 (dk_at dksX2_init_1 12 rfl rfl)
theorem dX2_init_39 : decode cX2_init 39 = .ok (.return_, 1) := dk_177 (dk_at dksX2_init_1 15 rfl rfl)
abbrev cX2_read : ByteArray := prog_8_method_22_code
def yX2_read : MethodName := ⟨RX2, "read", "(I)LYearSkins$Land;"⟩
def dkwX2_read_5 : List UInt8 := [42, 180, 0, 177, 181, 0, 180, 42, 180, 0, 122, 176]
abbrev dktX2_read_5 : List UInt8 := dkwX2_read_5 ++ []
def dkwX2_read_4 : List UInt8 := [153, 0, 13, 42, 180, 0, 122, 180, 0, 174, 154, 0, 10, 42, 16, 6, 182, 0, 89, 191, 42, 180, 0, 25]
abbrev dktX2_read_4 : List UInt8 := dkwX2_read_4 ++ dktX2_read_5
def dkwX2_read_3 : List UInt8 := [4, 182, 0, 89, 191, 42, 180, 0, 122, 180, 0, 167, 153, 0, 23, 42, 180, 0, 122, 180, 0, 171]
abbrev dktX2_read_3 : List UInt8 := dkwX2_read_3 ++ dktX2_read_4
def dkwX2_read_2 : List UInt8 := [16, 59, 160, 0, 14, 42, 182, 0, 82, 42, 182, 0, 164, 167, 255, 239, 42, 180, 0, 54, 153, 0, 9, 42]
abbrev dktX2_read_2 : List UInt8 := dkwX2_read_2 ++ dktX2_read_3
def dkwX2_read_1 : List UInt8 := [180, 0, 25, 42, 180, 0, 122, 3, 182, 0, 160, 42, 182, 0, 82, 42, 182, 0, 164, 42, 180, 0, 54]
abbrev dktX2_read_1 : List UInt8 := dkwX2_read_1 ++ dktX2_read_2
def dkwX2_read_0 : List UInt8 := [42, 27, 181, 0, 40, 42, 3, 181, 0, 47, 42, 187, 0, 126, 89, 183, 0, 159, 181, 0, 122, 42]
abbrev dktX2_read_0 : List UInt8 := dkwX2_read_0 ++ dktX2_read_1
theorem dksX2_read_0 : cX2_read.data.toList.drop 0 = dktX2_read_0 := by decide +kernel
theorem dksX2_read_1 : cX2_read.data.toList.drop 22 = dktX2_read_1 := dk_seg dksX2_read_0 22 rfl rfl
theorem dksX2_read_2 : cX2_read.data.toList.drop 45 = dktX2_read_2 := dk_seg dksX2_read_1 23 rfl rfl
theorem dksX2_read_3 : cX2_read.data.toList.drop 69 = dktX2_read_3 := dk_seg dksX2_read_2 24 rfl rfl
theorem dksX2_read_4 : cX2_read.data.toList.drop 91 = dktX2_read_4 := dk_seg dksX2_read_3 22 rfl rfl
theorem dksX2_read_5 : cX2_read.data.toList.drop 115 = dktX2_read_5 := dk_seg dksX2_read_4 24 rfl rfl
theorem dX2_read_0 : decode cX2_read 0 = .ok (.aload_n 0, 1) := dk_42 (dk_at dksX2_read_0 0 rfl rfl)
theorem dX2_read_1 : decode cX2_read 1 = .ok (.iload_n 1, 1) := dk_27 (dk_at dksX2_read_0 1 rfl rfl)
theorem dX2_read_2 : decode cX2_read 2 = .ok (.putfield 40, 3) := dk_181 0 40 (dk_at dksX2_read_0 2 rfl rfl)
theorem dX2_read_5 : decode cX2_read 5 = .ok (.aload_n 0, 1) := dk_42 (dk_at dksX2_read_0 5 rfl rfl)
theorem dX2_read_6 : decode cX2_read 6 = .ok (.iconst 0, 1) := dk_3 (dk_at dksX2_read_0 6 rfl rfl)
theorem dX2_read_7 : decode cX2_read 7 = .ok (.putfield 47, 3) := dk_181 0 47 (dk_at dksX2_read_0 7 rfl rfl)
theorem dX2_read_10 : decode cX2_read 10 = .ok (.aload_n 0, 1) := dk_42 (dk_at dksX2_read_0 10 rfl rfl)
theorem dX2_read_11 : decode cX2_read 11 = .ok (.new 126, 3) := dk_187 0 126 (dk_at dksX2_read_0 11 rfl rfl)
theorem dX2_read_14 : decode cX2_read 14 = .ok (.dup, 1) := dk_89 (dk_at dksX2_read_0 14 rfl rfl)
theorem dX2_read_15 : decode cX2_read 15 = .ok (.invokespecial 159, 3) := dk_183 0 159 (dk_at dksX2_read_0 15 rfl rfl)
theorem dX2_read_18 : decode cX2_read 18 = .ok (.putfield 122, 3) := dk_181 0 122 (dk_at dksX2_read_0 18 rfl rfl)
theorem dX2_read_21 : decode cX2_read 21 = .ok (.aload_n 0, 1) := dk_42 (dk_at dksX2_read_0 21 rfl rfl)
theorem dX2_read_22 : decode cX2_read 22 = .ok (.getfield 25, 3) := dk_180 0 25 (dk_at dksX2_read_1 0 rfl rfl)
theorem dX2_read_25 : decode cX2_read 25 = .ok (.aload_n 0, 1) := dk_42 (dk_at dksX2_read_1 3 rfl rfl)
theorem dX2_read_26 : decode cX2_read 26 = .ok (.getfield 122, 3) := dk_180 0 122 (dk_at dksX2_read_1 4 rfl rfl)
theorem dX2_read_29 : decode cX2_read 29 = .ok (.iconst 0, 1) := dk_3 (dk_at dksX2_read_1 7 rfl rfl)
theorem dX2_read_30 : decode cX2_read 30 = .ok (.invokevirtual 160, 3) := dk_182 0 160 (dk_at dksX2_read_1 8 rfl rfl)
theorem dX2_read_33 : decode cX2_read 33 = .ok (.aload_n 0, 1) := dk_42 (dk_at dksX2_read_1 11 rfl rfl)
theorem dX2_read_34 : decode cX2_read 34 = .ok (.invokevirtual 82, 3) := dk_182 0 82 (dk_at dksX2_read_1 12 rfl rfl)
theorem dX2_read_37 : decode cX2_read 37 = .ok (.aload_n 0, 1) := dk_42 (dk_at dksX2_read_1 15 rfl rfl)
theorem dX2_read_38 : decode cX2_read 38 = .ok (.invokevirtual 164, 3) := dk_182 0 164 (dk_at dksX2_read_1 16 rfl rfl)
theorem dX2_read_41 : decode cX2_read 41 = .ok (.aload_n 0, 1) := dk_42 (dk_at dksX2_read_1 19 rfl rfl)
theorem dX2_read_42 : decode cX2_read 42 = .ok (.getfield 54, 3) := dk_180 0 54 (dk_at dksX2_read_1 20 rfl rfl)
theorem dX2_read_45 : decode cX2_read 45 = .ok (.bipush 59, 2) := dk_16 59 (dk_at dksX2_read_2 0 rfl rfl)
theorem dX2_read_47 : decode cX2_read 47 = .ok (.if_icmp .ne 14, 3) := dk_160 0 14 (dk_at dksX2_read_2 2 rfl rfl)
theorem dX2_read_50 : decode cX2_read 50 = .ok (.aload_n 0, 1) := dk_42 (dk_at dksX2_read_2 5 rfl rfl)
theorem dX2_read_51 : decode cX2_read 51 = .ok (.invokevirtual 82, 3) := dk_182 0 82 (dk_at dksX2_read_2 6 rfl rfl)
theorem dX2_read_54 : decode cX2_read 54 = .ok (.aload_n 0, 1) := dk_42 (dk_at dksX2_read_2 9 rfl rfl)
theorem dX2_read_55 : decode cX2_read 55 = .ok (.invokevirtual 164, 3) := dk_182 0 164 (dk_at dksX2_read_2 10 rfl rfl)
theorem dX2_read_58 : decode cX2_read 58 = .ok (.goto (-17), 3) := dk_167 255 239 (dk_at dksX2_read_2 13 rfl rfl)
theorem dX2_read_61 : decode cX2_read 61 = .ok (.aload_n 0, 1) := dk_42 (dk_at dksX2_read_2 16 rfl rfl)
theorem dX2_read_62 : decode cX2_read 62 = .ok (.getfield 54, 3) := dk_180 0 54 (dk_at dksX2_read_2 17 rfl rfl)
theorem dX2_read_65 : decode cX2_read 65 = .ok (.ifCond .eq 9, 3) := dk_153 0 9 (dk_at dksX2_read_2 20 rfl rfl)
theorem dX2_read_68 : decode cX2_read 68 = .ok (.aload_n 0, 1) := dk_42 (dk_at dksX2_read_2 23 rfl rfl)
theorem dX2_read_69 : decode cX2_read 69 = .ok (.iconst 1, 1) := dk_4 (dk_at dksX2_read_3 0 rfl rfl)
theorem dX2_read_70 : decode cX2_read 70 = .ok (.invokevirtual 89, 3) := dk_182 0 89 (dk_at dksX2_read_3 1 rfl rfl)
theorem dX2_read_73 : decode cX2_read 73 = .ok (.athrow, 1) := dk_191 (dk_at dksX2_read_3 4 rfl rfl)
theorem dX2_read_74 : decode cX2_read 74 = .ok (.aload_n 0, 1) := dk_42 (dk_at dksX2_read_3 5 rfl rfl)
theorem dX2_read_75 : decode cX2_read 75 = .ok (.getfield 122, 3) := dk_180 0 122 (dk_at dksX2_read_3 6 rfl rfl)
theorem dX2_read_78 : decode cX2_read 78 = .ok (.getfield 167, 3) := dk_180 0 167 (dk_at dksX2_read_3 9 rfl rfl)
theorem dX2_read_81 : decode cX2_read 81 = .ok (.ifCond .eq 23, 3) := dk_153 0 23 (dk_at dksX2_read_3 12 rfl rfl)
theorem dX2_read_84 : decode cX2_read 84 = .ok (.aload_n 0, 1) := dk_42 (dk_at dksX2_read_3 15 rfl rfl)
theorem dX2_read_85 : decode cX2_read 85 = .ok (.getfield 122, 3) := dk_180 0 122 (dk_at dksX2_read_3 16 rfl rfl)
theorem dX2_read_88 : decode cX2_read 88 = .ok (.getfield 171, 3) := dk_180 0 171 (dk_at dksX2_read_3 19 rfl rfl)
theorem dX2_read_91 : decode cX2_read 91 = .ok (.ifCond .eq 13, 3) := dk_153 0 13 (dk_at dksX2_read_4 0 rfl rfl)
theorem dX2_read_94 : decode cX2_read 94 = .ok (.aload_n 0, 1) := dk_42 (dk_at dksX2_read_4 3 rfl rfl)
theorem dX2_read_95 : decode cX2_read 95 = .ok (.getfield 122, 3) := dk_180 0 122 (dk_at dksX2_read_4 4 rfl rfl)
theorem dX2_read_98 : decode cX2_read 98 = .ok (.getfield 174, 3) := dk_180 0 174 (dk_at dksX2_read_4 7 rfl rfl)
theorem dX2_read_101 : decode cX2_read 101 = .ok (.ifCond .ne 10, 3) := dk_154 0 10 (dk_at dksX2_read_4 10 rfl rfl)
theorem dX2_read_104 : decode cX2_read 104 = .ok (.aload_n 0, 1) := dk_42 (dk_at dksX2_read_4 13 rfl rfl)
theorem dX2_read_105 : decode cX2_read 105 = .ok (.bipush 6, 2) := dk_16 6 (dk_at dksX2_read_4 14 rfl rfl)
theorem dX2_read_107 : decode cX2_read 107 = .ok (.invokevirtual 89, 3) := dk_182 0 89 (dk_at dksX2_read_4 16 rfl rfl)
theorem dX2_read_110 : decode cX2_read 110 = .ok (.athrow, 1) := dk_191 (dk_at dksX2_read_4 19 rfl rfl)
theorem dX2_read_111 : decode cX2_read 111 = .ok (.aload_n 0, 1) := dk_42 (dk_at dksX2_read_4 20 rfl rfl)
theorem dX2_read_112 : decode cX2_read 112 = .ok (.getfield 25, 3) := dk_180 0 25 (dk_at dksX2_read_4 21 rfl rfl)
theorem dX2_read_115 : decode cX2_read 115 = .ok (.aload_n 0, 1) := dk_42 (dk_at dksX2_read_5 0 rfl rfl)
theorem dX2_read_116 : decode cX2_read 116 = .ok (.getfield 177, 3) := dk_180 0 177 (dk_at dksX2_read_5 1 rfl rfl)
theorem dX2_read_119 : decode cX2_read 119 = .ok (.putfield 180, 3) := dk_181 0 180 (dk_at dksX2_read_5 4 rfl rfl)
theorem dX2_read_122 : decode cX2_read 122 = .ok (.aload_n 0, 1) := dk_42 (dk_at dksX2_read_5 7 rfl rfl)
theorem dX2_read_123 : decode cX2_read 123 = .ok (.getfield 122, 3) := dk_180 0 122 (dk_at dksX2_read_5 8 rfl rfl)
theorem dX2_read_126 : decode cX2_read 126 = .ok (.areturn, 1) := dk_176 (dk_at dksX2_read_5 11 rfl rfl)
abbrev cX2_next : ByteArray := prog_8_method_7_code
def yX2_next : MethodName := ⟨RX2, "next", "()V"⟩
def dkwX2_next_13 : List UInt8 := [181, 0, 54, 177]
abbrev dktX2_next_13 : List UInt8 := dkwX2_next_13 ++ []
def dkwX2_next_12 : List UInt8 := [181, 0, 54, 167, 0, 24, 42, 28, 16, 59, 159, 0, 9, 28, 16, 44, 160, 0, 7, 28, 167, 0, 4, 4]
abbrev dktX2_next_12 : List UInt8 := dkwX2_next_12 ++ dktX2_next_13
def dkwX2_next_11 : List UInt8 := [181, 0, 47, 167, 255, 199, 42, 42, 180, 0, 47, 27, 100, 6, 164, 0, 7, 4, 167, 0, 4, 6]
abbrev dktX2_next_11 : List UInt8 := dkwX2_next_11 ++ dktX2_next_12
def dkwX2_next_10 : List UInt8 := [42, 42, 180, 0, 47, 182, 0, 50, 96, 16, 48, 100, 181, 0, 75, 42, 89, 180, 0, 47, 4, 96]
abbrev dktX2_next_10 : List UInt8 := dkwX2_next_10 ++ dktX2_next_11
def dkwX2_next_9 : List UInt8 := [184, 0, 72, 153, 0, 49, 42, 180, 0, 47, 27, 100, 6, 162, 0, 26, 42, 16, 10, 42, 180, 0, 75, 104]
abbrev dktX2_next_9 : List UInt8 := dkwX2_next_9 ++ dktX2_next_10
def dkwX2_next_8 : List UInt8 := [184, 0, 72, 153, 0, 95, 42, 3, 181, 0, 75, 42, 27, 181, 0, 47, 42, 42, 180, 0, 47, 182, 0, 50]
abbrev dktX2_next_8 : List UInt8 := dkwX2_next_8 ++ dktX2_next_9
def dkwX2_next_7 : List UInt8 := [3, 42, 180, 0, 47, 27, 100, 183, 0, 63, 167, 0, 5, 18, 66, 181, 0, 68, 167, 0, 123, 28]
abbrev dktX2_next_7 : List UInt8 := dkwX2_next_7 ++ dktX2_next_8
def dkwX2_next_6 : List UInt8 := [167, 0, 4, 5, 181, 0, 54, 42, 42, 180, 0, 54, 5, 160, 0, 24, 187, 0, 61, 89, 42, 180, 0, 18]
abbrev dktX2_next_6 : List UInt8 := dkwX2_next_6 ++ dktX2_next_7
def dkwX2_next_5 : List UInt8 := [180, 0, 47, 4, 96, 181, 0, 47, 167, 255, 201, 42, 42, 180, 0, 47, 27, 100, 16, 8, 164, 0, 7, 4]
abbrev dktX2_next_5 : List UInt8 := dkwX2_next_5 ++ dktX2_next_6
def dkwX2_next_4 : List UInt8 := [42, 180, 0, 18, 42, 180, 0, 47, 27, 100, 42, 42, 180, 0, 47, 182, 0, 50, 146, 85, 42, 89]
abbrev dktX2_next_4 : List UInt8 := dkwX2_next_4 ++ dktX2_next_5
def dkwX2_next_3 : List UInt8 := [42, 180, 0, 47, 182, 0, 50, 184, 0, 57, 153, 0, 47, 42, 180, 0, 47, 27, 100, 16, 8, 162, 0, 23]
abbrev dktX2_next_3 : List UInt8 := dkwX2_next_3 ++ dktX2_next_4
def dkwX2_next_2 : List UInt8 := [181, 0, 54, 42, 27, 181, 0, 47, 167, 0, 251, 28, 184, 0, 57, 153, 0, 124, 42, 27, 181, 0, 47, 42]
abbrev dktX2_next_2 : List UInt8 := dkwX2_next_2 ++ dktX2_next_3
def dkwX2_next_1 : List UInt8 := [181, 0, 33, 42, 27, 4, 96, 181, 0, 47, 42, 27, 182, 0, 50, 61, 28, 2, 160, 0, 16, 42, 3]
abbrev dktX2_next_1 : List UInt8 := dkwX2_next_1 ++ dktX2_next_2
def dkwX2_next_0 : List UInt8 := [42, 180, 0, 47, 60, 42, 27, 182, 0, 50, 16, 32, 160, 0, 9, 132, 1, 1, 167, 255, 243, 42, 27]
abbrev dktX2_next_0 : List UInt8 := dkwX2_next_0 ++ dktX2_next_1
theorem dksX2_next_0 : cX2_next.data.toList.drop 0 = dktX2_next_0 := by decide +kernel
theorem dksX2_next_1 : cX2_next.data.toList.drop 23 = dktX2_next_1 := dk_seg dksX2_next_0 23 rfl rfl
theorem dksX2_next_2 : cX2_next.data.toList.drop 46 = dktX2_next_2 := dk_seg dksX2_next_1 23 rfl rfl
theorem dksX2_next_3 : cX2_next.data.toList.drop 70 = dktX2_next_3 := dk_seg dksX2_next_2 24 rfl rfl
theorem dksX2_next_4 : cX2_next.data.toList.drop 94 = dktX2_next_4 := dk_seg dksX2_next_3 24 rfl rfl
theorem dksX2_next_5 : cX2_next.data.toList.drop 116 = dktX2_next_5 := dk_seg dksX2_next_4 22 rfl rfl
theorem dksX2_next_6 : cX2_next.data.toList.drop 140 = dktX2_next_6 := dk_seg dksX2_next_5 24 rfl rfl
theorem dksX2_next_7 : cX2_next.data.toList.drop 164 = dktX2_next_7 := dk_seg dksX2_next_6 24 rfl rfl
theorem dksX2_next_8 : cX2_next.data.toList.drop 186 = dktX2_next_8 := dk_seg dksX2_next_7 22 rfl rfl
theorem dksX2_next_9 : cX2_next.data.toList.drop 210 = dktX2_next_9 := dk_seg dksX2_next_8 24 rfl rfl
theorem dksX2_next_10 : cX2_next.data.toList.drop 234 = dktX2_next_10 := dk_seg dksX2_next_9 24 rfl rfl
theorem dksX2_next_11 : cX2_next.data.toList.drop 256 = dktX2_next_11 := dk_seg dksX2_next_10 22 rfl rfl
theorem dksX2_next_12 : cX2_next.data.toList.drop 278 = dktX2_next_12 := dk_seg dksX2_next_11 22 rfl rfl
theorem dksX2_next_13 : cX2_next.data.toList.drop 302 = dktX2_next_13 := dk_seg dksX2_next_12 24 rfl rfl
theorem dX2_next_0 : decode cX2_next 0 = .ok (.aload_n 0, 1) := dk_42 (dk_at dksX2_next_0 0 rfl rfl)
theorem dX2_next_1 : decode cX2_next 1 = .ok (.getfield 47, 3) := dk_180 0 47 (dk_at dksX2_next_0 1 rfl rfl)
theorem dX2_next_4 : decode cX2_next 4 = .ok (.istore_n 1, 1) := dk_60 (dk_at dksX2_next_0 4 rfl rfl)
theorem dX2_next_5 : decode cX2_next 5 = .ok (.aload_n 0, 1) := dk_42 (dk_at dksX2_next_0 5 rfl rfl)
theorem dX2_next_6 : decode cX2_next 6 = .ok (.iload_n 1, 1) := dk_27 (dk_at dksX2_next_0 6 rfl rfl)
theorem dX2_next_7 : decode cX2_next 7 = .ok (.invokevirtual 50, 3) := dk_182 0 50 (dk_at dksX2_next_0 7 rfl rfl)
theorem dX2_next_10 : decode cX2_next 10 = .ok (.bipush 32, 2) := dk_16 32 (dk_at dksX2_next_0 10 rfl rfl)
theorem dX2_next_12 : decode cX2_next 12 = .ok (.if_icmp .ne 9, 3) := dk_160 0 9 (dk_at dksX2_next_0 12 rfl rfl)
theorem dX2_next_15 : decode cX2_next 15 = .ok (.iinc 1 1, 3) := dk_132 1 1 (dk_at dksX2_next_0 15 rfl rfl)
theorem dX2_next_18 : decode cX2_next 18 = .ok (.goto (-13), 3) := dk_167 255 243 (dk_at dksX2_next_0 18 rfl rfl)
theorem dX2_next_21 : decode cX2_next 21 = .ok (.aload_n 0, 1) := dk_42 (dk_at dksX2_next_0 21 rfl rfl)
theorem dX2_next_22 : decode cX2_next 22 = .ok (.iload_n 1, 1) := dk_27 (dk_at dksX2_next_0 22 rfl rfl)
theorem dX2_next_23 : decode cX2_next 23 = .ok (.putfield 33, 3) := dk_181 0 33 (dk_at dksX2_next_1 0 rfl rfl)
theorem dX2_next_26 : decode cX2_next 26 = .ok (.aload_n 0, 1) := dk_42 (dk_at dksX2_next_1 3 rfl rfl)
theorem dX2_next_27 : decode cX2_next 27 = .ok (.iload_n 1, 1) := dk_27 (dk_at dksX2_next_1 4 rfl rfl)
theorem dX2_next_28 : decode cX2_next 28 = .ok (.iconst 1, 1) := dk_4 (dk_at dksX2_next_1 5 rfl rfl)
theorem dX2_next_29 : decode cX2_next 29 = .ok (.iadd, 1) := dk_96 (dk_at dksX2_next_1 6 rfl rfl)
theorem dX2_next_30 : decode cX2_next 30 = .ok (.putfield 47, 3) := dk_181 0 47 (dk_at dksX2_next_1 7 rfl rfl)
theorem dX2_next_33 : decode cX2_next 33 = .ok (.aload_n 0, 1) := dk_42 (dk_at dksX2_next_1 10 rfl rfl)
theorem dX2_next_34 : decode cX2_next 34 = .ok (.iload_n 1, 1) := dk_27 (dk_at dksX2_next_1 11 rfl rfl)
theorem dX2_next_35 : decode cX2_next 35 = .ok (.invokevirtual 50, 3) := dk_182 0 50 (dk_at dksX2_next_1 12 rfl rfl)
theorem dX2_next_38 : decode cX2_next 38 = .ok (.istore_n 2, 1) := dk_61 (dk_at dksX2_next_1 15 rfl rfl)
theorem dX2_next_39 : decode cX2_next 39 = .ok (.iload_n 2, 1) := dk_28 (dk_at dksX2_next_1 16 rfl rfl)
theorem dX2_next_40 : decode cX2_next 40 = .ok (.iconst (-1), 1) := dk_2 (dk_at dksX2_next_1 17 rfl rfl)
theorem dX2_next_41 : decode cX2_next 41 = .ok (.if_icmp .ne 16, 3) := dk_160 0 16 (dk_at dksX2_next_1 18 rfl rfl)
theorem dX2_next_44 : decode cX2_next 44 = .ok (.aload_n 0, 1) := dk_42 (dk_at dksX2_next_1 21 rfl rfl)
theorem dX2_next_45 : decode cX2_next 45 = .ok (.iconst 0, 1) := dk_3 (dk_at dksX2_next_1 22 rfl rfl)
theorem dX2_next_46 : decode cX2_next 46 = .ok (.putfield 54, 3) := dk_181 0 54 (dk_at dksX2_next_2 0 rfl rfl)
theorem dX2_next_49 : decode cX2_next 49 = .ok (.aload_n 0, 1) := dk_42 (dk_at dksX2_next_2 3 rfl rfl)
theorem dX2_next_50 : decode cX2_next 50 = .ok (.iload_n 1, 1) := dk_27 (dk_at dksX2_next_2 4 rfl rfl)
theorem dX2_next_51 : decode cX2_next 51 = .ok (.putfield 47, 3) := dk_181 0 47 (dk_at dksX2_next_2 5 rfl rfl)
theorem dX2_next_54 : decode cX2_next 54 = .ok (.goto 251, 3) := dk_167 0 251 (dk_at dksX2_next_2 8 rfl rfl)
theorem dX2_next_57 : decode cX2_next 57 = .ok (.iload_n 2, 1) := dk_28 (dk_at dksX2_next_2 11 rfl rfl)
theorem dX2_next_58 : decode cX2_next 58 = .ok (.invokestatic 57, 3) := dk_184 0 57 (dk_at dksX2_next_2 12 rfl rfl)
theorem dX2_next_61 : decode cX2_next 61 = .ok (.ifCond .eq 124, 3) := dk_153 0 124 (dk_at dksX2_next_2 15 rfl rfl)
theorem dX2_next_64 : decode cX2_next 64 = .ok (.aload_n 0, 1) := dk_42 (dk_at dksX2_next_2 18 rfl rfl)
theorem dX2_next_65 : decode cX2_next 65 = .ok (.iload_n 1, 1) := dk_27 (dk_at dksX2_next_2 19 rfl rfl)
theorem dX2_next_66 : decode cX2_next 66 = .ok (.putfield 47, 3) := dk_181 0 47 (dk_at dksX2_next_2 20 rfl rfl)
theorem dX2_next_69 : decode cX2_next 69 = .ok (.aload_n 0, 1) := dk_42 (dk_at dksX2_next_2 23 rfl rfl)
theorem dX2_next_70 : decode cX2_next 70 = .ok (.aload_n 0, 1) := dk_42 (dk_at dksX2_next_3 0 rfl rfl)
theorem dX2_next_71 : decode cX2_next 71 = .ok (.getfield 47, 3) := dk_180 0 47 (dk_at dksX2_next_3 1 rfl rfl)
theorem dX2_next_74 : decode cX2_next 74 = .ok (.invokevirtual 50, 3) := dk_182 0 50 (dk_at dksX2_next_3 4 rfl rfl)
theorem dX2_next_77 : decode cX2_next 77 = .ok (.invokestatic 57, 3) := dk_184 0 57 (dk_at dksX2_next_3 7 rfl rfl)
theorem dX2_next_80 : decode cX2_next 80 = .ok (.ifCond .eq 47, 3) := dk_153 0 47 (dk_at dksX2_next_3 10 rfl rfl)
theorem dX2_next_83 : decode cX2_next 83 = .ok (.aload_n 0, 1) := dk_42 (dk_at dksX2_next_3 13 rfl rfl)
theorem dX2_next_84 : decode cX2_next 84 = .ok (.getfield 47, 3) := dk_180 0 47 (dk_at dksX2_next_3 14 rfl rfl)
theorem dX2_next_87 : decode cX2_next 87 = .ok (.iload_n 1, 1) := dk_27 (dk_at dksX2_next_3 17 rfl rfl)
theorem dX2_next_88 : decode cX2_next 88 = .ok (.isub, 1) := dk_100 (dk_at dksX2_next_3 18 rfl rfl)
theorem dX2_next_89 : decode cX2_next 89 = .ok (.bipush 8, 2) := dk_16 8 (dk_at dksX2_next_3 19 rfl rfl)
theorem dX2_next_91 : decode cX2_next 91 = .ok (.if_icmp .ge 23, 3) := dk_162 0 23 (dk_at dksX2_next_3 21 rfl rfl)
theorem dX2_next_94 : decode cX2_next 94 = .ok (.aload_n 0, 1) := dk_42 (dk_at dksX2_next_4 0 rfl rfl)
theorem dX2_next_95 : decode cX2_next 95 = .ok (.getfield 18, 3) := dk_180 0 18 (dk_at dksX2_next_4 1 rfl rfl)
theorem dX2_next_98 : decode cX2_next 98 = .ok (.aload_n 0, 1) := dk_42 (dk_at dksX2_next_4 4 rfl rfl)
theorem dX2_next_99 : decode cX2_next 99 = .ok (.getfield 47, 3) := dk_180 0 47 (dk_at dksX2_next_4 5 rfl rfl)
theorem dX2_next_102 : decode cX2_next 102 = .ok (.iload_n 1, 1) := dk_27 (dk_at dksX2_next_4 8 rfl rfl)
theorem dX2_next_103 : decode cX2_next 103 = .ok (.isub, 1) := dk_100 (dk_at dksX2_next_4 9 rfl rfl)
theorem dX2_next_104 : decode cX2_next 104 = .ok (.aload_n 0, 1) := dk_42 (dk_at dksX2_next_4 10 rfl rfl)
theorem dX2_next_105 : decode cX2_next 105 = .ok (.aload_n 0, 1) := dk_42 (dk_at dksX2_next_4 11 rfl rfl)
theorem dX2_next_106 : decode cX2_next 106 = .ok (.getfield 47, 3) := dk_180 0 47 (dk_at dksX2_next_4 12 rfl rfl)
theorem dX2_next_109 : decode cX2_next 109 = .ok (.invokevirtual 50, 3) := dk_182 0 50 (dk_at dksX2_next_4 15 rfl rfl)
theorem dX2_next_112 : decode cX2_next 112 = .ok (.i2c, 1) := dk_146 (dk_at dksX2_next_4 18 rfl rfl)
theorem dX2_next_113 : decode cX2_next 113 = .ok (.castore, 1) := dk_85 (dk_at dksX2_next_4 19 rfl rfl)
theorem dX2_next_114 : decode cX2_next 114 = .ok (.aload_n 0, 1) := dk_42 (dk_at dksX2_next_4 20 rfl rfl)
theorem dX2_next_115 : decode cX2_next 115 = .ok (.dup, 1) := dk_89 (dk_at dksX2_next_4 21 rfl rfl)
theorem dX2_next_116 : decode cX2_next 116 = .ok (.getfield 47, 3) := dk_180 0 47 (dk_at dksX2_next_5 0 rfl rfl)
theorem dX2_next_119 : decode cX2_next 119 = .ok (.iconst 1, 1) := dk_4 (dk_at dksX2_next_5 3 rfl rfl)
theorem dX2_next_120 : decode cX2_next 120 = .ok (.iadd, 1) := dk_96 (dk_at dksX2_next_5 4 rfl rfl)
theorem dX2_next_121 : decode cX2_next 121 = .ok (.putfield 47, 3) := dk_181 0 47 (dk_at dksX2_next_5 5 rfl rfl)
theorem dX2_next_124 : decode cX2_next 124 = .ok (.goto (-55), 3) := dk_167 255 201 (dk_at dksX2_next_5 8 rfl rfl)
theorem dX2_next_127 : decode cX2_next 127 = .ok (.aload_n 0, 1) := dk_42 (dk_at dksX2_next_5 11 rfl rfl)
theorem dX2_next_128 : decode cX2_next 128 = .ok (.aload_n 0, 1) := dk_42 (dk_at dksX2_next_5 12 rfl rfl)
theorem dX2_next_129 : decode cX2_next 129 = .ok (.getfield 47, 3) := dk_180 0 47 (dk_at dksX2_next_5 13 rfl rfl)
theorem dX2_next_132 : decode cX2_next 132 = .ok (.iload_n 1, 1) := dk_27 (dk_at dksX2_next_5 16 rfl rfl)
theorem dX2_next_133 : decode cX2_next 133 = .ok (.isub, 1) := dk_100 (dk_at dksX2_next_5 17 rfl rfl)
theorem dX2_next_134 : decode cX2_next 134 = .ok (.bipush 8, 2) := dk_16 8 (dk_at dksX2_next_5 18 rfl rfl)
theorem dX2_next_136 : decode cX2_next 136 = .ok (.if_icmp .le 7, 3) := dk_164 0 7 (dk_at dksX2_next_5 20 rfl rfl)
theorem dX2_next_139 : decode cX2_next 139 = .ok (.iconst 1, 1) := dk_4 (dk_at dksX2_next_5 23 rfl rfl)
theorem dX2_next_140 : decode cX2_next 140 = .ok (.goto 4, 3) := dk_167 0 4 (dk_at dksX2_next_6 0 rfl rfl)
theorem dX2_next_143 : decode cX2_next 143 = .ok (.iconst 2, 1) := dk_5 (dk_at dksX2_next_6 3 rfl rfl)
theorem dX2_next_144 : decode cX2_next 144 = .ok (.putfield 54, 3) := dk_181 0 54 (dk_at dksX2_next_6 4 rfl rfl)
theorem dX2_next_147 : decode cX2_next 147 = .ok (.aload_n 0, 1) := dk_42 (dk_at dksX2_next_6 7 rfl rfl)
theorem dX2_next_148 : decode cX2_next 148 = .ok (.aload_n 0, 1) := dk_42 (dk_at dksX2_next_6 8 rfl rfl)
theorem dX2_next_149 : decode cX2_next 149 = .ok (.getfield 54, 3) := dk_180 0 54 (dk_at dksX2_next_6 9 rfl rfl)
theorem dX2_next_152 : decode cX2_next 152 = .ok (.iconst 2, 1) := dk_5 (dk_at dksX2_next_6 12 rfl rfl)
theorem dX2_next_153 : decode cX2_next 153 = .ok (.if_icmp .ne 24, 3) := dk_160 0 24 (dk_at dksX2_next_6 13 rfl rfl)
theorem dX2_next_156 : decode cX2_next 156 = .ok (.new 61, 3) := dk_187 0 61 (dk_at dksX2_next_6 16 rfl rfl)
theorem dX2_next_159 : decode cX2_next 159 = .ok (.dup, 1) := dk_89 (dk_at dksX2_next_6 19 rfl rfl)
theorem dX2_next_160 : decode cX2_next 160 = .ok (.aload_n 0, 1) := dk_42 (dk_at dksX2_next_6 20 rfl rfl)
theorem dX2_next_161 : decode cX2_next 161 = .ok (.getfield 18, 3) := dk_180 0 18 (dk_at dksX2_next_6 21 rfl rfl)
theorem dX2_next_164 : decode cX2_next 164 = .ok (.iconst 0, 1) := dk_3 (dk_at dksX2_next_7 0 rfl rfl)
theorem dX2_next_165 : decode cX2_next 165 = .ok (.aload_n 0, 1) := dk_42 (dk_at dksX2_next_7 1 rfl rfl)
theorem dX2_next_166 : decode cX2_next 166 = .ok (.getfield 47, 3) := dk_180 0 47 (dk_at dksX2_next_7 2 rfl rfl)
theorem dX2_next_169 : decode cX2_next 169 = .ok (.iload_n 1, 1) := dk_27 (dk_at dksX2_next_7 5 rfl rfl)
theorem dX2_next_170 : decode cX2_next 170 = .ok (.isub, 1) := dk_100 (dk_at dksX2_next_7 6 rfl rfl)
theorem dX2_next_171 : decode cX2_next 171 = .ok (.invokespecial 63, 3) := dk_183 0 63 (dk_at dksX2_next_7 7 rfl rfl)
theorem dX2_next_174 : decode cX2_next 174 = .ok (.goto 5, 3) := dk_167 0 5 (dk_at dksX2_next_7 10 rfl rfl)
theorem dX2_next_177 : decode cX2_next 177 = .ok (.ldc 66, 2) := dk_18 66 (dk_at dksX2_next_7 13 rfl rfl)
theorem dX2_next_179 : decode cX2_next 179 = .ok (.putfield 68, 3) := dk_181 0 68 (dk_at dksX2_next_7 15 rfl rfl)
theorem dX2_next_182 : decode cX2_next 182 = .ok (.goto 123, 3) := dk_167 0 123 (dk_at dksX2_next_7 18 rfl rfl)
theorem dX2_next_185 : decode cX2_next 185 = .ok (.iload_n 2, 1) := dk_28 (dk_at dksX2_next_7 21 rfl rfl)
theorem dX2_next_186 : decode cX2_next 186 = .ok (.invokestatic 72, 3) := dk_184 0 72 (dk_at dksX2_next_8 0 rfl rfl)
theorem dX2_next_189 : decode cX2_next 189 = .ok (.ifCond .eq 95, 3) := dk_153 0 95 (dk_at dksX2_next_8 3 rfl rfl)
theorem dX2_next_192 : decode cX2_next 192 = .ok (.aload_n 0, 1) := dk_42 (dk_at dksX2_next_8 6 rfl rfl)
theorem dX2_next_193 : decode cX2_next 193 = .ok (.iconst 0, 1) := dk_3 (dk_at dksX2_next_8 7 rfl rfl)
theorem dX2_next_194 : decode cX2_next 194 = .ok (.putfield 75, 3) := dk_181 0 75 (dk_at dksX2_next_8 8 rfl rfl)
theorem dX2_next_197 : decode cX2_next 197 = .ok (.aload_n 0, 1) := dk_42 (dk_at dksX2_next_8 11 rfl rfl)
theorem dX2_next_198 : decode cX2_next 198 = .ok (.iload_n 1, 1) := dk_27 (dk_at dksX2_next_8 12 rfl rfl)
theorem dX2_next_199 : decode cX2_next 199 = .ok (.putfield 47, 3) := dk_181 0 47 (dk_at dksX2_next_8 13 rfl rfl)
theorem dX2_next_202 : decode cX2_next 202 = .ok (.aload_n 0, 1) := dk_42 (dk_at dksX2_next_8 16 rfl rfl)
theorem dX2_next_203 : decode cX2_next 203 = .ok (.aload_n 0, 1) := dk_42 (dk_at dksX2_next_8 17 rfl rfl)
theorem dX2_next_204 : decode cX2_next 204 = .ok (.getfield 47, 3) := dk_180 0 47 (dk_at dksX2_next_8 18 rfl rfl)
theorem dX2_next_207 : decode cX2_next 207 = .ok (.invokevirtual 50, 3) := dk_182 0 50 (dk_at dksX2_next_8 21 rfl rfl)
theorem dX2_next_210 : decode cX2_next 210 = .ok (.invokestatic 72, 3) := dk_184 0 72 (dk_at dksX2_next_9 0 rfl rfl)
theorem dX2_next_213 : decode cX2_next 213 = .ok (.ifCond .eq 49, 3) := dk_153 0 49 (dk_at dksX2_next_9 3 rfl rfl)
theorem dX2_next_216 : decode cX2_next 216 = .ok (.aload_n 0, 1) := dk_42 (dk_at dksX2_next_9 6 rfl rfl)
theorem dX2_next_217 : decode cX2_next 217 = .ok (.getfield 47, 3) := dk_180 0 47 (dk_at dksX2_next_9 7 rfl rfl)
theorem dX2_next_220 : decode cX2_next 220 = .ok (.iload_n 1, 1) := dk_27 (dk_at dksX2_next_9 10 rfl rfl)
theorem dX2_next_221 : decode cX2_next 221 = .ok (.isub, 1) := dk_100 (dk_at dksX2_next_9 11 rfl rfl)
theorem dX2_next_222 : decode cX2_next 222 = .ok (.iconst 3, 1) := dk_6 (dk_at dksX2_next_9 12 rfl rfl)
theorem dX2_next_223 : decode cX2_next 223 = .ok (.if_icmp .ge 26, 3) := dk_162 0 26 (dk_at dksX2_next_9 13 rfl rfl)
theorem dX2_next_226 : decode cX2_next 226 = .ok (.aload_n 0, 1) := dk_42 (dk_at dksX2_next_9 16 rfl rfl)
theorem dX2_next_227 : decode cX2_next 227 = .ok (.bipush 10, 2) := dk_16 10 (dk_at dksX2_next_9 17 rfl rfl)
theorem dX2_next_229 : decode cX2_next 229 = .ok (.aload_n 0, 1) := dk_42 (dk_at dksX2_next_9 19 rfl rfl)
theorem dX2_next_230 : decode cX2_next 230 = .ok (.getfield 75, 3) := dk_180 0 75 (dk_at dksX2_next_9 20 rfl rfl)
theorem dX2_next_233 : decode cX2_next 233 = .ok (.imul, 1) := dk_104 (dk_at dksX2_next_9 23 rfl rfl)
theorem dX2_next_234 : decode cX2_next 234 = .ok (.aload_n 0, 1) := dk_42 (dk_at dksX2_next_10 0 rfl rfl)
theorem dX2_next_235 : decode cX2_next 235 = .ok (.aload_n 0, 1) := dk_42 (dk_at dksX2_next_10 1 rfl rfl)
theorem dX2_next_236 : decode cX2_next 236 = .ok (.getfield 47, 3) := dk_180 0 47 (dk_at dksX2_next_10 2 rfl rfl)
theorem dX2_next_239 : decode cX2_next 239 = .ok (.invokevirtual 50, 3) := dk_182 0 50 (dk_at dksX2_next_10 5 rfl rfl)
theorem dX2_next_242 : decode cX2_next 242 = .ok (.iadd, 1) := dk_96 (dk_at dksX2_next_10 8 rfl rfl)
theorem dX2_next_243 : decode cX2_next 243 = .ok (.bipush 48, 2) := dk_16 48 (dk_at dksX2_next_10 9 rfl rfl)
theorem dX2_next_245 : decode cX2_next 245 = .ok (.isub, 1) := dk_100 (dk_at dksX2_next_10 11 rfl rfl)
theorem dX2_next_246 : decode cX2_next 246 = .ok (.putfield 75, 3) := dk_181 0 75 (dk_at dksX2_next_10 12 rfl rfl)
theorem dX2_next_249 : decode cX2_next 249 = .ok (.aload_n 0, 1) := dk_42 (dk_at dksX2_next_10 15 rfl rfl)
theorem dX2_next_250 : decode cX2_next 250 = .ok (.dup, 1) := dk_89 (dk_at dksX2_next_10 16 rfl rfl)
theorem dX2_next_251 : decode cX2_next 251 = .ok (.getfield 47, 3) := dk_180 0 47 (dk_at dksX2_next_10 17 rfl rfl)
theorem dX2_next_254 : decode cX2_next 254 = .ok (.iconst 1, 1) := dk_4 (dk_at dksX2_next_10 20 rfl rfl)
theorem dX2_next_255 : decode cX2_next 255 = .ok (.iadd, 1) := dk_96 (dk_at dksX2_next_10 21 rfl rfl)
theorem dX2_next_256 : decode cX2_next 256 = .ok (.putfield 47, 3) := dk_181 0 47 (dk_at dksX2_next_11 0 rfl rfl)
theorem dX2_next_259 : decode cX2_next 259 = .ok (.goto (-57), 3) := dk_167 255 199 (dk_at dksX2_next_11 3 rfl rfl)
theorem dX2_next_262 : decode cX2_next 262 = .ok (.aload_n 0, 1) := dk_42 (dk_at dksX2_next_11 6 rfl rfl)
theorem dX2_next_263 : decode cX2_next 263 = .ok (.aload_n 0, 1) := dk_42 (dk_at dksX2_next_11 7 rfl rfl)
theorem dX2_next_264 : decode cX2_next 264 = .ok (.getfield 47, 3) := dk_180 0 47 (dk_at dksX2_next_11 8 rfl rfl)
theorem dX2_next_267 : decode cX2_next 267 = .ok (.iload_n 1, 1) := dk_27 (dk_at dksX2_next_11 11 rfl rfl)
theorem dX2_next_268 : decode cX2_next 268 = .ok (.isub, 1) := dk_100 (dk_at dksX2_next_11 12 rfl rfl)
theorem dX2_next_269 : decode cX2_next 269 = .ok (.iconst 3, 1) := dk_6 (dk_at dksX2_next_11 13 rfl rfl)
theorem dX2_next_270 : decode cX2_next 270 = .ok (.if_icmp .le 7, 3) := dk_164 0 7 (dk_at dksX2_next_11 14 rfl rfl)
theorem dX2_next_273 : decode cX2_next 273 = .ok (.iconst 1, 1) := dk_4 (dk_at dksX2_next_11 17 rfl rfl)
theorem dX2_next_274 : decode cX2_next 274 = .ok (.goto 4, 3) := dk_167 0 4 (dk_at dksX2_next_11 18 rfl rfl)
theorem dX2_next_277 : decode cX2_next 277 = .ok (.iconst 3, 1) := dk_6 (dk_at dksX2_next_11 21 rfl rfl)
theorem dX2_next_278 : decode cX2_next 278 = .ok (.putfield 54, 3) := dk_181 0 54 (dk_at dksX2_next_12 0 rfl rfl)
theorem dX2_next_281 : decode cX2_next 281 = .ok (.goto 24, 3) := dk_167 0 24 (dk_at dksX2_next_12 3 rfl rfl)
theorem dX2_next_284 : decode cX2_next 284 = .ok (.aload_n 0, 1) := dk_42 (dk_at dksX2_next_12 6 rfl rfl)
theorem dX2_next_285 : decode cX2_next 285 = .ok (.iload_n 2, 1) := dk_28 (dk_at dksX2_next_12 7 rfl rfl)
theorem dX2_next_286 : decode cX2_next 286 = .ok (.bipush 59, 2) := dk_16 59 (dk_at dksX2_next_12 8 rfl rfl)
theorem dX2_next_288 : decode cX2_next 288 = .ok (.if_icmp .eq 9, 3) := dk_159 0 9 (dk_at dksX2_next_12 10 rfl rfl)
theorem dX2_next_291 : decode cX2_next 291 = .ok (.iload_n 2, 1) := dk_28 (dk_at dksX2_next_12 13 rfl rfl)
theorem dX2_next_292 : decode cX2_next 292 = .ok (.bipush 44, 2) := dk_16 44 (dk_at dksX2_next_12 14 rfl rfl)
theorem dX2_next_294 : decode cX2_next 294 = .ok (.if_icmp .ne 7, 3) := dk_160 0 7 (dk_at dksX2_next_12 16 rfl rfl)
theorem dX2_next_297 : decode cX2_next 297 = .ok (.iload_n 2, 1) := dk_28 (dk_at dksX2_next_12 19 rfl rfl)
theorem dX2_next_298 : decode cX2_next 298 = .ok (.goto 4, 3) := dk_167 0 4 (dk_at dksX2_next_12 20 rfl rfl)
theorem dX2_next_301 : decode cX2_next 301 = .ok (.iconst 1, 1) := dk_4 (dk_at dksX2_next_12 23 rfl rfl)
theorem dX2_next_302 : decode cX2_next 302 = .ok (.putfield 54, 3) := dk_181 0 54 (dk_at dksX2_next_13 0 rfl rfl)
theorem dX2_next_305 : decode cX2_next 305 = .ok (.return_, 1) := dk_177 (dk_at dksX2_next_13 3 rfl rfl)
abbrev cX2_see : ByteArray := prog_8_method_4_code
def yX2_see : MethodName := ⟨RX2, "see", "(I)I"⟩
def dkwX2_see_0 : List UInt8 := [27, 42, 180, 0, 40, 162, 0, 16, 42, 180, 0, 29, 27, 51, 17, 0, 255, 126, 167, 0, 4, 2, 172]
abbrev dktX2_see_0 : List UInt8 := dkwX2_see_0 ++ []
theorem dksX2_see_0 : cX2_see.data.toList.drop 0 = dktX2_see_0 := by decide +kernel
theorem dX2_see_0 : decode cX2_see 0 = .ok (.iload_n 1, 1) := dk_27 (dk_at dksX2_see_0 0 rfl rfl)
theorem dX2_see_1 : decode cX2_see 1 = .ok (.aload_n 0, 1) := dk_42 (dk_at dksX2_see_0 1 rfl rfl)
theorem dX2_see_2 : decode cX2_see 2 = .ok (.getfield 40, 3) := dk_180 0 40 (dk_at dksX2_see_0 2 rfl rfl)
theorem dX2_see_5 : decode cX2_see 5 = .ok (.if_icmp .ge 16, 3) := dk_162 0 16 (dk_at dksX2_see_0 5 rfl rfl)
theorem dX2_see_8 : decode cX2_see 8 = .ok (.aload_n 0, 1) := dk_42 (dk_at dksX2_see_0 8 rfl rfl)
theorem dX2_see_9 : decode cX2_see 9 = .ok (.getfield 29, 3) := dk_180 0 29 (dk_at dksX2_see_0 9 rfl rfl)
theorem dX2_see_12 : decode cX2_see 12 = .ok (.iload_n 1, 1) := dk_27 (dk_at dksX2_see_0 12 rfl rfl)
theorem dX2_see_13 : decode cX2_see 13 = .ok (.baload, 1) := dk_51 (dk_at dksX2_see_0 13 rfl rfl)
theorem dX2_see_14 : decode cX2_see 14 = .ok (.sipush 255, 3) := dk_17 0 255 (dk_at dksX2_see_0 14 rfl rfl)
theorem dX2_see_17 : decode cX2_see 17 = .ok (.iand, 1) := dk_126 (dk_at dksX2_see_0 17 rfl rfl)
theorem dX2_see_18 : decode cX2_see 18 = .ok (.goto 4, 3) := dk_167 0 4 (dk_at dksX2_see_0 18 rfl rfl)
theorem dX2_see_21 : decode cX2_see 21 = .ok (.iconst (-1), 1) := dk_2 (dk_at dksX2_see_0 21 rfl rfl)
theorem dX2_see_22 : decode cX2_see 22 = .ok (.ireturn, 1) := dk_172 (dk_at dksX2_see_0 22 rfl rfl)
abbrev cX2_isSmall : ByteArray := prog_8_method_5_code
def yX2_isSmall : MethodName := ⟨RX2, "isSmall", "(I)Z"⟩
def dkwX2_isSmall_0 : List UInt8 := [26, 16, 97, 16, 122, 184, 0, 43, 172]
abbrev dktX2_isSmall_0 : List UInt8 := dkwX2_isSmall_0 ++ []
theorem dksX2_isSmall_0 : cX2_isSmall.data.toList.drop 0 = dktX2_isSmall_0 := by decide +kernel
theorem dX2_isSmall_0 : decode cX2_isSmall 0 = .ok (.iload_n 0, 1) := dk_26 (dk_at dksX2_isSmall_0 0 rfl rfl)
theorem dX2_isSmall_1 : decode cX2_isSmall 1 = .ok (.bipush 97, 2) := dk_16 97 (dk_at dksX2_isSmall_0 1 rfl rfl)
theorem dX2_isSmall_3 : decode cX2_isSmall 3 = .ok (.bipush 122, 2) := dk_16 122 (dk_at dksX2_isSmall_0 3 rfl rfl)
theorem dX2_isSmall_5 : decode cX2_isSmall 5 = .ok (.invokestatic 43, 3) := dk_184 0 43 (dk_at dksX2_isSmall_0 5 rfl rfl)
theorem dX2_isSmall_8 : decode cX2_isSmall 8 = .ok (.ireturn, 1) := dk_172 (dk_at dksX2_isSmall_0 8 rfl rfl)
abbrev cX2_isDigit : ByteArray := prog_8_method_6_code
def yX2_isDigit : MethodName := ⟨RX2, "isDigit", "(I)Z"⟩
def dkwX2_isDigit_0 : List UInt8 := [26, 16, 48, 16, 57, 184, 0, 43, 172]
abbrev dktX2_isDigit_0 : List UInt8 := dkwX2_isDigit_0 ++ []
theorem dksX2_isDigit_0 : cX2_isDigit.data.toList.drop 0 = dktX2_isDigit_0 := by decide +kernel
theorem dX2_isDigit_0 : decode cX2_isDigit 0 = .ok (.iload_n 0, 1) := dk_26 (dk_at dksX2_isDigit_0 0 rfl rfl)
theorem dX2_isDigit_1 : decode cX2_isDigit 1 = .ok (.bipush 48, 2) := dk_16 48 (dk_at dksX2_isDigit_0 1 rfl rfl)
theorem dX2_isDigit_3 : decode cX2_isDigit 3 = .ok (.bipush 57, 2) := dk_16 57 (dk_at dksX2_isDigit_0 3 rfl rfl)
theorem dX2_isDigit_5 : decode cX2_isDigit 5 = .ok (.invokestatic 43, 3) := dk_184 0 43 (dk_at dksX2_isDigit_0 5 rfl rfl)
theorem dX2_isDigit_8 : decode cX2_isDigit 8 = .ok (.ireturn, 1) := dk_172 (dk_at dksX2_isDigit_0 8 rfl rfl)
abbrev cX2_line : ByteArray := prog_8_method_23_code
def yX2_line : MethodName := ⟨RX2, "line", "()V"⟩
def dkwX2_line_14 : List UInt8 := [42, 182, 0, 203, 167, 0, 9, 42, 4, 182, 0, 89, 191, 177]
abbrev dktX2_line_14 : List UInt8 := dkwX2_line_14 ++ []
def dkwX2_line_13 : List UInt8 := [167, 0, 37, 42, 182, 0, 197, 167, 0, 30, 42, 182, 0, 199, 167, 0, 23, 42, 182, 0, 201, 167, 0, 16]
abbrev dktX2_line_13 : List UInt8 := dkwX2_line_13 ++ dktX2_line_14
def dkwX2_line_12 : List UInt8 := [182, 0, 188, 167, 0, 58, 42, 182, 0, 191, 167, 0, 51, 42, 182, 0, 193, 167, 0, 44, 42, 182, 0, 195]
abbrev dktX2_line_12 : List UInt8 := dkwX2_line_12 ++ dktX2_line_13
def dkwX2_line_11 : List UInt8 := [42, 182, 0, 181, 167, 0, 79, 42, 182, 0, 184, 167, 0, 72, 42, 182, 0, 186, 167, 0, 65, 42]
abbrev dktX2_line_11 : List UInt8 := dkwX2_line_11 ++ dktX2_line_12
def dkwX2_line_10 : List UInt8 := [170, 0, 0, 0, 0, 0, 136, 0, 0, 0, 0, 0, 0, 0, 10, 0, 0, 0, 59, 0, 0, 0, 66, 0, 0, 0, 73, 0, 0, 0, 80, 0, 0, 0, 87, 0, 0, 0, 94, 0, 0, 0, 101, 0, 0, 0, 108, 0, 0, 0, 115, 0, 0, 0, 122, 0, 0, 0, 129]
abbrev dktX2_line_10 : List UInt8 := dkwX2_line_10 ++ dktX2_line_11
def dkwX2_line_9 : List UInt8 := [167, 0, 15, 43, 18, 117, 182, 0, 78, 153, 0, 6, 16, 10, 61, 28]
abbrev dktX2_line_9 : List UInt8 := dkwX2_line_9 ++ dktX2_line_10
def dkwX2_line_8 : List UInt8 := [182, 0, 78, 153, 0, 36, 16, 8, 61, 167, 0, 30, 43, 18, 115, 182, 0, 78, 153, 0, 21, 16, 9, 61]
abbrev dktX2_line_8 : List UInt8 := dkwX2_line_8 ++ dktX2_line_9
def dkwX2_line_7 : List UInt8 := [61, 167, 0, 60, 43, 18, 111, 182, 0, 78, 153, 0, 51, 16, 7, 61, 167, 0, 45, 43, 18, 113]
abbrev dktX2_line_7 : List UInt8 := dkwX2_line_7 ++ dktX2_line_8
def dkwX2_line_6 : List UInt8 := [18, 107, 182, 0, 78, 153, 0, 80, 8, 61, 167, 0, 75, 43, 18, 109, 182, 0, 78, 153, 0, 66, 16, 6]
abbrev dktX2_line_6 : List UInt8 := dkwX2_line_6 ++ dktX2_line_7
def dkwX2_line_5 : List UInt8 := [153, 0, 108, 6, 61, 167, 0, 103, 43, 18, 105, 182, 0, 78, 153, 0, 94, 7, 61, 167, 0, 89, 43]
abbrev dktX2_line_5 : List UInt8 := dkwX2_line_5 ++ dktX2_line_6
def dkwX2_line_4 : List UInt8 := [61, 167, 0, 131, 43, 18, 101, 182, 0, 78, 153, 0, 122, 5, 61, 167, 0, 117, 43, 18, 103, 182, 0, 78]
abbrev dktX2_line_4 : List UInt8 := dkwX2_line_4 ++ dktX2_line_5
def dkwX2_line_3 : List UInt8 := [43, 18, 97, 182, 0, 78, 153, 0, 150, 3, 61, 167, 0, 145, 43, 18, 99, 182, 0, 78, 153, 0, 136, 4]
abbrev dktX2_line_3 : List UInt8 := dkwX2_line_3 ++ dktX2_line_4
def dkwX2_line_2 : List UInt8 := [171, 0, 0, 0, 0, 0, 255, 0, 0, 0, 11, 0, 46, 174, 145, 0, 0, 0, 228, 0, 48, 206, 230, 0, 0, 0, 183, 0, 50, 145, 235, 0, 0, 0, 99, 0, 53, 229, 125, 0, 0, 0, 169, 0, 55, 145, 202, 0, 0, 0, 198, 5, 237, 199, 32, 0, 0, 0, 155, 6, 78, 205, 20, 0, 0, 0, 213, 6, 135, 164, 11, 0, 0, 0, 243, 6, 138, 248, 101, 0, 0, 0, 141, 6, 186, 197, 23, 0, 0, 0, 127, 6, 216, 127, 214, 0, 0, 0, 113]
abbrev dktX2_line_2 : List UInt8 := dkwX2_line_2 ++ dktX2_line_3
def dkwX2_line_1 : List UInt8 := [182, 0, 93]
abbrev dktX2_line_1 : List UInt8 := dkwX2_line_1 ++ dktX2_line_2
def dkwX2_line_0 : List UInt8 := [42, 180, 0, 54, 5, 159, 0, 9, 42, 4, 182, 0, 89, 191, 42, 180, 0, 68, 76, 2, 61, 43]
abbrev dktX2_line_0 : List UInt8 := dkwX2_line_0 ++ dktX2_line_1
theorem dksX2_line_0 : cX2_line.data.toList.drop 0 = dktX2_line_0 := by decide +kernel
theorem dksX2_line_1 : cX2_line.data.toList.drop 22 = dktX2_line_1 := dk_seg dksX2_line_0 22 rfl rfl
theorem dksX2_line_2 : cX2_line.data.toList.drop 25 = dktX2_line_2 := dk_seg dksX2_line_1 3 rfl rfl
theorem dksX2_line_3 : cX2_line.data.toList.drop 124 = dktX2_line_3 := dk_seg dksX2_line_2 99 rfl rfl
theorem dksX2_line_4 : cX2_line.data.toList.drop 148 = dktX2_line_4 := dk_seg dksX2_line_3 24 rfl rfl
theorem dksX2_line_5 : cX2_line.data.toList.drop 172 = dktX2_line_5 := dk_seg dksX2_line_4 24 rfl rfl
theorem dksX2_line_6 : cX2_line.data.toList.drop 195 = dktX2_line_6 := dk_seg dksX2_line_5 23 rfl rfl
theorem dksX2_line_7 : cX2_line.data.toList.drop 219 = dktX2_line_7 := dk_seg dksX2_line_6 24 rfl rfl
theorem dksX2_line_8 : cX2_line.data.toList.drop 241 = dktX2_line_8 := dk_seg dksX2_line_7 22 rfl rfl
theorem dksX2_line_9 : cX2_line.data.toList.drop 265 = dktX2_line_9 := dk_seg dksX2_line_8 24 rfl rfl
theorem dksX2_line_10 : cX2_line.data.toList.drop 281 = dktX2_line_10 := dk_seg dksX2_line_9 16 rfl rfl
theorem dksX2_line_11 : cX2_line.data.toList.drop 340 = dktX2_line_11 := dk_seg dksX2_line_10 59 rfl rfl
theorem dksX2_line_12 : cX2_line.data.toList.drop 362 = dktX2_line_12 := dk_seg dksX2_line_11 22 rfl rfl
theorem dksX2_line_13 : cX2_line.data.toList.drop 386 = dktX2_line_13 := dk_seg dksX2_line_12 24 rfl rfl
theorem dksX2_line_14 : cX2_line.data.toList.drop 410 = dktX2_line_14 := dk_seg dksX2_line_13 24 rfl rfl
theorem dX2_line_0 : decode cX2_line 0 = .ok (.aload_n 0, 1) := dk_42 (dk_at dksX2_line_0 0 rfl rfl)
theorem dX2_line_1 : decode cX2_line 1 = .ok (.getfield 54, 3) := dk_180 0 54 (dk_at dksX2_line_0 1 rfl rfl)
theorem dX2_line_4 : decode cX2_line 4 = .ok (.iconst 2, 1) := dk_5 (dk_at dksX2_line_0 4 rfl rfl)
theorem dX2_line_5 : decode cX2_line 5 = .ok (.if_icmp .eq 9, 3) := dk_159 0 9 (dk_at dksX2_line_0 5 rfl rfl)
theorem dX2_line_8 : decode cX2_line 8 = .ok (.aload_n 0, 1) := dk_42 (dk_at dksX2_line_0 8 rfl rfl)
theorem dX2_line_9 : decode cX2_line 9 = .ok (.iconst 1, 1) := dk_4 (dk_at dksX2_line_0 9 rfl rfl)
theorem dX2_line_10 : decode cX2_line 10 = .ok (.invokevirtual 89, 3) := dk_182 0 89 (dk_at dksX2_line_0 10 rfl rfl)
theorem dX2_line_13 : decode cX2_line 13 = .ok (.athrow, 1) := dk_191 (dk_at dksX2_line_0 13 rfl rfl)
theorem dX2_line_14 : decode cX2_line 14 = .ok (.aload_n 0, 1) := dk_42 (dk_at dksX2_line_0 14 rfl rfl)
theorem dX2_line_15 : decode cX2_line 15 = .ok (.getfield 68, 3) := dk_180 0 68 (dk_at dksX2_line_0 15 rfl rfl)
theorem dX2_line_18 : decode cX2_line 18 = .ok (.astore_n 1, 1) := dk_76 (dk_at dksX2_line_0 18 rfl rfl)
theorem dX2_line_19 : decode cX2_line 19 = .ok (.iconst (-1), 1) := dk_2 (dk_at dksX2_line_0 19 rfl rfl)
theorem dX2_line_20 : decode cX2_line 20 = .ok (.istore_n 2, 1) := dk_61 (dk_at dksX2_line_0 20 rfl rfl)
theorem dX2_line_21 : decode cX2_line 21 = .ok (.aload_n 1, 1) := dk_43 (dk_at dksX2_line_0 21 rfl rfl)
theorem dX2_line_22 : decode cX2_line 22 = .ok (.invokevirtual 93, 3) := dk_182 0 93 (dk_at dksX2_line_1 0 rfl rfl)
theorem dX2_line_25 : decode cX2_line 25 = .ok (.lookupswitch 255 #[(3059345, 228), (3198694, 183), (3314155, 99), (3532157, 169), (3641802, 198), (99469088, 155), (105827604, 213), (109552651, 243), (109770853, 141), (112903447, 127), (114851798, 113)], 99) := by decide +kernel
theorem dX2_line_124 : decode cX2_line 124 = .ok (.aload_n 1, 1) := dk_43 (dk_at dksX2_line_3 0 rfl rfl)
theorem dX2_line_125 : decode cX2_line 125 = .ok (.ldc 97, 2) := dk_18 97 (dk_at dksX2_line_3 1 rfl rfl)
theorem dX2_line_127 : decode cX2_line 127 = .ok (.invokevirtual 78, 3) := dk_182 0 78 (dk_at dksX2_line_3 3 rfl rfl)
theorem dX2_line_130 : decode cX2_line 130 = .ok (.ifCond .eq 150, 3) := dk_153 0 150 (dk_at dksX2_line_3 6 rfl rfl)
theorem dX2_line_133 : decode cX2_line 133 = .ok (.iconst 0, 1) := dk_3 (dk_at dksX2_line_3 9 rfl rfl)
theorem dX2_line_134 : decode cX2_line 134 = .ok (.istore_n 2, 1) := dk_61 (dk_at dksX2_line_3 10 rfl rfl)
theorem dX2_line_135 : decode cX2_line 135 = .ok (.goto 145, 3) := dk_167 0 145 (dk_at dksX2_line_3 11 rfl rfl)
theorem dX2_line_138 : decode cX2_line 138 = .ok (.aload_n 1, 1) := dk_43 (dk_at dksX2_line_3 14 rfl rfl)
theorem dX2_line_139 : decode cX2_line 139 = .ok (.ldc 99, 2) := dk_18 99 (dk_at dksX2_line_3 15 rfl rfl)
theorem dX2_line_141 : decode cX2_line 141 = .ok (.invokevirtual 78, 3) := dk_182 0 78 (dk_at dksX2_line_3 17 rfl rfl)
theorem dX2_line_144 : decode cX2_line 144 = .ok (.ifCond .eq 136, 3) := dk_153 0 136 (dk_at dksX2_line_3 20 rfl rfl)
theorem dX2_line_147 : decode cX2_line 147 = .ok (.iconst 1, 1) := dk_4 (dk_at dksX2_line_3 23 rfl rfl)
theorem dX2_line_148 : decode cX2_line 148 = .ok (.istore_n 2, 1) := dk_61 (dk_at dksX2_line_4 0 rfl rfl)
theorem dX2_line_149 : decode cX2_line 149 = .ok (.goto 131, 3) := dk_167 0 131 (dk_at dksX2_line_4 1 rfl rfl)
theorem dX2_line_152 : decode cX2_line 152 = .ok (.aload_n 1, 1) := dk_43 (dk_at dksX2_line_4 4 rfl rfl)
theorem dX2_line_153 : decode cX2_line 153 = .ok (.ldc 101, 2) := dk_18 101 (dk_at dksX2_line_4 5 rfl rfl)
theorem dX2_line_155 : decode cX2_line 155 = .ok (.invokevirtual 78, 3) := dk_182 0 78 (dk_at dksX2_line_4 7 rfl rfl)
theorem dX2_line_158 : decode cX2_line 158 = .ok (.ifCond .eq 122, 3) := dk_153 0 122 (dk_at dksX2_line_4 10 rfl rfl)
theorem dX2_line_161 : decode cX2_line 161 = .ok (.iconst 2, 1) := dk_5 (dk_at dksX2_line_4 13 rfl rfl)
theorem dX2_line_162 : decode cX2_line 162 = .ok (.istore_n 2, 1) := dk_61 (dk_at dksX2_line_4 14 rfl rfl)
theorem dX2_line_163 : decode cX2_line 163 = .ok (.goto 117, 3) := dk_167 0 117 (dk_at dksX2_line_4 15 rfl rfl)
theorem dX2_line_166 : decode cX2_line 166 = .ok (.aload_n 1, 1) := dk_43 (dk_at dksX2_line_4 18 rfl rfl)
theorem dX2_line_167 : decode cX2_line 167 = .ok (.ldc 103, 2) := dk_18 103 (dk_at dksX2_line_4 19 rfl rfl)
theorem dX2_line_169 : decode cX2_line 169 = .ok (.invokevirtual 78, 3) := dk_182 0 78 (dk_at dksX2_line_4 21 rfl rfl)
theorem dX2_line_172 : decode cX2_line 172 = .ok (.ifCond .eq 108, 3) := dk_153 0 108 (dk_at dksX2_line_5 0 rfl rfl)
theorem dX2_line_175 : decode cX2_line 175 = .ok (.iconst 3, 1) := dk_6 (dk_at dksX2_line_5 3 rfl rfl)
theorem dX2_line_176 : decode cX2_line 176 = .ok (.istore_n 2, 1) := dk_61 (dk_at dksX2_line_5 4 rfl rfl)
theorem dX2_line_177 : decode cX2_line 177 = .ok (.goto 103, 3) := dk_167 0 103 (dk_at dksX2_line_5 5 rfl rfl)
theorem dX2_line_180 : decode cX2_line 180 = .ok (.aload_n 1, 1) := dk_43 (dk_at dksX2_line_5 8 rfl rfl)
theorem dX2_line_181 : decode cX2_line 181 = .ok (.ldc 105, 2) := dk_18 105 (dk_at dksX2_line_5 9 rfl rfl)
theorem dX2_line_183 : decode cX2_line 183 = .ok (.invokevirtual 78, 3) := dk_182 0 78 (dk_at dksX2_line_5 11 rfl rfl)
theorem dX2_line_186 : decode cX2_line 186 = .ok (.ifCond .eq 94, 3) := dk_153 0 94 (dk_at dksX2_line_5 14 rfl rfl)
theorem dX2_line_189 : decode cX2_line 189 = .ok (.iconst 4, 1) := dk_7 (dk_at dksX2_line_5 17 rfl rfl)
theorem dX2_line_190 : decode cX2_line 190 = .ok (.istore_n 2, 1) := dk_61 (dk_at dksX2_line_5 18 rfl rfl)
theorem dX2_line_191 : decode cX2_line 191 = .ok (.goto 89, 3) := dk_167 0 89 (dk_at dksX2_line_5 19 rfl rfl)
theorem dX2_line_194 : decode cX2_line 194 = .ok (.aload_n 1, 1) := dk_43 (dk_at dksX2_line_5 22 rfl rfl)
theorem dX2_line_195 : decode cX2_line 195 = .ok (.ldc 107, 2) := dk_18 107 (dk_at dksX2_line_6 0 rfl rfl)
theorem dX2_line_197 : decode cX2_line 197 = .ok (.invokevirtual 78, 3) := dk_182 0 78 (dk_at dksX2_line_6 2 rfl rfl)
theorem dX2_line_200 : decode cX2_line 200 = .ok (.ifCond .eq 80, 3) := dk_153 0 80 (dk_at dksX2_line_6 5 rfl rfl)
theorem dX2_line_203 : decode cX2_line 203 = .ok (.iconst 5, 1) := dk_8 (dk_at dksX2_line_6 8 rfl rfl)
theorem dX2_line_204 : decode cX2_line 204 = .ok (.istore_n 2, 1) := dk_61 (dk_at dksX2_line_6 9 rfl rfl)
theorem dX2_line_205 : decode cX2_line 205 = .ok (.goto 75, 3) := dk_167 0 75 (dk_at dksX2_line_6 10 rfl rfl)
theorem dX2_line_208 : decode cX2_line 208 = .ok (.aload_n 1, 1) := dk_43 (dk_at dksX2_line_6 13 rfl rfl)
theorem dX2_line_209 : decode cX2_line 209 = .ok (.ldc 109, 2) := dk_18 109 (dk_at dksX2_line_6 14 rfl rfl)
theorem dX2_line_211 : decode cX2_line 211 = .ok (.invokevirtual 78, 3) := dk_182 0 78 (dk_at dksX2_line_6 16 rfl rfl)
theorem dX2_line_214 : decode cX2_line 214 = .ok (.ifCond .eq 66, 3) := dk_153 0 66 (dk_at dksX2_line_6 19 rfl rfl)
theorem dX2_line_217 : decode cX2_line 217 = .ok (.bipush 6, 2) := dk_16 6 (dk_at dksX2_line_6 22 rfl rfl)
theorem dX2_line_219 : decode cX2_line 219 = .ok (.istore_n 2, 1) := dk_61 (dk_at dksX2_line_7 0 rfl rfl)
theorem dX2_line_220 : decode cX2_line 220 = .ok (.goto 60, 3) := dk_167 0 60 (dk_at dksX2_line_7 1 rfl rfl)
theorem dX2_line_223 : decode cX2_line 223 = .ok (.aload_n 1, 1) := dk_43 (dk_at dksX2_line_7 4 rfl rfl)
theorem dX2_line_224 : decode cX2_line 224 = .ok (.ldc 111, 2) := dk_18 111 (dk_at dksX2_line_7 5 rfl rfl)
theorem dX2_line_226 : decode cX2_line 226 = .ok (.invokevirtual 78, 3) := dk_182 0 78 (dk_at dksX2_line_7 7 rfl rfl)
theorem dX2_line_229 : decode cX2_line 229 = .ok (.ifCond .eq 51, 3) := dk_153 0 51 (dk_at dksX2_line_7 10 rfl rfl)
theorem dX2_line_232 : decode cX2_line 232 = .ok (.bipush 7, 2) := dk_16 7 (dk_at dksX2_line_7 13 rfl rfl)
theorem dX2_line_234 : decode cX2_line 234 = .ok (.istore_n 2, 1) := dk_61 (dk_at dksX2_line_7 15 rfl rfl)
theorem dX2_line_235 : decode cX2_line 235 = .ok (.goto 45, 3) := dk_167 0 45 (dk_at dksX2_line_7 16 rfl rfl)
theorem dX2_line_238 : decode cX2_line 238 = .ok (.aload_n 1, 1) := dk_43 (dk_at dksX2_line_7 19 rfl rfl)
theorem dX2_line_239 : decode cX2_line 239 = .ok (.ldc 113, 2) := dk_18 113 (dk_at dksX2_line_7 20 rfl rfl)
theorem dX2_line_241 : decode cX2_line 241 = .ok (.invokevirtual 78, 3) := dk_182 0 78 (dk_at dksX2_line_8 0 rfl rfl)
theorem dX2_line_244 : decode cX2_line 244 = .ok (.ifCond .eq 36, 3) := dk_153 0 36 (dk_at dksX2_line_8 3 rfl rfl)
theorem dX2_line_247 : decode cX2_line 247 = .ok (.bipush 8, 2) := dk_16 8 (dk_at dksX2_line_8 6 rfl rfl)
theorem dX2_line_249 : decode cX2_line 249 = .ok (.istore_n 2, 1) := dk_61 (dk_at dksX2_line_8 8 rfl rfl)
theorem dX2_line_250 : decode cX2_line 250 = .ok (.goto 30, 3) := dk_167 0 30 (dk_at dksX2_line_8 9 rfl rfl)
theorem dX2_line_253 : decode cX2_line 253 = .ok (.aload_n 1, 1) := dk_43 (dk_at dksX2_line_8 12 rfl rfl)
theorem dX2_line_254 : decode cX2_line 254 = .ok (.ldc 115, 2) := dk_18 115 (dk_at dksX2_line_8 13 rfl rfl)
theorem dX2_line_256 : decode cX2_line 256 = .ok (.invokevirtual 78, 3) := dk_182 0 78 (dk_at dksX2_line_8 15 rfl rfl)
theorem dX2_line_259 : decode cX2_line 259 = .ok (.ifCond .eq 21, 3) := dk_153 0 21 (dk_at dksX2_line_8 18 rfl rfl)
theorem dX2_line_262 : decode cX2_line 262 = .ok (.bipush 9, 2) := dk_16 9 (dk_at dksX2_line_8 21 rfl rfl)
theorem dX2_line_264 : decode cX2_line 264 = .ok (.istore_n 2, 1) := dk_61 (dk_at dksX2_line_8 23 rfl rfl)
theorem dX2_line_265 : decode cX2_line 265 = .ok (.goto 15, 3) := dk_167 0 15 (dk_at dksX2_line_9 0 rfl rfl)
theorem dX2_line_268 : decode cX2_line 268 = .ok (.aload_n 1, 1) := dk_43 (dk_at dksX2_line_9 3 rfl rfl)
theorem dX2_line_269 : decode cX2_line 269 = .ok (.ldc 117, 2) := dk_18 117 (dk_at dksX2_line_9 4 rfl rfl)
theorem dX2_line_271 : decode cX2_line 271 = .ok (.invokevirtual 78, 3) := dk_182 0 78 (dk_at dksX2_line_9 6 rfl rfl)
theorem dX2_line_274 : decode cX2_line 274 = .ok (.ifCond .eq 6, 3) := dk_153 0 6 (dk_at dksX2_line_9 9 rfl rfl)
theorem dX2_line_277 : decode cX2_line 277 = .ok (.bipush 10, 2) := dk_16 10 (dk_at dksX2_line_9 12 rfl rfl)
theorem dX2_line_279 : decode cX2_line 279 = .ok (.istore_n 2, 1) := dk_61 (dk_at dksX2_line_9 14 rfl rfl)
theorem dX2_line_280 : decode cX2_line 280 = .ok (.iload_n 2, 1) := dk_28 (dk_at dksX2_line_9 15 rfl rfl)
theorem dX2_line_281 : decode cX2_line 281 = .ok (.tableswitch 136 0 10 #[59, 66, 73, 80, 87, 94, 101, 108, 115, 122, 129], 59) := by decide +kernel
theorem dX2_line_340 : decode cX2_line 340 = .ok (.aload_n 0, 1) := dk_42 (dk_at dksX2_line_11 0 rfl rfl)
theorem dX2_line_341 : decode cX2_line 341 = .ok (.invokevirtual 181, 3) := dk_182 0 181 (dk_at dksX2_line_11 1 rfl rfl)
theorem dX2_line_344 : decode cX2_line 344 = .ok (.goto 79, 3) := dk_167 0 79 (dk_at dksX2_line_11 4 rfl rfl)
theorem dX2_line_347 : decode cX2_line 347 = .ok (.aload_n 0, 1) := dk_42 (dk_at dksX2_line_11 7 rfl rfl)
theorem dX2_line_348 : decode cX2_line 348 = .ok (.invokevirtual 184, 3) := dk_182 0 184 (dk_at dksX2_line_11 8 rfl rfl)
theorem dX2_line_351 : decode cX2_line 351 = .ok (.goto 72, 3) := dk_167 0 72 (dk_at dksX2_line_11 11 rfl rfl)
theorem dX2_line_354 : decode cX2_line 354 = .ok (.aload_n 0, 1) := dk_42 (dk_at dksX2_line_11 14 rfl rfl)
theorem dX2_line_355 : decode cX2_line 355 = .ok (.invokevirtual 186, 3) := dk_182 0 186 (dk_at dksX2_line_11 15 rfl rfl)
theorem dX2_line_358 : decode cX2_line 358 = .ok (.goto 65, 3) := dk_167 0 65 (dk_at dksX2_line_11 18 rfl rfl)
theorem dX2_line_361 : decode cX2_line 361 = .ok (.aload_n 0, 1) := dk_42 (dk_at dksX2_line_11 21 rfl rfl)
theorem dX2_line_362 : decode cX2_line 362 = .ok (.invokevirtual 188, 3) := dk_182 0 188 (dk_at dksX2_line_12 0 rfl rfl)
theorem dX2_line_365 : decode cX2_line 365 = .ok (.goto 58, 3) := dk_167 0 58 (dk_at dksX2_line_12 3 rfl rfl)
theorem dX2_line_368 : decode cX2_line 368 = .ok (.aload_n 0, 1) := dk_42 (dk_at dksX2_line_12 6 rfl rfl)
theorem dX2_line_369 : decode cX2_line 369 = .ok (.invokevirtual 191, 3) := dk_182 0 191 (dk_at dksX2_line_12 7 rfl rfl)
theorem dX2_line_372 : decode cX2_line 372 = .ok (.goto 51, 3) := dk_167 0 51 (dk_at dksX2_line_12 10 rfl rfl)
theorem dX2_line_375 : decode cX2_line 375 = .ok (.aload_n 0, 1) := dk_42 (dk_at dksX2_line_12 13 rfl rfl)
theorem dX2_line_376 : decode cX2_line 376 = .ok (.invokevirtual 193, 3) := dk_182 0 193 (dk_at dksX2_line_12 14 rfl rfl)
theorem dX2_line_379 : decode cX2_line 379 = .ok (.goto 44, 3) := dk_167 0 44 (dk_at dksX2_line_12 17 rfl rfl)
theorem dX2_line_382 : decode cX2_line 382 = .ok (.aload_n 0, 1) := dk_42 (dk_at dksX2_line_12 20 rfl rfl)
theorem dX2_line_383 : decode cX2_line 383 = .ok (.invokevirtual 195, 3) := dk_182 0 195 (dk_at dksX2_line_12 21 rfl rfl)
theorem dX2_line_386 : decode cX2_line 386 = .ok (.goto 37, 3) := dk_167 0 37 (dk_at dksX2_line_13 0 rfl rfl)
theorem dX2_line_389 : decode cX2_line 389 = .ok (.aload_n 0, 1) := dk_42 (dk_at dksX2_line_13 3 rfl rfl)
theorem dX2_line_390 : decode cX2_line 390 = .ok (.invokevirtual 197, 3) := dk_182 0 197 (dk_at dksX2_line_13 4 rfl rfl)
theorem dX2_line_393 : decode cX2_line 393 = .ok (.goto 30, 3) := dk_167 0 30 (dk_at dksX2_line_13 7 rfl rfl)
theorem dX2_line_396 : decode cX2_line 396 = .ok (.aload_n 0, 1) := dk_42 (dk_at dksX2_line_13 10 rfl rfl)
theorem dX2_line_397 : decode cX2_line 397 = .ok (.invokevirtual 199, 3) := dk_182 0 199 (dk_at dksX2_line_13 11 rfl rfl)
theorem dX2_line_400 : decode cX2_line 400 = .ok (.goto 23, 3) := dk_167 0 23 (dk_at dksX2_line_13 14 rfl rfl)
theorem dX2_line_403 : decode cX2_line 403 = .ok (.aload_n 0, 1) := dk_42 (dk_at dksX2_line_13 17 rfl rfl)
theorem dX2_line_404 : decode cX2_line 404 = .ok (.invokevirtual 201, 3) := dk_182 0 201 (dk_at dksX2_line_13 18 rfl rfl)
theorem dX2_line_407 : decode cX2_line 407 = .ok (.goto 16, 3) := dk_167 0 16 (dk_at dksX2_line_13 21 rfl rfl)
theorem dX2_line_410 : decode cX2_line 410 = .ok (.aload_n 0, 1) := dk_42 (dk_at dksX2_line_14 0 rfl rfl)
theorem dX2_line_411 : decode cX2_line 411 = .ok (.invokevirtual 203, 3) := dk_182 0 203 (dk_at dksX2_line_14 1 rfl rfl)
theorem dX2_line_414 : decode cX2_line 414 = .ok (.goto 9, 3) := dk_167 0 9 (dk_at dksX2_line_14 4 rfl rfl)
theorem dX2_line_417 : decode cX2_line 417 = .ok (.aload_n 0, 1) := dk_42 (dk_at dksX2_line_14 7 rfl rfl)
theorem dX2_line_418 : decode cX2_line 418 = .ok (.iconst 1, 1) := dk_4 (dk_at dksX2_line_14 8 rfl rfl)
theorem dX2_line_419 : decode cX2_line 419 = .ok (.invokevirtual 89, 3) := dk_182 0 89 (dk_at dksX2_line_14 9 rfl rfl)
theorem dX2_line_422 : decode cX2_line 422 = .ok (.athrow, 1) := dk_191 (dk_at dksX2_line_14 12 rfl rfl)
theorem dX2_line_423 : decode cX2_line 423 = .ok (.return_, 1) := dk_177 (dk_at dksX2_line_14 13 rfl rfl)
abbrev cX2_fail : ByteArray := prog_8_method_3_code
def yX2_fail : MethodName := ⟨RX2, "fail", "(I)LYearSkins$Refused;"⟩
def dkwX2_fail_0 : List UInt8 := [42, 180, 0, 12, 27, 42, 180, 0, 33, 182, 0, 37, 176]
abbrev dktX2_fail_0 : List UInt8 := dkwX2_fail_0 ++ []
theorem dksX2_fail_0 : cX2_fail.data.toList.drop 0 = dktX2_fail_0 := by decide +kernel
theorem dX2_fail_0 : decode cX2_fail 0 = .ok (.aload_n 0, 1) := dk_42 (dk_at dksX2_fail_0 0 rfl rfl)
theorem dX2_fail_1 : decode cX2_fail 1 = .ok (.getfield 12, 3) := dk_180 0 12 (dk_at dksX2_fail_0 1 rfl rfl)
theorem dX2_fail_4 : decode cX2_fail 4 = .ok (.iload_n 1, 1) := dk_27 (dk_at dksX2_fail_0 4 rfl rfl)
theorem dX2_fail_5 : decode cX2_fail 5 = .ok (.aload_n 0, 1) := dk_42 (dk_at dksX2_fail_0 5 rfl rfl)
theorem dX2_fail_6 : decode cX2_fail 6 = .ok (.getfield 33, 3) := dk_180 0 33 (dk_at dksX2_fail_0 6 rfl rfl)
theorem dX2_fail_9 : decode cX2_fail 9 = .ok (.invokevirtual 37, 3) := dk_182 0 37 (dk_at dksX2_fail_0 9 rfl rfl)
theorem dX2_fail_12 : decode cX2_fail 12 = .ok (.areturn, 1) := dk_176 (dk_at dksX2_fail_0 12 rfl rfl)
abbrev cX2_landLine : ByteArray := prog_8_method_24_code
def yX2_landLine : MethodName := ⟨RX2, "landLine", "()V"⟩
def dkwX2_landLine_4 : List UInt8 := [182, 0, 224, 181, 0, 228, 42, 180, 0, 122, 27, 181, 0, 156, 177]
abbrev dktX2_landLine_4 : List UInt8 := dkwX2_landLine_4 ++ []
def dkwX2_landLine_3 : List UInt8 := [180, 0, 218, 154, 0, 9, 42, 18, 220, 182, 0, 145, 42, 18, 222, 182, 0, 145, 42, 180, 0, 122, 42]
abbrev dktX2_landLine_3 : List UInt8 := dkwX2_landLine_3 ++ dktX2_landLine_4
def dkwX2_landLine_2 : List UInt8 := [18, 214, 182, 0, 145, 42, 180, 0, 122, 42, 18, 216, 182, 0, 85, 181, 0, 218, 42, 180, 0, 122]
abbrev dktX2_landLine_2 : List UInt8 := dkwX2_landLine_2 ++ dktX2_landLine_3
def dkwX2_landLine_1 : List UInt8 := [16, 12, 182, 0, 206, 60, 42, 180, 0, 122, 42, 18, 210, 6, 16, 12, 182, 0, 206, 181, 0, 212, 42]
abbrev dktX2_landLine_1 : List UInt8 := dkwX2_landLine_1 ++ dktX2_landLine_2
def dkwX2_landLine_0 : List UInt8 := [42, 180, 0, 122, 180, 0, 156, 158, 0, 9, 42, 6, 182, 0, 89, 191, 42, 182, 0, 82, 42, 18, 205, 6]
abbrev dktX2_landLine_0 : List UInt8 := dkwX2_landLine_0 ++ dktX2_landLine_1
theorem dksX2_landLine_0 : cX2_landLine.data.toList.drop 0 = dktX2_landLine_0 := by decide +kernel
theorem dksX2_landLine_1 : cX2_landLine.data.toList.drop 24 = dktX2_landLine_1 := dk_seg dksX2_landLine_0 24 rfl rfl
theorem dksX2_landLine_2 : cX2_landLine.data.toList.drop 47 = dktX2_landLine_2 := dk_seg dksX2_landLine_1 23 rfl rfl
theorem dksX2_landLine_3 : cX2_landLine.data.toList.drop 69 = dktX2_landLine_3 := dk_seg dksX2_landLine_2 22 rfl rfl
theorem dksX2_landLine_4 : cX2_landLine.data.toList.drop 92 = dktX2_landLine_4 := dk_seg dksX2_landLine_3 23 rfl rfl
theorem dX2_landLine_0 : decode cX2_landLine 0 = .ok (.aload_n 0, 1) := dk_42 (dk_at dksX2_landLine_0 0 rfl rfl)
theorem dX2_landLine_1 : decode cX2_landLine 1 = .ok (.getfield 122, 3) := dk_180 0 122 (dk_at dksX2_landLine_0 1 rfl rfl)
theorem dX2_landLine_4 : decode cX2_landLine 4 = .ok (.getfield 156, 3) := dk_180 0 156 (dk_at dksX2_landLine_0 4 rfl rfl)
theorem dX2_landLine_7 : decode cX2_landLine 7 = .ok (.ifCond .le 9, 3) := dk_158 0 9 (dk_at dksX2_landLine_0 7 rfl rfl)
theorem dX2_landLine_10 : decode cX2_landLine 10 = .ok (.aload_n 0, 1) := dk_42 (dk_at dksX2_landLine_0 10 rfl rfl)
theorem dX2_landLine_11 : decode cX2_landLine 11 = .ok (.iconst 3, 1) := dk_6 (dk_at dksX2_landLine_0 11 rfl rfl)
theorem dX2_landLine_12 : decode cX2_landLine 12 = .ok (.invokevirtual 89, 3) := dk_182 0 89 (dk_at dksX2_landLine_0 12 rfl rfl)
theorem dX2_landLine_15 : decode cX2_landLine 15 = .ok (.athrow, 1) := dk_191 (dk_at dksX2_landLine_0 15 rfl rfl)
theorem dX2_landLine_16 : decode cX2_landLine 16 = .ok (.aload_n 0, 1) := dk_42 (dk_at dksX2_landLine_0 16 rfl rfl)
theorem dX2_landLine_17 : decode cX2_landLine 17 = .ok (.invokevirtual 82, 3) := dk_182 0 82 (dk_at dksX2_landLine_0 17 rfl rfl)
theorem dX2_landLine_20 : decode cX2_landLine 20 = .ok (.aload_n 0, 1) := dk_42 (dk_at dksX2_landLine_0 20 rfl rfl)
theorem dX2_landLine_21 : decode cX2_landLine 21 = .ok (.ldc 205, 2) := dk_18 205 (dk_at dksX2_landLine_0 21 rfl rfl)
theorem dX2_landLine_23 : decode cX2_landLine 23 = .ok (.iconst 3, 1) := dk_6 (dk_at dksX2_landLine_0 23 rfl rfl)
theorem dX2_landLine_24 : decode cX2_landLine 24 = .ok (.bipush 12, 2) := dk_16 12 (dk_at dksX2_landLine_1 0 rfl rfl)
theorem dX2_landLine_26 : decode cX2_landLine 26 = .ok (.invokevirtual 206, 3) := dk_182 0 206 (dk_at dksX2_landLine_1 2 rfl rfl)
theorem dX2_landLine_29 : decode cX2_landLine 29 = .ok (.istore_n 1, 1) := dk_60 (dk_at dksX2_landLine_1 5 rfl rfl)
theorem dX2_landLine_30 : decode cX2_landLine 30 = .ok (.aload_n 0, 1) := dk_42 (dk_at dksX2_landLine_1 6 rfl rfl)
theorem dX2_landLine_31 : decode cX2_landLine 31 = .ok (.getfield 122, 3) := dk_180 0 122 (dk_at dksX2_landLine_1 7 rfl rfl)
theorem dX2_landLine_34 : decode cX2_landLine 34 = .ok (.aload_n 0, 1) := dk_42 (dk_at dksX2_landLine_1 10 rfl rfl)
theorem dX2_landLine_35 : decode cX2_landLine 35 = .ok (.ldc 210, 2) := dk_18 210 (dk_at dksX2_landLine_1 11 rfl rfl)
theorem dX2_landLine_37 : decode cX2_landLine 37 = .ok (.iconst 3, 1) := dk_6 (dk_at dksX2_landLine_1 13 rfl rfl)
theorem dX2_landLine_38 : decode cX2_landLine 38 = .ok (.bipush 12, 2) := dk_16 12 (dk_at dksX2_landLine_1 14 rfl rfl)
theorem dX2_landLine_40 : decode cX2_landLine 40 = .ok (.invokevirtual 206, 3) := dk_182 0 206 (dk_at dksX2_landLine_1 16 rfl rfl)
theorem dX2_landLine_43 : decode cX2_landLine 43 = .ok (.putfield 212, 3) := dk_181 0 212 (dk_at dksX2_landLine_1 19 rfl rfl)
theorem dX2_landLine_46 : decode cX2_landLine 46 = .ok (.aload_n 0, 1) := dk_42 (dk_at dksX2_landLine_1 22 rfl rfl)
theorem dX2_landLine_47 : decode cX2_landLine 47 = .ok (.ldc 214, 2) := dk_18 214 (dk_at dksX2_landLine_2 0 rfl rfl)
theorem dX2_landLine_49 : decode cX2_landLine 49 = .ok (.invokevirtual 145, 3) := dk_182 0 145 (dk_at dksX2_landLine_2 2 rfl rfl)
theorem dX2_landLine_52 : decode cX2_landLine 52 = .ok (.aload_n 0, 1) := dk_42 (dk_at dksX2_landLine_2 5 rfl rfl)
theorem dX2_landLine_53 : decode cX2_landLine 53 = .ok (.getfield 122, 3) := dk_180 0 122 (dk_at dksX2_landLine_2 6 rfl rfl)
theorem dX2_landLine_56 : decode cX2_landLine 56 = .ok (.aload_n 0, 1) := dk_42 (dk_at dksX2_landLine_2 9 rfl rfl)
theorem dX2_landLine_57 : decode cX2_landLine 57 = .ok (.ldc 216, 2) := dk_18 216 (dk_at dksX2_landLine_2 10 rfl rfl)
theorem dX2_landLine_59 : decode cX2_landLine 59 = .ok (.invokevirtual 85, 3) := dk_182 0 85 (dk_at dksX2_landLine_2 12 rfl rfl)
theorem dX2_landLine_62 : decode cX2_landLine 62 = .ok (.putfield 218, 3) := dk_181 0 218 (dk_at dksX2_landLine_2 15 rfl rfl)
theorem dX2_landLine_65 : decode cX2_landLine 65 = .ok (.aload_n 0, 1) := dk_42 (dk_at dksX2_landLine_2 18 rfl rfl)
theorem dX2_landLine_66 : decode cX2_landLine 66 = .ok (.getfield 122, 3) := dk_180 0 122 (dk_at dksX2_landLine_2 19 rfl rfl)
theorem dX2_landLine_69 : decode cX2_landLine 69 = .ok (.getfield 218, 3) := dk_180 0 218 (dk_at dksX2_landLine_3 0 rfl rfl)
theorem dX2_landLine_72 : decode cX2_landLine 72 = .ok (.ifCond .ne 9, 3) := dk_154 0 9 (dk_at dksX2_landLine_3 3 rfl rfl)
theorem dX2_landLine_75 : decode cX2_landLine 75 = .ok (.aload_n 0, 1) := dk_42 (dk_at dksX2_landLine_3 6 rfl rfl)
theorem dX2_landLine_76 : decode cX2_landLine 76 = .ok (.ldc 220, 2) := dk_18 220 (dk_at dksX2_landLine_3 7 rfl rfl)
theorem dX2_landLine_78 : decode cX2_landLine 78 = .ok (.invokevirtual 145, 3) := dk_182 0 145 (dk_at dksX2_landLine_3 9 rfl rfl)
theorem dX2_landLine_81 : decode cX2_landLine 81 = .ok (.aload_n 0, 1) := dk_42 (dk_at dksX2_landLine_3 12 rfl rfl)
theorem dX2_landLine_82 : decode cX2_landLine 82 = .ok (.ldc 222, 2) := dk_18 222 (dk_at dksX2_landLine_3 13 rfl rfl)
theorem dX2_landLine_84 : decode cX2_landLine 84 = .ok (.invokevirtual 145, 3) := dk_182 0 145 (dk_at dksX2_landLine_3 15 rfl rfl)
theorem dX2_landLine_87 : decode cX2_landLine 87 = .ok (.aload_n 0, 1) := dk_42 (dk_at dksX2_landLine_3 18 rfl rfl)
theorem dX2_landLine_88 : decode cX2_landLine 88 = .ok (.getfield 122, 3) := dk_180 0 122 (dk_at dksX2_landLine_3 19 rfl rfl)
theorem dX2_landLine_91 : decode cX2_landLine 91 = .ok (.aload_n 0, 1) := dk_42 (dk_at dksX2_landLine_3 22 rfl rfl)
theorem dX2_landLine_92 : decode cX2_landLine 92 = .ok (.invokevirtual 224, 3) := dk_182 0 224 (dk_at dksX2_landLine_4 0 rfl rfl)
theorem dX2_landLine_95 : decode cX2_landLine 95 = .ok (.putfield 228, 3) := dk_181 0 228 (dk_at dksX2_landLine_4 3 rfl rfl)
theorem dX2_landLine_98 : decode cX2_landLine 98 = .ok (.aload_n 0, 1) := dk_42 (dk_at dksX2_landLine_4 6 rfl rfl)
theorem dX2_landLine_99 : decode cX2_landLine 99 = .ok (.getfield 122, 3) := dk_180 0 122 (dk_at dksX2_landLine_4 7 rfl rfl)
theorem dX2_landLine_102 : decode cX2_landLine 102 = .ok (.iload_n 1, 1) := dk_27 (dk_at dksX2_landLine_4 10 rfl rfl)
theorem dX2_landLine_103 : decode cX2_landLine 103 = .ok (.putfield 156, 3) := dk_181 0 156 (dk_at dksX2_landLine_4 11 rfl rfl)
theorem dX2_landLine_106 : decode cX2_landLine 106 = .ok (.return_, 1) := dk_177 (dk_at dksX2_landLine_4 14 rfl rfl)
abbrev cX2_after : ByteArray := prog_8_method_18_code
def yX2_after : MethodName := ⟨RX2, "after", "(Ljava/lang/String;II)I"⟩
def dkwX2_after_0 : List UInt8 := [42, 43, 182, 0, 145, 42, 28, 29, 182, 0, 149, 172]
abbrev dktX2_after_0 : List UInt8 := dkwX2_after_0 ++ []
theorem dksX2_after_0 : cX2_after.data.toList.drop 0 = dktX2_after_0 := by decide +kernel
theorem dX2_after_0 : decode cX2_after 0 = .ok (.aload_n 0, 1) := dk_42 (dk_at dksX2_after_0 0 rfl rfl)
theorem dX2_after_1 : decode cX2_after 1 = .ok (.aload_n 1, 1) := dk_43 (dk_at dksX2_after_0 1 rfl rfl)
theorem dX2_after_2 : decode cX2_after 2 = .ok (.invokevirtual 145, 3) := dk_182 0 145 (dk_at dksX2_after_0 2 rfl rfl)
theorem dX2_after_5 : decode cX2_after 5 = .ok (.aload_n 0, 1) := dk_42 (dk_at dksX2_after_0 5 rfl rfl)
theorem dX2_after_6 : decode cX2_after 6 = .ok (.iload_n 2, 1) := dk_28 (dk_at dksX2_after_0 6 rfl rfl)
theorem dX2_after_7 : decode cX2_after 7 = .ok (.iload_n 3, 1) := dk_29 (dk_at dksX2_after_0 7 rfl rfl)
theorem dX2_after_8 : decode cX2_after 8 = .ok (.invokevirtual 149, 3) := dk_182 0 149 (dk_at dksX2_after_0 8 rfl rfl)
theorem dX2_after_11 : decode cX2_after 11 = .ok (.ireturn, 1) := dk_172 (dk_at dksX2_after_0 11 rfl rfl)
abbrev cX2_must : ByteArray := prog_8_method_9_code
def yX2_must : MethodName := ⟨RX2, "must", "(Ljava/lang/String;)V"⟩
def dkwX2_must_0 : List UInt8 := [42, 43, 182, 0, 85, 154, 0, 9, 42, 4, 182, 0, 89, 191, 177]
abbrev dktX2_must_0 : List UInt8 := dkwX2_must_0 ++ []
theorem dksX2_must_0 : cX2_must.data.toList.drop 0 = dktX2_must_0 := by decide +kernel
theorem dX2_must_0 : decode cX2_must 0 = .ok (.aload_n 0, 1) := dk_42 (dk_at dksX2_must_0 0 rfl rfl)
theorem dX2_must_1 : decode cX2_must 1 = .ok (.aload_n 1, 1) := dk_43 (dk_at dksX2_must_0 1 rfl rfl)
theorem dX2_must_2 : decode cX2_must 2 = .ok (.invokevirtual 85, 3) := dk_182 0 85 (dk_at dksX2_must_0 2 rfl rfl)
theorem dX2_must_5 : decode cX2_must 5 = .ok (.ifCond .ne 9, 3) := dk_154 0 9 (dk_at dksX2_must_0 5 rfl rfl)
theorem dX2_must_8 : decode cX2_must 8 = .ok (.aload_n 0, 1) := dk_42 (dk_at dksX2_must_0 8 rfl rfl)
theorem dX2_must_9 : decode cX2_must 9 = .ok (.iconst 1, 1) := dk_4 (dk_at dksX2_must_0 9 rfl rfl)
theorem dX2_must_10 : decode cX2_must 10 = .ok (.invokevirtual 89, 3) := dk_182 0 89 (dk_at dksX2_must_0 10 rfl rfl)
theorem dX2_must_13 : decode cX2_must 13 = .ok (.athrow, 1) := dk_191 (dk_at dksX2_must_0 13 rfl rfl)
theorem dX2_must_14 : decode cX2_must 14 = .ok (.return_, 1) := dk_177 (dk_at dksX2_must_0 14 rfl rfl)
abbrev cX2_takes : ByteArray := prog_8_method_8_code
def yX2_takes : MethodName := ⟨RX2, "takes", "(Ljava/lang/String;)Z"⟩
def dkwX2_takes_1 : List UInt8 := [182, 0, 82, 4, 172]
abbrev dktX2_takes_1 : List UInt8 := dkwX2_takes_1 ++ []
def dkwX2_takes_0 : List UInt8 := [42, 180, 0, 54, 5, 160, 0, 14, 42, 180, 0, 68, 43, 182, 0, 78, 154, 0, 5, 3, 172, 42]
abbrev dktX2_takes_0 : List UInt8 := dkwX2_takes_0 ++ dktX2_takes_1
theorem dksX2_takes_0 : cX2_takes.data.toList.drop 0 = dktX2_takes_0 := by decide +kernel
theorem dksX2_takes_1 : cX2_takes.data.toList.drop 22 = dktX2_takes_1 := dk_seg dksX2_takes_0 22 rfl rfl
theorem dX2_takes_0 : decode cX2_takes 0 = .ok (.aload_n 0, 1) := dk_42 (dk_at dksX2_takes_0 0 rfl rfl)
theorem dX2_takes_1 : decode cX2_takes 1 = .ok (.getfield 54, 3) := dk_180 0 54 (dk_at dksX2_takes_0 1 rfl rfl)
theorem dX2_takes_4 : decode cX2_takes 4 = .ok (.iconst 2, 1) := dk_5 (dk_at dksX2_takes_0 4 rfl rfl)
theorem dX2_takes_5 : decode cX2_takes 5 = .ok (.if_icmp .ne 14, 3) := dk_160 0 14 (dk_at dksX2_takes_0 5 rfl rfl)
theorem dX2_takes_8 : decode cX2_takes 8 = .ok (.aload_n 0, 1) := dk_42 (dk_at dksX2_takes_0 8 rfl rfl)
theorem dX2_takes_9 : decode cX2_takes 9 = .ok (.getfield 68, 3) := dk_180 0 68 (dk_at dksX2_takes_0 9 rfl rfl)
theorem dX2_takes_12 : decode cX2_takes 12 = .ok (.aload_n 1, 1) := dk_43 (dk_at dksX2_takes_0 12 rfl rfl)
theorem dX2_takes_13 : decode cX2_takes 13 = .ok (.invokevirtual 78, 3) := dk_182 0 78 (dk_at dksX2_takes_0 13 rfl rfl)
theorem dX2_takes_16 : decode cX2_takes 16 = .ok (.ifCond .ne 5, 3) := dk_154 0 5 (dk_at dksX2_takes_0 16 rfl rfl)
theorem dX2_takes_19 : decode cX2_takes 19 = .ok (.iconst 0, 1) := dk_3 (dk_at dksX2_takes_0 19 rfl rfl)
theorem dX2_takes_20 : decode cX2_takes 20 = .ok (.ireturn, 1) := dk_172 (dk_at dksX2_takes_0 20 rfl rfl)
theorem dX2_takes_21 : decode cX2_takes 21 = .ok (.aload_n 0, 1) := dk_42 (dk_at dksX2_takes_0 21 rfl rfl)
theorem dX2_takes_22 : decode cX2_takes 22 = .ok (.invokevirtual 82, 3) := dk_182 0 82 (dk_at dksX2_takes_1 0 rfl rfl)
theorem dX2_takes_25 : decode cX2_takes 25 = .ok (.iconst 1, 1) := dk_4 (dk_at dksX2_takes_1 3 rfl rfl)
theorem dX2_takes_26 : decode cX2_takes 26 = .ok (.ireturn, 1) := dk_172 (dk_at dksX2_takes_1 4 rfl rfl)
abbrev cX2_number : ByteArray := prog_8_method_17_code
def yX2_number : MethodName := ⟨RX2, "number", "(II)I"⟩
def dkwX2_number_0 : List UInt8 := [42, 27, 28, 182, 0, 141, 62, 42, 182, 0, 82, 29, 172]
abbrev dktX2_number_0 : List UInt8 := dkwX2_number_0 ++ []
theorem dksX2_number_0 : cX2_number.data.toList.drop 0 = dktX2_number_0 := by decide +kernel
theorem dX2_number_0 : decode cX2_number 0 = .ok (.aload_n 0, 1) := dk_42 (dk_at dksX2_number_0 0 rfl rfl)
theorem dX2_number_1 : decode cX2_number 1 = .ok (.iload_n 1, 1) := dk_27 (dk_at dksX2_number_0 1 rfl rfl)
theorem dX2_number_2 : decode cX2_number 2 = .ok (.iload_n 2, 1) := dk_28 (dk_at dksX2_number_0 2 rfl rfl)
theorem dX2_number_3 : decode cX2_number 3 = .ok (.invokevirtual 141, 3) := dk_182 0 141 (dk_at dksX2_number_0 3 rfl rfl)
theorem dX2_number_6 : decode cX2_number 6 = .ok (.istore_n 3, 1) := dk_62 (dk_at dksX2_number_0 6 rfl rfl)
theorem dX2_number_7 : decode cX2_number 7 = .ok (.aload_n 0, 1) := dk_42 (dk_at dksX2_number_0 7 rfl rfl)
theorem dX2_number_8 : decode cX2_number 8 = .ok (.invokevirtual 82, 3) := dk_182 0 82 (dk_at dksX2_number_0 8 rfl rfl)
theorem dX2_number_11 : decode cX2_number 11 = .ok (.iload_n 3, 1) := dk_29 (dk_at dksX2_number_0 11 rfl rfl)
theorem dX2_number_12 : decode cX2_number 12 = .ok (.ireturn, 1) := dk_172 (dk_at dksX2_number_0 12 rfl rfl)
abbrev cX2_numberHere : ByteArray := prog_8_method_16_code
def yX2_numberHere : MethodName := ⟨RX2, "numberHere", "(II)I"⟩
def dkwX2_numberHere_1 : List UInt8 := [154, 0, 9, 42, 7, 182, 0, 89, 191, 42, 180, 0, 75, 172]
abbrev dktX2_numberHere_1 : List UInt8 := dkwX2_numberHere_1 ++ []
def dkwX2_numberHere_0 : List UInt8 := [42, 180, 0, 54, 6, 159, 0, 9, 42, 4, 182, 0, 89, 191, 42, 180, 0, 75, 27, 28, 184, 0, 43]
abbrev dktX2_numberHere_0 : List UInt8 := dkwX2_numberHere_0 ++ dktX2_numberHere_1
theorem dksX2_numberHere_0 : cX2_numberHere.data.toList.drop 0 = dktX2_numberHere_0 := by decide +kernel
theorem dksX2_numberHere_1 : cX2_numberHere.data.toList.drop 23 = dktX2_numberHere_1 := dk_seg dksX2_numberHere_0 23 rfl rfl
theorem dX2_numberHere_0 : decode cX2_numberHere 0 = .ok (.aload_n 0, 1) := dk_42 (dk_at dksX2_numberHere_0 0 rfl rfl)
theorem dX2_numberHere_1 : decode cX2_numberHere 1 = .ok (.getfield 54, 3) := dk_180 0 54 (dk_at dksX2_numberHere_0 1 rfl rfl)
theorem dX2_numberHere_4 : decode cX2_numberHere 4 = .ok (.iconst 3, 1) := dk_6 (dk_at dksX2_numberHere_0 4 rfl rfl)
theorem dX2_numberHere_5 : decode cX2_numberHere 5 = .ok (.if_icmp .eq 9, 3) := dk_159 0 9 (dk_at dksX2_numberHere_0 5 rfl rfl)
theorem dX2_numberHere_8 : decode cX2_numberHere 8 = .ok (.aload_n 0, 1) := dk_42 (dk_at dksX2_numberHere_0 8 rfl rfl)
theorem dX2_numberHere_9 : decode cX2_numberHere 9 = .ok (.iconst 1, 1) := dk_4 (dk_at dksX2_numberHere_0 9 rfl rfl)
theorem dX2_numberHere_10 : decode cX2_numberHere 10 = .ok (.invokevirtual 89, 3) := dk_182 0 89 (dk_at dksX2_numberHere_0 10 rfl rfl)
theorem dX2_numberHere_13 : decode cX2_numberHere 13 = .ok (.athrow, 1) := dk_191 (dk_at dksX2_numberHere_0 13 rfl rfl)
theorem dX2_numberHere_14 : decode cX2_numberHere 14 = .ok (.aload_n 0, 1) := dk_42 (dk_at dksX2_numberHere_0 14 rfl rfl)
theorem dX2_numberHere_15 : decode cX2_numberHere 15 = .ok (.getfield 75, 3) := dk_180 0 75 (dk_at dksX2_numberHere_0 15 rfl rfl)
theorem dX2_numberHere_18 : decode cX2_numberHere 18 = .ok (.iload_n 1, 1) := dk_27 (dk_at dksX2_numberHere_0 18 rfl rfl)
theorem dX2_numberHere_19 : decode cX2_numberHere 19 = .ok (.iload_n 2, 1) := dk_28 (dk_at dksX2_numberHere_0 19 rfl rfl)
theorem dX2_numberHere_20 : decode cX2_numberHere 20 = .ok (.invokestatic 43, 3) := dk_184 0 43 (dk_at dksX2_numberHere_0 20 rfl rfl)
theorem dX2_numberHere_23 : decode cX2_numberHere 23 = .ok (.ifCond .ne 9, 3) := dk_154 0 9 (dk_at dksX2_numberHere_1 0 rfl rfl)
theorem dX2_numberHere_26 : decode cX2_numberHere 26 = .ok (.aload_n 0, 1) := dk_42 (dk_at dksX2_numberHere_1 3 rfl rfl)
theorem dX2_numberHere_27 : decode cX2_numberHere 27 = .ok (.iconst 4, 1) := dk_7 (dk_at dksX2_numberHere_1 4 rfl rfl)
theorem dX2_numberHere_28 : decode cX2_numberHere 28 = .ok (.invokevirtual 89, 3) := dk_182 0 89 (dk_at dksX2_numberHere_1 5 rfl rfl)
theorem dX2_numberHere_31 : decode cX2_numberHere 31 = .ok (.athrow, 1) := dk_191 (dk_at dksX2_numberHere_1 8 rfl rfl)
theorem dX2_numberHere_32 : decode cX2_numberHere 32 = .ok (.aload_n 0, 1) := dk_42 (dk_at dksX2_numberHere_1 9 rfl rfl)
theorem dX2_numberHere_33 : decode cX2_numberHere 33 = .ok (.getfield 75, 3) := dk_180 0 75 (dk_at dksX2_numberHere_1 10 rfl rfl)
theorem dX2_numberHere_36 : decode cX2_numberHere 36 = .ok (.ireturn, 1) := dk_172 (dk_at dksX2_numberHere_1 13 rfl rfl)
abbrev cX2_answer : ByteArray := prog_8_method_20_code
def yX2_answer : MethodName := ⟨RX2, "answer", "()Z"⟩
def dkwX2_answer_0 : List UInt8 := [42, 18, 152, 182, 0, 85, 153, 0, 5, 4, 172, 42, 18, 154, 182, 0, 145, 3, 172]
abbrev dktX2_answer_0 : List UInt8 := dkwX2_answer_0 ++ []
theorem dksX2_answer_0 : cX2_answer.data.toList.drop 0 = dktX2_answer_0 := by decide +kernel
theorem dX2_answer_0 : decode cX2_answer 0 = .ok (.aload_n 0, 1) := dk_42 (dk_at dksX2_answer_0 0 rfl rfl)
theorem dX2_answer_1 : decode cX2_answer 1 = .ok (.ldc 152, 2) := dk_18 152 (dk_at dksX2_answer_0 1 rfl rfl)
theorem dX2_answer_3 : decode cX2_answer 3 = .ok (.invokevirtual 85, 3) := dk_182 0 85 (dk_at dksX2_answer_0 3 rfl rfl)
theorem dX2_answer_6 : decode cX2_answer 6 = .ok (.ifCond .eq 5, 3) := dk_153 0 5 (dk_at dksX2_answer_0 6 rfl rfl)
theorem dX2_answer_9 : decode cX2_answer 9 = .ok (.iconst 1, 1) := dk_4 (dk_at dksX2_answer_0 9 rfl rfl)
theorem dX2_answer_10 : decode cX2_answer 10 = .ok (.ireturn, 1) := dk_172 (dk_at dksX2_answer_0 10 rfl rfl)
theorem dX2_answer_11 : decode cX2_answer 11 = .ok (.aload_n 0, 1) := dk_42 (dk_at dksX2_answer_0 11 rfl rfl)
theorem dX2_answer_12 : decode cX2_answer 12 = .ok (.ldc 154, 2) := dk_18 154 (dk_at dksX2_answer_0 12 rfl rfl)
theorem dX2_answer_14 : decode cX2_answer 14 = .ok (.invokevirtual 145, 3) := dk_182 0 145 (dk_at dksX2_answer_0 14 rfl rfl)
theorem dX2_answer_17 : decode cX2_answer 17 = .ok (.iconst 0, 1) := dk_3 (dk_at dksX2_answer_0 17 rfl rfl)
theorem dX2_answer_18 : decode cX2_answer 18 = .ok (.ireturn, 1) := dk_172 (dk_at dksX2_answer_0 18 rfl rfl)
abbrev cX2_years : ByteArray := prog_8_method_25_code
def yX2_years : MethodName := ⟨RX2, "years", "()V"⟩
def dkwX2_years_3 : List UInt8 := [18, 242, 3, 16, 9, 182, 0, 206, 181, 0, 244, 42, 180, 0, 122, 4, 181, 0, 167, 177]
abbrev dktX2_years_3 : List UInt8 := dkwX2_years_3 ++ []
def dkwX2_years_2 : List UInt8 := [181, 0, 236, 42, 180, 0, 122, 42, 18, 238, 3, 16, 100, 182, 0, 206, 181, 0, 240, 42, 180, 0, 122, 42]
abbrev dktX2_years_2 : List UInt8 := dkwX2_years_2 ++ dktX2_years_3
def dkwX2_years_1 : List UInt8 := [3, 17, 3, 132, 182, 0, 149, 181, 0, 177, 42, 180, 0, 122, 42, 18, 234, 3, 16, 100, 182, 0, 206]
abbrev dktX2_years_1 : List UInt8 := dkwX2_years_1 ++ dktX2_years_2
def dkwX2_years_0 : List UInt8 := [42, 180, 0, 122, 180, 0, 167, 153, 0, 9, 42, 6, 182, 0, 89, 191, 42, 4, 4, 182, 0, 230, 42, 42]
abbrev dktX2_years_0 : List UInt8 := dkwX2_years_0 ++ dktX2_years_1
theorem dksX2_years_0 : cX2_years.data.toList.drop 0 = dktX2_years_0 := by decide +kernel
theorem dksX2_years_1 : cX2_years.data.toList.drop 24 = dktX2_years_1 := dk_seg dksX2_years_0 24 rfl rfl
theorem dksX2_years_2 : cX2_years.data.toList.drop 47 = dktX2_years_2 := dk_seg dksX2_years_1 23 rfl rfl
theorem dksX2_years_3 : cX2_years.data.toList.drop 71 = dktX2_years_3 := dk_seg dksX2_years_2 24 rfl rfl
theorem dX2_years_0 : decode cX2_years 0 = .ok (.aload_n 0, 1) := dk_42 (dk_at dksX2_years_0 0 rfl rfl)
theorem dX2_years_1 : decode cX2_years 1 = .ok (.getfield 122, 3) := dk_180 0 122 (dk_at dksX2_years_0 1 rfl rfl)
theorem dX2_years_4 : decode cX2_years 4 = .ok (.getfield 167, 3) := dk_180 0 167 (dk_at dksX2_years_0 4 rfl rfl)
theorem dX2_years_7 : decode cX2_years 7 = .ok (.ifCond .eq 9, 3) := dk_153 0 9 (dk_at dksX2_years_0 7 rfl rfl)
theorem dX2_years_10 : decode cX2_years 10 = .ok (.aload_n 0, 1) := dk_42 (dk_at dksX2_years_0 10 rfl rfl)
theorem dX2_years_11 : decode cX2_years 11 = .ok (.iconst 3, 1) := dk_6 (dk_at dksX2_years_0 11 rfl rfl)
theorem dX2_years_12 : decode cX2_years 12 = .ok (.invokevirtual 89, 3) := dk_182 0 89 (dk_at dksX2_years_0 12 rfl rfl)
theorem dX2_years_15 : decode cX2_years 15 = .ok (.athrow, 1) := dk_191 (dk_at dksX2_years_0 15 rfl rfl)
theorem dX2_years_16 : decode cX2_years 16 = .ok (.aload_n 0, 1) := dk_42 (dk_at dksX2_years_0 16 rfl rfl)
theorem dX2_years_17 : decode cX2_years 17 = .ok (.iconst 1, 1) := dk_4 (dk_at dksX2_years_0 17 rfl rfl)
theorem dX2_years_18 : decode cX2_years 18 = .ok (.iconst 1, 1) := dk_4 (dk_at dksX2_years_0 18 rfl rfl)
theorem dX2_years_19 : decode cX2_years 19 = .ok (.invokevirtual 230, 3) := dk_182 0 230 (dk_at dksX2_years_0 19 rfl rfl)
theorem dX2_years_22 : decode cX2_years 22 = .ok (.aload_n 0, 1) := dk_42 (dk_at dksX2_years_0 22 rfl rfl)
theorem dX2_years_23 : decode cX2_years 23 = .ok (.aload_n 0, 1) := dk_42 (dk_at dksX2_years_0 23 rfl rfl)
theorem dX2_years_24 : decode cX2_years 24 = .ok (.iconst 0, 1) := dk_3 (dk_at dksX2_years_1 0 rfl rfl)
theorem dX2_years_25 : decode cX2_years 25 = .ok (.sipush 900, 3) := dk_17 3 132 (dk_at dksX2_years_1 1 rfl rfl)
theorem dX2_years_28 : decode cX2_years 28 = .ok (.invokevirtual 149, 3) := dk_182 0 149 (dk_at dksX2_years_1 4 rfl rfl)
theorem dX2_years_31 : decode cX2_years 31 = .ok (.putfield 177, 3) := dk_181 0 177 (dk_at dksX2_years_1 7 rfl rfl)
theorem dX2_years_34 : decode cX2_years 34 = .ok (.aload_n 0, 1) := dk_42 (dk_at dksX2_years_1 10 rfl rfl)
theorem dX2_years_35 : decode cX2_years 35 = .ok (.getfield 122, 3) := dk_180 0 122 (dk_at dksX2_years_1 11 rfl rfl)
theorem dX2_years_38 : decode cX2_years 38 = .ok (.aload_n 0, 1) := dk_42 (dk_at dksX2_years_1 14 rfl rfl)
theorem dX2_years_39 : decode cX2_years 39 = .ok (.ldc 234, 2) := dk_18 234 (dk_at dksX2_years_1 15 rfl rfl)
theorem dX2_years_41 : decode cX2_years 41 = .ok (.iconst 0, 1) := dk_3 (dk_at dksX2_years_1 17 rfl rfl)
theorem dX2_years_42 : decode cX2_years 42 = .ok (.bipush 100, 2) := dk_16 100 (dk_at dksX2_years_1 18 rfl rfl)
theorem dX2_years_44 : decode cX2_years 44 = .ok (.invokevirtual 206, 3) := dk_182 0 206 (dk_at dksX2_years_1 20 rfl rfl)
theorem dX2_years_47 : decode cX2_years 47 = .ok (.putfield 236, 3) := dk_181 0 236 (dk_at dksX2_years_2 0 rfl rfl)
theorem dX2_years_50 : decode cX2_years 50 = .ok (.aload_n 0, 1) := dk_42 (dk_at dksX2_years_2 3 rfl rfl)
theorem dX2_years_51 : decode cX2_years 51 = .ok (.getfield 122, 3) := dk_180 0 122 (dk_at dksX2_years_2 4 rfl rfl)
theorem dX2_years_54 : decode cX2_years 54 = .ok (.aload_n 0, 1) := dk_42 (dk_at dksX2_years_2 7 rfl rfl)
theorem dX2_years_55 : decode cX2_years 55 = .ok (.ldc 238, 2) := dk_18 238 (dk_at dksX2_years_2 8 rfl rfl)
theorem dX2_years_57 : decode cX2_years 57 = .ok (.iconst 0, 1) := dk_3 (dk_at dksX2_years_2 10 rfl rfl)
theorem dX2_years_58 : decode cX2_years 58 = .ok (.bipush 100, 2) := dk_16 100 (dk_at dksX2_years_2 11 rfl rfl)
theorem dX2_years_60 : decode cX2_years 60 = .ok (.invokevirtual 206, 3) := dk_182 0 206 (dk_at dksX2_years_2 13 rfl rfl)
theorem dX2_years_63 : decode cX2_years 63 = .ok (.putfield 240, 3) := dk_181 0 240 (dk_at dksX2_years_2 16 rfl rfl)
theorem dX2_years_66 : decode cX2_years 66 = .ok (.aload_n 0, 1) := dk_42 (dk_at dksX2_years_2 19 rfl rfl)
theorem dX2_years_67 : decode cX2_years 67 = .ok (.getfield 122, 3) := dk_180 0 122 (dk_at dksX2_years_2 20 rfl rfl)
theorem dX2_years_70 : decode cX2_years 70 = .ok (.aload_n 0, 1) := dk_42 (dk_at dksX2_years_2 23 rfl rfl)
theorem dX2_years_71 : decode cX2_years 71 = .ok (.ldc 242, 2) := dk_18 242 (dk_at dksX2_years_3 0 rfl rfl)
theorem dX2_years_73 : decode cX2_years 73 = .ok (.iconst 0, 1) := dk_3 (dk_at dksX2_years_3 2 rfl rfl)
theorem dX2_years_74 : decode cX2_years 74 = .ok (.bipush 9, 2) := dk_16 9 (dk_at dksX2_years_3 3 rfl rfl)
theorem dX2_years_76 : decode cX2_years 76 = .ok (.invokevirtual 206, 3) := dk_182 0 206 (dk_at dksX2_years_3 5 rfl rfl)
theorem dX2_years_79 : decode cX2_years 79 = .ok (.putfield 244, 3) := dk_181 0 244 (dk_at dksX2_years_3 8 rfl rfl)
theorem dX2_years_82 : decode cX2_years 82 = .ok (.aload_n 0, 1) := dk_42 (dk_at dksX2_years_3 11 rfl rfl)
theorem dX2_years_83 : decode cX2_years 83 = .ok (.getfield 122, 3) := dk_180 0 122 (dk_at dksX2_years_3 12 rfl rfl)
theorem dX2_years_86 : decode cX2_years 86 = .ok (.iconst 1, 1) := dk_4 (dk_at dksX2_years_3 15 rfl rfl)
theorem dX2_years_87 : decode cX2_years 87 = .ok (.putfield 167, 3) := dk_181 0 167 (dk_at dksX2_years_3 16 rfl rfl)
theorem dX2_years_90 : decode cX2_years 90 = .ok (.return_, 1) := dk_177 (dk_at dksX2_years_3 19 rfl rfl)
abbrev cX2_begins : ByteArray := prog_8_method_21_code
def yX2_begins : MethodName := ⟨RX2, "begins", "(ZZ)V"⟩
def dkwX2_begins_1 : List UInt8 := [42, 16, 6, 182, 0, 89, 191, 42, 182, 0, 82, 177]
abbrev dktX2_begins_1 : List UInt8 := dkwX2_begins_1 ++ []
def dkwX2_begins_0 : List UInt8 := [27, 154, 0, 9, 42, 8, 182, 0, 89, 191, 42, 180, 0, 122, 180, 0, 156, 153, 0, 7, 28, 154, 0, 10]
abbrev dktX2_begins_0 : List UInt8 := dkwX2_begins_0 ++ dktX2_begins_1
theorem dksX2_begins_0 : cX2_begins.data.toList.drop 0 = dktX2_begins_0 := by decide +kernel
theorem dksX2_begins_1 : cX2_begins.data.toList.drop 24 = dktX2_begins_1 := dk_seg dksX2_begins_0 24 rfl rfl
theorem dX2_begins_0 : decode cX2_begins 0 = .ok (.iload_n 1, 1) := dk_27 (dk_at dksX2_begins_0 0 rfl rfl)
theorem dX2_begins_1 : decode cX2_begins 1 = .ok (.ifCond .ne 9, 3) := dk_154 0 9 (dk_at dksX2_begins_0 1 rfl rfl)
theorem dX2_begins_4 : decode cX2_begins 4 = .ok (.aload_n 0, 1) := dk_42 (dk_at dksX2_begins_0 4 rfl rfl)
theorem dX2_begins_5 : decode cX2_begins 5 = .ok (.iconst 5, 1) := dk_8 (dk_at dksX2_begins_0 5 rfl rfl)
theorem dX2_begins_6 : decode cX2_begins 6 = .ok (.invokevirtual 89, 3) := dk_182 0 89 (dk_at dksX2_begins_0 6 rfl rfl)
theorem dX2_begins_9 : decode cX2_begins 9 = .ok (.athrow, 1) := dk_191 (dk_at dksX2_begins_0 9 rfl rfl)
theorem dX2_begins_10 : decode cX2_begins 10 = .ok (.aload_n 0, 1) := dk_42 (dk_at dksX2_begins_0 10 rfl rfl)
theorem dX2_begins_11 : decode cX2_begins 11 = .ok (.getfield 122, 3) := dk_180 0 122 (dk_at dksX2_begins_0 11 rfl rfl)
theorem dX2_begins_14 : decode cX2_begins 14 = .ok (.getfield 156, 3) := dk_180 0 156 (dk_at dksX2_begins_0 14 rfl rfl)
theorem dX2_begins_17 : decode cX2_begins 17 = .ok (.ifCond .eq 7, 3) := dk_153 0 7 (dk_at dksX2_begins_0 17 rfl rfl)
theorem dX2_begins_20 : decode cX2_begins 20 = .ok (.iload_n 2, 1) := dk_28 (dk_at dksX2_begins_0 20 rfl rfl)
theorem dX2_begins_21 : decode cX2_begins 21 = .ok (.ifCond .ne 10, 3) := dk_154 0 10 (dk_at dksX2_begins_0 21 rfl rfl)
theorem dX2_begins_24 : decode cX2_begins 24 = .ok (.aload_n 0, 1) := dk_42 (dk_at dksX2_begins_1 0 rfl rfl)
theorem dX2_begins_25 : decode cX2_begins 25 = .ok (.bipush 6, 2) := dk_16 6 (dk_at dksX2_begins_1 1 rfl rfl)
theorem dX2_begins_27 : decode cX2_begins 27 = .ok (.invokevirtual 89, 3) := dk_182 0 89 (dk_at dksX2_begins_1 3 rfl rfl)
theorem dX2_begins_30 : decode cX2_begins 30 = .ok (.athrow, 1) := dk_191 (dk_at dksX2_begins_1 6 rfl rfl)
theorem dX2_begins_31 : decode cX2_begins 31 = .ok (.aload_n 0, 1) := dk_42 (dk_at dksX2_begins_1 7 rfl rfl)
theorem dX2_begins_32 : decode cX2_begins 32 = .ok (.invokevirtual 82, 3) := dk_182 0 82 (dk_at dksX2_begins_1 8 rfl rfl)
theorem dX2_begins_35 : decode cX2_begins 35 = .ok (.return_, 1) := dk_177 (dk_at dksX2_begins_1 11 rfl rfl)
abbrev cX2_water : ByteArray := prog_8_method_26_code
def yX2_water : MethodName := ⟨RX2, "water", "()V"⟩
def dkwX2_water_5 : List UInt8 := [180, 0, 122, 180, 0, 246, 28, 79, 42, 180, 0, 122, 89, 180, 0, 246, 4, 96, 181, 0, 246, 177]
abbrev dktX2_water_5 : List UInt8 := dkwX2_water_5 ++ []
def dkwX2_water_4 : List UInt8 := [180, 0, 122, 180, 1, 0, 42, 180, 0, 122, 180, 0, 246, 27, 79, 42, 180, 0, 122, 180, 1, 4, 42]
abbrev dktX2_water_4 : List UInt8 := dkwX2_water_4 ++ dktX2_water_5
def dkwX2_water_3 : List UInt8 := [42, 180, 0, 122, 27, 28, 182, 0, 252, 153, 0, 9, 42, 6, 182, 0, 89, 191, 42, 182, 0, 82, 42]
abbrev dktX2_water_3 : List UInt8 := dkwX2_water_3 ++ dktX2_water_4
def dkwX2_water_2 : List UInt8 := [100, 182, 0, 149, 60, 42, 182, 0, 249, 42, 3, 42, 180, 0, 122, 180, 0, 212, 4, 100, 182, 0, 141, 61]
abbrev dktX2_water_2 : List UInt8 := dkwX2_water_2 ++ dktX2_water_3
def dkwX2_water_1 : List UInt8 := [180, 0, 174, 154, 0, 7, 4, 167, 0, 4, 3, 182, 0, 230, 42, 3, 42, 180, 0, 122, 180, 0, 156, 4]
abbrev dktX2_water_1 : List UInt8 := dkwX2_water_1 ++ dktX2_water_2
def dkwX2_water_0 : List UInt8 := [42, 42, 180, 0, 122, 180, 0, 246, 16, 10, 162, 0, 7, 4, 167, 0, 4, 3, 42, 180, 0, 122]
abbrev dktX2_water_0 : List UInt8 := dkwX2_water_0 ++ dktX2_water_1
theorem dksX2_water_0 : cX2_water.data.toList.drop 0 = dktX2_water_0 := by decide +kernel
theorem dksX2_water_1 : cX2_water.data.toList.drop 22 = dktX2_water_1 := dk_seg dksX2_water_0 22 rfl rfl
theorem dksX2_water_2 : cX2_water.data.toList.drop 46 = dktX2_water_2 := dk_seg dksX2_water_1 24 rfl rfl
theorem dksX2_water_3 : cX2_water.data.toList.drop 70 = dktX2_water_3 := dk_seg dksX2_water_2 24 rfl rfl
theorem dksX2_water_4 : cX2_water.data.toList.drop 93 = dktX2_water_4 := dk_seg dksX2_water_3 23 rfl rfl
theorem dksX2_water_5 : cX2_water.data.toList.drop 116 = dktX2_water_5 := dk_seg dksX2_water_4 23 rfl rfl
theorem dX2_water_0 : decode cX2_water 0 = .ok (.aload_n 0, 1) := dk_42 (dk_at dksX2_water_0 0 rfl rfl)
theorem dX2_water_1 : decode cX2_water 1 = .ok (.aload_n 0, 1) := dk_42 (dk_at dksX2_water_0 1 rfl rfl)
theorem dX2_water_2 : decode cX2_water 2 = .ok (.getfield 122, 3) := dk_180 0 122 (dk_at dksX2_water_0 2 rfl rfl)
theorem dX2_water_5 : decode cX2_water 5 = .ok (.getfield 246, 3) := dk_180 0 246 (dk_at dksX2_water_0 5 rfl rfl)
theorem dX2_water_8 : decode cX2_water 8 = .ok (.bipush 10, 2) := dk_16 10 (dk_at dksX2_water_0 8 rfl rfl)
theorem dX2_water_10 : decode cX2_water 10 = .ok (.if_icmp .ge 7, 3) := dk_162 0 7 (dk_at dksX2_water_0 10 rfl rfl)
theorem dX2_water_13 : decode cX2_water 13 = .ok (.iconst 1, 1) := dk_4 (dk_at dksX2_water_0 13 rfl rfl)
theorem dX2_water_14 : decode cX2_water 14 = .ok (.goto 4, 3) := dk_167 0 4 (dk_at dksX2_water_0 14 rfl rfl)
theorem dX2_water_17 : decode cX2_water 17 = .ok (.iconst 0, 1) := dk_3 (dk_at dksX2_water_0 17 rfl rfl)
theorem dX2_water_18 : decode cX2_water 18 = .ok (.aload_n 0, 1) := dk_42 (dk_at dksX2_water_0 18 rfl rfl)
theorem dX2_water_19 : decode cX2_water 19 = .ok (.getfield 122, 3) := dk_180 0 122 (dk_at dksX2_water_0 19 rfl rfl)
theorem dX2_water_22 : decode cX2_water 22 = .ok (.getfield 174, 3) := dk_180 0 174 (dk_at dksX2_water_1 0 rfl rfl)
theorem dX2_water_25 : decode cX2_water 25 = .ok (.ifCond .ne 7, 3) := dk_154 0 7 (dk_at dksX2_water_1 3 rfl rfl)
theorem dX2_water_28 : decode cX2_water 28 = .ok (.iconst 1, 1) := dk_4 (dk_at dksX2_water_1 6 rfl rfl)
theorem dX2_water_29 : decode cX2_water 29 = .ok (.goto 4, 3) := dk_167 0 4 (dk_at dksX2_water_1 7 rfl rfl)
theorem dX2_water_32 : decode cX2_water 32 = .ok (.iconst 0, 1) := dk_3 (dk_at dksX2_water_1 10 rfl rfl)
theorem dX2_water_33 : decode cX2_water 33 = .ok (.invokevirtual 230, 3) := dk_182 0 230 (dk_at dksX2_water_1 11 rfl rfl)
theorem dX2_water_36 : decode cX2_water 36 = .ok (.aload_n 0, 1) := dk_42 (dk_at dksX2_water_1 14 rfl rfl)
theorem dX2_water_37 : decode cX2_water 37 = .ok (.iconst 0, 1) := dk_3 (dk_at dksX2_water_1 15 rfl rfl)
theorem dX2_water_38 : decode cX2_water 38 = .ok (.aload_n 0, 1) := dk_42 (dk_at dksX2_water_1 16 rfl rfl)
theorem dX2_water_39 : decode cX2_water 39 = .ok (.getfield 122, 3) := dk_180 0 122 (dk_at dksX2_water_1 17 rfl rfl)
theorem dX2_water_42 : decode cX2_water 42 = .ok (.getfield 156, 3) := dk_180 0 156 (dk_at dksX2_water_1 20 rfl rfl)
theorem dX2_water_45 : decode cX2_water 45 = .ok (.iconst 1, 1) := dk_4 (dk_at dksX2_water_1 23 rfl rfl)
theorem dX2_water_46 : decode cX2_water 46 = .ok (.isub, 1) := dk_100 (dk_at dksX2_water_2 0 rfl rfl)
theorem dX2_water_47 : decode cX2_water 47 = .ok (.invokevirtual 149, 3) := dk_182 0 149 (dk_at dksX2_water_2 1 rfl rfl)
theorem dX2_water_50 : decode cX2_water 50 = .ok (.istore_n 1, 1) := dk_60 (dk_at dksX2_water_2 4 rfl rfl)
theorem dX2_water_51 : decode cX2_water 51 = .ok (.aload_n 0, 1) := dk_42 (dk_at dksX2_water_2 5 rfl rfl)
theorem dX2_water_52 : decode cX2_water 52 = .ok (.invokevirtual 249, 3) := dk_182 0 249 (dk_at dksX2_water_2 6 rfl rfl)
theorem dX2_water_55 : decode cX2_water 55 = .ok (.aload_n 0, 1) := dk_42 (dk_at dksX2_water_2 9 rfl rfl)
theorem dX2_water_56 : decode cX2_water 56 = .ok (.iconst 0, 1) := dk_3 (dk_at dksX2_water_2 10 rfl rfl)
theorem dX2_water_57 : decode cX2_water 57 = .ok (.aload_n 0, 1) := dk_42 (dk_at dksX2_water_2 11 rfl rfl)
theorem dX2_water_58 : decode cX2_water 58 = .ok (.getfield 122, 3) := dk_180 0 122 (dk_at dksX2_water_2 12 rfl rfl)
theorem dX2_water_61 : decode cX2_water 61 = .ok (.getfield 212, 3) := dk_180 0 212 (dk_at dksX2_water_2 15 rfl rfl)
theorem dX2_water_64 : decode cX2_water 64 = .ok (.iconst 1, 1) := dk_4 (dk_at dksX2_water_2 18 rfl rfl)
theorem dX2_water_65 : decode cX2_water 65 = .ok (.isub, 1) := dk_100 (dk_at dksX2_water_2 19 rfl rfl)
theorem dX2_water_66 : decode cX2_water 66 = .ok (.invokevirtual 141, 3) := dk_182 0 141 (dk_at dksX2_water_2 20 rfl rfl)
theorem dX2_water_69 : decode cX2_water 69 = .ok (.istore_n 2, 1) := dk_61 (dk_at dksX2_water_2 23 rfl rfl)
theorem dX2_water_70 : decode cX2_water 70 = .ok (.aload_n 0, 1) := dk_42 (dk_at dksX2_water_3 0 rfl rfl)
theorem dX2_water_71 : decode cX2_water 71 = .ok (.getfield 122, 3) := dk_180 0 122 (dk_at dksX2_water_3 1 rfl rfl)
theorem dX2_water_74 : decode cX2_water 74 = .ok (.iload_n 1, 1) := dk_27 (dk_at dksX2_water_3 4 rfl rfl)
theorem dX2_water_75 : decode cX2_water 75 = .ok (.iload_n 2, 1) := dk_28 (dk_at dksX2_water_3 5 rfl rfl)
theorem dX2_water_76 : decode cX2_water 76 = .ok (.invokevirtual 252, 3) := dk_182 0 252 (dk_at dksX2_water_3 6 rfl rfl)
theorem dX2_water_79 : decode cX2_water 79 = .ok (.ifCond .eq 9, 3) := dk_153 0 9 (dk_at dksX2_water_3 9 rfl rfl)
theorem dX2_water_82 : decode cX2_water 82 = .ok (.aload_n 0, 1) := dk_42 (dk_at dksX2_water_3 12 rfl rfl)
theorem dX2_water_83 : decode cX2_water 83 = .ok (.iconst 3, 1) := dk_6 (dk_at dksX2_water_3 13 rfl rfl)
theorem dX2_water_84 : decode cX2_water 84 = .ok (.invokevirtual 89, 3) := dk_182 0 89 (dk_at dksX2_water_3 14 rfl rfl)
theorem dX2_water_87 : decode cX2_water 87 = .ok (.athrow, 1) := dk_191 (dk_at dksX2_water_3 17 rfl rfl)
theorem dX2_water_88 : decode cX2_water 88 = .ok (.aload_n 0, 1) := dk_42 (dk_at dksX2_water_3 18 rfl rfl)
theorem dX2_water_89 : decode cX2_water 89 = .ok (.invokevirtual 82, 3) := dk_182 0 82 (dk_at dksX2_water_3 19 rfl rfl)
theorem dX2_water_92 : decode cX2_water 92 = .ok (.aload_n 0, 1) := dk_42 (dk_at dksX2_water_3 22 rfl rfl)
theorem dX2_water_93 : decode cX2_water 93 = .ok (.getfield 122, 3) := dk_180 0 122 (dk_at dksX2_water_4 0 rfl rfl)
theorem dX2_water_96 : decode cX2_water 96 = .ok (.getfield 256, 3) := dk_180 1 0 (dk_at dksX2_water_4 3 rfl rfl)
theorem dX2_water_99 : decode cX2_water 99 = .ok (.aload_n 0, 1) := dk_42 (dk_at dksX2_water_4 6 rfl rfl)
theorem dX2_water_100 : decode cX2_water 100 = .ok (.getfield 122, 3) := dk_180 0 122 (dk_at dksX2_water_4 7 rfl rfl)
theorem dX2_water_103 : decode cX2_water 103 = .ok (.getfield 246, 3) := dk_180 0 246 (dk_at dksX2_water_4 10 rfl rfl)
theorem dX2_water_106 : decode cX2_water 106 = .ok (.iload_n 1, 1) := dk_27 (dk_at dksX2_water_4 13 rfl rfl)
theorem dX2_water_107 : decode cX2_water 107 = .ok (.iastore, 1) := dk_79 (dk_at dksX2_water_4 14 rfl rfl)
theorem dX2_water_108 : decode cX2_water 108 = .ok (.aload_n 0, 1) := dk_42 (dk_at dksX2_water_4 15 rfl rfl)
theorem dX2_water_109 : decode cX2_water 109 = .ok (.getfield 122, 3) := dk_180 0 122 (dk_at dksX2_water_4 16 rfl rfl)
theorem dX2_water_112 : decode cX2_water 112 = .ok (.getfield 260, 3) := dk_180 1 4 (dk_at dksX2_water_4 19 rfl rfl)
theorem dX2_water_115 : decode cX2_water 115 = .ok (.aload_n 0, 1) := dk_42 (dk_at dksX2_water_4 22 rfl rfl)
theorem dX2_water_116 : decode cX2_water 116 = .ok (.getfield 122, 3) := dk_180 0 122 (dk_at dksX2_water_5 0 rfl rfl)
theorem dX2_water_119 : decode cX2_water 119 = .ok (.getfield 246, 3) := dk_180 0 246 (dk_at dksX2_water_5 3 rfl rfl)
theorem dX2_water_122 : decode cX2_water 122 = .ok (.iload_n 2, 1) := dk_28 (dk_at dksX2_water_5 6 rfl rfl)
theorem dX2_water_123 : decode cX2_water 123 = .ok (.iastore, 1) := dk_79 (dk_at dksX2_water_5 7 rfl rfl)
theorem dX2_water_124 : decode cX2_water 124 = .ok (.aload_n 0, 1) := dk_42 (dk_at dksX2_water_5 8 rfl rfl)
theorem dX2_water_125 : decode cX2_water 125 = .ok (.getfield 122, 3) := dk_180 0 122 (dk_at dksX2_water_5 9 rfl rfl)
theorem dX2_water_128 : decode cX2_water 128 = .ok (.dup, 1) := dk_89 (dk_at dksX2_water_5 12 rfl rfl)
theorem dX2_water_129 : decode cX2_water 129 = .ok (.getfield 246, 3) := dk_180 0 246 (dk_at dksX2_water_5 13 rfl rfl)
theorem dX2_water_132 : decode cX2_water 132 = .ok (.iconst 1, 1) := dk_4 (dk_at dksX2_water_5 16 rfl rfl)
theorem dX2_water_133 : decode cX2_water 133 = .ok (.iadd, 1) := dk_96 (dk_at dksX2_water_5 17 rfl rfl)
theorem dX2_water_134 : decode cX2_water 134 = .ok (.putfield 246, 3) := dk_181 0 246 (dk_at dksX2_water_5 18 rfl rfl)
theorem dX2_water_137 : decode cX2_water 137 = .ok (.return_, 1) := dk_177 (dk_at dksX2_water_5 21 rfl rfl)
abbrev cX2_mustComma : ByteArray := prog_8_method_19_code
def yX2_mustComma : MethodName := ⟨RX2, "mustComma", "()V"⟩
def dkwX2_mustComma_0 : List UInt8 := [42, 180, 0, 54, 16, 44, 159, 0, 9, 42, 4, 182, 0, 89, 191, 42, 182, 0, 82, 177]
abbrev dktX2_mustComma_0 : List UInt8 := dkwX2_mustComma_0 ++ []
theorem dksX2_mustComma_0 : cX2_mustComma.data.toList.drop 0 = dktX2_mustComma_0 := by decide +kernel
theorem dX2_mustComma_0 : decode cX2_mustComma 0 = .ok (.aload_n 0, 1) := dk_42 (dk_at dksX2_mustComma_0 0 rfl rfl)
theorem dX2_mustComma_1 : decode cX2_mustComma 1 = .ok (.getfield 54, 3) := dk_180 0 54 (dk_at dksX2_mustComma_0 1 rfl rfl)
theorem dX2_mustComma_4 : decode cX2_mustComma 4 = .ok (.bipush 44, 2) := dk_16 44 (dk_at dksX2_mustComma_0 4 rfl rfl)
theorem dX2_mustComma_6 : decode cX2_mustComma 6 = .ok (.if_icmp .eq 9, 3) := dk_159 0 9 (dk_at dksX2_mustComma_0 6 rfl rfl)
theorem dX2_mustComma_9 : decode cX2_mustComma 9 = .ok (.aload_n 0, 1) := dk_42 (dk_at dksX2_mustComma_0 9 rfl rfl)
theorem dX2_mustComma_10 : decode cX2_mustComma 10 = .ok (.iconst 1, 1) := dk_4 (dk_at dksX2_mustComma_0 10 rfl rfl)
theorem dX2_mustComma_11 : decode cX2_mustComma 11 = .ok (.invokevirtual 89, 3) := dk_182 0 89 (dk_at dksX2_mustComma_0 11 rfl rfl)
theorem dX2_mustComma_14 : decode cX2_mustComma 14 = .ok (.athrow, 1) := dk_191 (dk_at dksX2_mustComma_0 14 rfl rfl)
theorem dX2_mustComma_15 : decode cX2_mustComma 15 = .ok (.aload_n 0, 1) := dk_42 (dk_at dksX2_mustComma_0 15 rfl rfl)
theorem dX2_mustComma_16 : decode cX2_mustComma 16 = .ok (.invokevirtual 82, 3) := dk_182 0 82 (dk_at dksX2_mustComma_0 16 rfl rfl)
theorem dX2_mustComma_19 : decode cX2_mustComma 19 = .ok (.return_, 1) := dk_177 (dk_at dksX2_mustComma_0 19 rfl rfl)
abbrev cX2_stoneLine : ByteArray := prog_8_method_28_code
def yX2_stoneLine : MethodName := ⟨RX2, "stoneLine", "()V"⟩
def dkwX2_stoneLine_5 : List UInt8 := [180, 0, 171, 4, 96, 181, 0, 171, 177]
abbrev dktX2_stoneLine_5 : List UInt8 := dkwX2_stoneLine_5 ++ []
def dkwX2_stoneLine_4 : List UInt8 := [181, 1, 46, 42, 180, 0, 122, 180, 1, 48, 42, 180, 0, 122, 180, 0, 171, 43, 83, 42, 180, 0, 122, 89]
abbrev dktX2_stoneLine_4 : List UInt8 := dkwX2_stoneLine_4 ++ dktX2_stoneLine_5
def dkwX2_stoneLine_3 : List UInt8 := [19, 1, 40, 3, 16, 9, 182, 0, 206, 181, 1, 42, 43, 42, 19, 1, 44, 4, 16, 99, 182, 0, 206]
abbrev dktX2_stoneLine_3 : List UInt8 := dkwX2_stoneLine_3 ++ dktX2_stoneLine_4
def dkwX2_stoneLine_2 : List UInt8 := [182, 0, 206, 181, 1, 34, 43, 42, 19, 1, 36, 3, 16, 9, 182, 0, 206, 181, 1, 38, 43, 42]
abbrev dktX2_stoneLine_2 : List UInt8 := dkwX2_stoneLine_2 ++ dktX2_stoneLine_3
def dkwX2_stoneLine_1 : List UInt8 := [182, 1, 24, 42, 180, 0, 122, 180, 0, 171, 182, 1, 28, 76, 43, 42, 19, 1, 32, 4, 16, 9]
abbrev dktX2_stoneLine_1 : List UInt8 := dkwX2_stoneLine_1 ++ dktX2_stoneLine_2
def dkwX2_stoneLine_0 : List UInt8 := [42, 42, 180, 0, 122, 180, 0, 171, 7, 162, 0, 7, 4, 167, 0, 4, 3, 4, 182, 0, 230, 42, 42]
abbrev dktX2_stoneLine_0 : List UInt8 := dkwX2_stoneLine_0 ++ dktX2_stoneLine_1
theorem dksX2_stoneLine_0 : cX2_stoneLine.data.toList.drop 0 = dktX2_stoneLine_0 := by decide +kernel
theorem dksX2_stoneLine_1 : cX2_stoneLine.data.toList.drop 23 = dktX2_stoneLine_1 := dk_seg dksX2_stoneLine_0 23 rfl rfl
theorem dksX2_stoneLine_2 : cX2_stoneLine.data.toList.drop 45 = dktX2_stoneLine_2 := dk_seg dksX2_stoneLine_1 22 rfl rfl
theorem dksX2_stoneLine_3 : cX2_stoneLine.data.toList.drop 67 = dktX2_stoneLine_3 := dk_seg dksX2_stoneLine_2 22 rfl rfl
theorem dksX2_stoneLine_4 : cX2_stoneLine.data.toList.drop 90 = dktX2_stoneLine_4 := dk_seg dksX2_stoneLine_3 23 rfl rfl
theorem dksX2_stoneLine_5 : cX2_stoneLine.data.toList.drop 114 = dktX2_stoneLine_5 := dk_seg dksX2_stoneLine_4 24 rfl rfl
theorem dX2_stoneLine_0 : decode cX2_stoneLine 0 = .ok (.aload_n 0, 1) := dk_42 (dk_at dksX2_stoneLine_0 0 rfl rfl)
theorem dX2_stoneLine_1 : decode cX2_stoneLine 1 = .ok (.aload_n 0, 1) := dk_42 (dk_at dksX2_stoneLine_0 1 rfl rfl)
theorem dX2_stoneLine_2 : decode cX2_stoneLine 2 = .ok (.getfield 122, 3) := dk_180 0 122 (dk_at dksX2_stoneLine_0 2 rfl rfl)
theorem dX2_stoneLine_5 : decode cX2_stoneLine 5 = .ok (.getfield 171, 3) := dk_180 0 171 (dk_at dksX2_stoneLine_0 5 rfl rfl)
theorem dX2_stoneLine_8 : decode cX2_stoneLine 8 = .ok (.iconst 4, 1) := dk_7 (dk_at dksX2_stoneLine_0 8 rfl rfl)
theorem dX2_stoneLine_9 : decode cX2_stoneLine 9 = .ok (.if_icmp .ge 7, 3) := dk_162 0 7 (dk_at dksX2_stoneLine_0 9 rfl rfl)
theorem dX2_stoneLine_12 : decode cX2_stoneLine 12 = .ok (.iconst 1, 1) := dk_4 (dk_at dksX2_stoneLine_0 12 rfl rfl)
theorem dX2_stoneLine_13 : decode cX2_stoneLine 13 = .ok (.goto 4, 3) := dk_167 0 4 (dk_at dksX2_stoneLine_0 13 rfl rfl)
theorem dX2_stoneLine_16 : decode cX2_stoneLine 16 = .ok (.iconst 0, 1) := dk_3 (dk_at dksX2_stoneLine_0 16 rfl rfl)
theorem dX2_stoneLine_17 : decode cX2_stoneLine 17 = .ok (.iconst 1, 1) := dk_4 (dk_at dksX2_stoneLine_0 17 rfl rfl)
theorem dX2_stoneLine_18 : decode cX2_stoneLine 18 = .ok (.invokevirtual 230, 3) := dk_182 0 230 (dk_at dksX2_stoneLine_0 18 rfl rfl)
theorem dX2_stoneLine_21 : decode cX2_stoneLine 21 = .ok (.aload_n 0, 1) := dk_42 (dk_at dksX2_stoneLine_0 21 rfl rfl)
theorem dX2_stoneLine_22 : decode cX2_stoneLine 22 = .ok (.aload_n 0, 1) := dk_42 (dk_at dksX2_stoneLine_0 22 rfl rfl)
theorem dX2_stoneLine_23 : decode cX2_stoneLine 23 = .ok (.invokevirtual 280, 3) := dk_182 1 24 (dk_at dksX2_stoneLine_1 0 rfl rfl)
theorem dX2_stoneLine_26 : decode cX2_stoneLine 26 = .ok (.aload_n 0, 1) := dk_42 (dk_at dksX2_stoneLine_1 3 rfl rfl)
theorem dX2_stoneLine_27 : decode cX2_stoneLine 27 = .ok (.getfield 122, 3) := dk_180 0 122 (dk_at dksX2_stoneLine_1 4 rfl rfl)
theorem dX2_stoneLine_30 : decode cX2_stoneLine 30 = .ok (.getfield 171, 3) := dk_180 0 171 (dk_at dksX2_stoneLine_1 7 rfl rfl)
theorem dX2_stoneLine_33 : decode cX2_stoneLine 33 = .ok (.invokevirtual 284, 3) := dk_182 1 28 (dk_at dksX2_stoneLine_1 10 rfl rfl)
theorem dX2_stoneLine_36 : decode cX2_stoneLine 36 = .ok (.astore_n 1, 1) := dk_76 (dk_at dksX2_stoneLine_1 13 rfl rfl)
theorem dX2_stoneLine_37 : decode cX2_stoneLine 37 = .ok (.aload_n 1, 1) := dk_43 (dk_at dksX2_stoneLine_1 14 rfl rfl)
theorem dX2_stoneLine_38 : decode cX2_stoneLine 38 = .ok (.aload_n 0, 1) := dk_42 (dk_at dksX2_stoneLine_1 15 rfl rfl)
theorem dX2_stoneLine_39 : decode cX2_stoneLine 39 = .ok (.ldc_w 288, 3) := dk_19 1 32 (dk_at dksX2_stoneLine_1 16 rfl rfl)
theorem dX2_stoneLine_42 : decode cX2_stoneLine 42 = .ok (.iconst 1, 1) := dk_4 (dk_at dksX2_stoneLine_1 19 rfl rfl)
theorem dX2_stoneLine_43 : decode cX2_stoneLine 43 = .ok (.bipush 9, 2) := dk_16 9 (dk_at dksX2_stoneLine_1 20 rfl rfl)
theorem dX2_stoneLine_45 : decode cX2_stoneLine 45 = .ok (.invokevirtual 206, 3) := dk_182 0 206 (dk_at dksX2_stoneLine_2 0 rfl rfl)
theorem dX2_stoneLine_48 : decode cX2_stoneLine 48 = .ok (.putfield 290, 3) := dk_181 1 34 (dk_at dksX2_stoneLine_2 3 rfl rfl)
theorem dX2_stoneLine_51 : decode cX2_stoneLine 51 = .ok (.aload_n 1, 1) := dk_43 (dk_at dksX2_stoneLine_2 6 rfl rfl)
theorem dX2_stoneLine_52 : decode cX2_stoneLine 52 = .ok (.aload_n 0, 1) := dk_42 (dk_at dksX2_stoneLine_2 7 rfl rfl)
theorem dX2_stoneLine_53 : decode cX2_stoneLine 53 = .ok (.ldc_w 292, 3) := dk_19 1 36 (dk_at dksX2_stoneLine_2 8 rfl rfl)
theorem dX2_stoneLine_56 : decode cX2_stoneLine 56 = .ok (.iconst 0, 1) := dk_3 (dk_at dksX2_stoneLine_2 11 rfl rfl)
theorem dX2_stoneLine_57 : decode cX2_stoneLine 57 = .ok (.bipush 9, 2) := dk_16 9 (dk_at dksX2_stoneLine_2 12 rfl rfl)
theorem dX2_stoneLine_59 : decode cX2_stoneLine 59 = .ok (.invokevirtual 206, 3) := dk_182 0 206 (dk_at dksX2_stoneLine_2 14 rfl rfl)
theorem dX2_stoneLine_62 : decode cX2_stoneLine 62 = .ok (.putfield 294, 3) := dk_181 1 38 (dk_at dksX2_stoneLine_2 17 rfl rfl)
theorem dX2_stoneLine_65 : decode cX2_stoneLine 65 = .ok (.aload_n 1, 1) := dk_43 (dk_at dksX2_stoneLine_2 20 rfl rfl)
theorem dX2_stoneLine_66 : decode cX2_stoneLine 66 = .ok (.aload_n 0, 1) := dk_42 (dk_at dksX2_stoneLine_2 21 rfl rfl)
theorem dX2_stoneLine_67 : decode cX2_stoneLine 67 = .ok (.ldc_w 296, 3) := dk_19 1 40 (dk_at dksX2_stoneLine_3 0 rfl rfl)
theorem dX2_stoneLine_70 : decode cX2_stoneLine 70 = .ok (.iconst 0, 1) := dk_3 (dk_at dksX2_stoneLine_3 3 rfl rfl)
theorem dX2_stoneLine_71 : decode cX2_stoneLine 71 = .ok (.bipush 9, 2) := dk_16 9 (dk_at dksX2_stoneLine_3 4 rfl rfl)
theorem dX2_stoneLine_73 : decode cX2_stoneLine 73 = .ok (.invokevirtual 206, 3) := dk_182 0 206 (dk_at dksX2_stoneLine_3 6 rfl rfl)
theorem dX2_stoneLine_76 : decode cX2_stoneLine 76 = .ok (.putfield 298, 3) := dk_181 1 42 (dk_at dksX2_stoneLine_3 9 rfl rfl)
theorem dX2_stoneLine_79 : decode cX2_stoneLine 79 = .ok (.aload_n 1, 1) := dk_43 (dk_at dksX2_stoneLine_3 12 rfl rfl)
theorem dX2_stoneLine_80 : decode cX2_stoneLine 80 = .ok (.aload_n 0, 1) := dk_42 (dk_at dksX2_stoneLine_3 13 rfl rfl)
theorem dX2_stoneLine_81 : decode cX2_stoneLine 81 = .ok (.ldc_w 300, 3) := dk_19 1 44 (dk_at dksX2_stoneLine_3 14 rfl rfl)
theorem dX2_stoneLine_84 : decode cX2_stoneLine 84 = .ok (.iconst 1, 1) := dk_4 (dk_at dksX2_stoneLine_3 17 rfl rfl)
theorem dX2_stoneLine_85 : decode cX2_stoneLine 85 = .ok (.bipush 99, 2) := dk_16 99 (dk_at dksX2_stoneLine_3 18 rfl rfl)
theorem dX2_stoneLine_87 : decode cX2_stoneLine 87 = .ok (.invokevirtual 206, 3) := dk_182 0 206 (dk_at dksX2_stoneLine_3 20 rfl rfl)
theorem dX2_stoneLine_90 : decode cX2_stoneLine 90 = .ok (.putfield 302, 3) := dk_181 1 46 (dk_at dksX2_stoneLine_4 0 rfl rfl)
theorem dX2_stoneLine_93 : decode cX2_stoneLine 93 = .ok (.aload_n 0, 1) := dk_42 (dk_at dksX2_stoneLine_4 3 rfl rfl)
theorem dX2_stoneLine_94 : decode cX2_stoneLine 94 = .ok (.getfield 122, 3) := dk_180 0 122 (dk_at dksX2_stoneLine_4 4 rfl rfl)
theorem dX2_stoneLine_97 : decode cX2_stoneLine 97 = .ok (.getfield 304, 3) := dk_180 1 48 (dk_at dksX2_stoneLine_4 7 rfl rfl)
theorem dX2_stoneLine_100 : decode cX2_stoneLine 100 = .ok (.aload_n 0, 1) := dk_42 (dk_at dksX2_stoneLine_4 10 rfl rfl)
theorem dX2_stoneLine_101 : decode cX2_stoneLine 101 = .ok (.getfield 122, 3) := dk_180 0 122 (dk_at dksX2_stoneLine_4 11 rfl rfl)
theorem dX2_stoneLine_104 : decode cX2_stoneLine 104 = .ok (.getfield 171, 3) := dk_180 0 171 (dk_at dksX2_stoneLine_4 14 rfl rfl)
theorem dX2_stoneLine_107 : decode cX2_stoneLine 107 = .ok (.aload_n 1, 1) := dk_43 (dk_at dksX2_stoneLine_4 17 rfl rfl)
theorem dX2_stoneLine_108 : decode cX2_stoneLine 108 = .ok (.aastore, 1) := dk_83 (dk_at dksX2_stoneLine_4 18 rfl rfl)
theorem dX2_stoneLine_109 : decode cX2_stoneLine 109 = .ok (.aload_n 0, 1) := dk_42 (dk_at dksX2_stoneLine_4 19 rfl rfl)
theorem dX2_stoneLine_110 : decode cX2_stoneLine 110 = .ok (.getfield 122, 3) := dk_180 0 122 (dk_at dksX2_stoneLine_4 20 rfl rfl)
theorem dX2_stoneLine_113 : decode cX2_stoneLine 113 = .ok (.dup, 1) := dk_89 (dk_at dksX2_stoneLine_4 23 rfl rfl)
theorem dX2_stoneLine_114 : decode cX2_stoneLine 114 = .ok (.getfield 171, 3) := dk_180 0 171 (dk_at dksX2_stoneLine_5 0 rfl rfl)
theorem dX2_stoneLine_117 : decode cX2_stoneLine 117 = .ok (.iconst 1, 1) := dk_4 (dk_at dksX2_stoneLine_5 3 rfl rfl)
theorem dX2_stoneLine_118 : decode cX2_stoneLine 118 = .ok (.iadd, 1) := dk_96 (dk_at dksX2_stoneLine_5 4 rfl rfl)
theorem dX2_stoneLine_119 : decode cX2_stoneLine 119 = .ok (.putfield 171, 3) := dk_181 0 171 (dk_at dksX2_stoneLine_5 5 rfl rfl)
theorem dX2_stoneLine_122 : decode cX2_stoneLine 122 = .ok (.return_, 1) := dk_177 (dk_at dksX2_stoneLine_5 8 rfl rfl)
abbrev cX2_newName : ByteArray := prog_8_method_11_code
def yX2_newName : MethodName := ⟨RX2, "newName", "()Ljava/lang/String;"⟩
def dkwX2_newName_1 : List UInt8 := [42, 180, 0, 68, 76, 42, 182, 0, 82, 43, 176]
abbrev dktX2_newName_1 : List UInt8 := dkwX2_newName_1 ++ []
def dkwX2_newName_0 : List UInt8 := [42, 182, 0, 119, 42, 180, 0, 122, 42, 180, 0, 68, 182, 0, 125, 198, 0, 9, 42, 6, 182, 0, 89, 191]
abbrev dktX2_newName_0 : List UInt8 := dkwX2_newName_0 ++ dktX2_newName_1
theorem dksX2_newName_0 : cX2_newName.data.toList.drop 0 = dktX2_newName_0 := by decide +kernel
theorem dksX2_newName_1 : cX2_newName.data.toList.drop 24 = dktX2_newName_1 := dk_seg dksX2_newName_0 24 rfl rfl
theorem dX2_newName_0 : decode cX2_newName 0 = .ok (.aload_n 0, 1) := dk_42 (dk_at dksX2_newName_0 0 rfl rfl)
theorem dX2_newName_1 : decode cX2_newName 1 = .ok (.invokevirtual 119, 3) := dk_182 0 119 (dk_at dksX2_newName_0 1 rfl rfl)
theorem dX2_newName_4 : decode cX2_newName 4 = .ok (.aload_n 0, 1) := dk_42 (dk_at dksX2_newName_0 4 rfl rfl)
theorem dX2_newName_5 : decode cX2_newName 5 = .ok (.getfield 122, 3) := dk_180 0 122 (dk_at dksX2_newName_0 5 rfl rfl)
theorem dX2_newName_8 : decode cX2_newName 8 = .ok (.aload_n 0, 1) := dk_42 (dk_at dksX2_newName_0 8 rfl rfl)
theorem dX2_newName_9 : decode cX2_newName 9 = .ok (.getfield 68, 3) := dk_180 0 68 (dk_at dksX2_newName_0 9 rfl rfl)
theorem dX2_newName_12 : decode cX2_newName 12 = .ok (.invokevirtual 125, 3) := dk_182 0 125 (dk_at dksX2_newName_0 12 rfl rfl)
theorem dX2_newName_15 : decode cX2_newName 15 = .ok (.ifnull 9, 3) := dk_198 0 9 (dk_at dksX2_newName_0 15 rfl rfl)
theorem dX2_newName_18 : decode cX2_newName 18 = .ok (.aload_n 0, 1) := dk_42 (dk_at dksX2_newName_0 18 rfl rfl)
theorem dX2_newName_19 : decode cX2_newName 19 = .ok (.iconst 3, 1) := dk_6 (dk_at dksX2_newName_0 19 rfl rfl)
theorem dX2_newName_20 : decode cX2_newName 20 = .ok (.invokevirtual 89, 3) := dk_182 0 89 (dk_at dksX2_newName_0 20 rfl rfl)
theorem dX2_newName_23 : decode cX2_newName 23 = .ok (.athrow, 1) := dk_191 (dk_at dksX2_newName_0 23 rfl rfl)
theorem dX2_newName_24 : decode cX2_newName 24 = .ok (.aload_n 0, 1) := dk_42 (dk_at dksX2_newName_1 0 rfl rfl)
theorem dX2_newName_25 : decode cX2_newName 25 = .ok (.getfield 68, 3) := dk_180 0 68 (dk_at dksX2_newName_1 1 rfl rfl)
theorem dX2_newName_28 : decode cX2_newName 28 = .ok (.astore_n 1, 1) := dk_76 (dk_at dksX2_newName_1 4 rfl rfl)
theorem dX2_newName_29 : decode cX2_newName 29 = .ok (.aload_n 0, 1) := dk_42 (dk_at dksX2_newName_1 5 rfl rfl)
theorem dX2_newName_30 : decode cX2_newName 30 = .ok (.invokevirtual 82, 3) := dk_182 0 82 (dk_at dksX2_newName_1 6 rfl rfl)
theorem dX2_newName_33 : decode cX2_newName 33 = .ok (.aload_n 1, 1) := dk_43 (dk_at dksX2_newName_1 9 rfl rfl)
theorem dX2_newName_34 : decode cX2_newName 34 = .ok (.areturn, 1) := dk_176 (dk_at dksX2_newName_1 10 rfl rfl)
abbrev cX2_mustName : ByteArray := prog_8_method_10_code
def yX2_mustName : MethodName := ⟨RX2, "mustName", "()V"⟩
def dkwX2_mustName_11 : List UInt8 := [42, 4, 182, 0, 89, 191, 177]
abbrev dktX2_mustName_11 : List UInt8 := dkwX2_mustName_11 ++ []
def dkwX2_mustName_10 : List UInt8 := [170, 0, 0, 0, 0, 0, 65, 0, 0, 0, 0, 0, 0, 0, 10, 0, 0, 0, 59, 0, 0, 0, 59, 0, 0, 0, 59, 0, 0, 0, 59, 0, 0, 0, 59, 0, 0, 0, 59, 0, 0, 0, 59, 0, 0, 0, 59, 0, 0, 0, 59, 0, 0, 0, 59, 0, 0, 0, 59]
abbrev dktX2_mustName_10 : List UInt8 := dkwX2_mustName_10 ++ dktX2_mustName_11
def dkwX2_mustName_9 : List UInt8 := [167, 0, 15, 43, 18, 117, 182, 0, 78, 153, 0, 6, 16, 10, 61, 28]
abbrev dktX2_mustName_9 : List UInt8 := dkwX2_mustName_9 ++ dktX2_mustName_10
def dkwX2_mustName_8 : List UInt8 := [182, 0, 78, 153, 0, 36, 16, 8, 61, 167, 0, 30, 43, 18, 115, 182, 0, 78, 153, 0, 21, 16, 9, 61]
abbrev dktX2_mustName_8 : List UInt8 := dkwX2_mustName_8 ++ dktX2_mustName_9
def dkwX2_mustName_7 : List UInt8 := [61, 167, 0, 60, 43, 18, 111, 182, 0, 78, 153, 0, 51, 16, 7, 61, 167, 0, 45, 43, 18, 113]
abbrev dktX2_mustName_7 : List UInt8 := dkwX2_mustName_7 ++ dktX2_mustName_8
def dkwX2_mustName_6 : List UInt8 := [18, 107, 182, 0, 78, 153, 0, 80, 8, 61, 167, 0, 75, 43, 18, 109, 182, 0, 78, 153, 0, 66, 16, 6]
abbrev dktX2_mustName_6 : List UInt8 := dkwX2_mustName_6 ++ dktX2_mustName_7
def dkwX2_mustName_5 : List UInt8 := [153, 0, 108, 6, 61, 167, 0, 103, 43, 18, 105, 182, 0, 78, 153, 0, 94, 7, 61, 167, 0, 89, 43]
abbrev dktX2_mustName_5 : List UInt8 := dkwX2_mustName_5 ++ dktX2_mustName_6
def dkwX2_mustName_4 : List UInt8 := [61, 167, 0, 131, 43, 18, 101, 182, 0, 78, 153, 0, 122, 5, 61, 167, 0, 117, 43, 18, 103, 182, 0, 78]
abbrev dktX2_mustName_4 : List UInt8 := dkwX2_mustName_4 ++ dktX2_mustName_5
def dkwX2_mustName_3 : List UInt8 := [43, 18, 97, 182, 0, 78, 153, 0, 150, 3, 61, 167, 0, 145, 43, 18, 99, 182, 0, 78, 153, 0, 136, 4]
abbrev dktX2_mustName_3 : List UInt8 := dkwX2_mustName_3 ++ dktX2_mustName_4
def dkwX2_mustName_2 : List UInt8 := [171, 0, 0, 0, 0, 0, 255, 0, 0, 0, 11, 0, 46, 174, 145, 0, 0, 0, 228, 0, 48, 206, 230, 0, 0, 0, 183, 0, 50, 145, 235, 0, 0, 0, 99, 0, 53, 229, 125, 0, 0, 0, 169, 0, 55, 145, 202, 0, 0, 0, 198, 5, 237, 199, 32, 0, 0, 0, 155, 6, 78, 205, 20, 0, 0, 0, 213, 6, 135, 164, 11, 0, 0, 0, 243, 6, 138, 248, 101, 0, 0, 0, 141, 6, 186, 197, 23, 0, 0, 0, 127, 6, 216, 127, 214, 0, 0, 0, 113]
abbrev dktX2_mustName_2 : List UInt8 := dkwX2_mustName_2 ++ dktX2_mustName_3
def dkwX2_mustName_1 : List UInt8 := [182, 0, 93]
abbrev dktX2_mustName_1 : List UInt8 := dkwX2_mustName_1 ++ dktX2_mustName_2
def dkwX2_mustName_0 : List UInt8 := [42, 180, 0, 54, 5, 159, 0, 9, 42, 4, 182, 0, 89, 191, 42, 180, 0, 68, 76, 2, 61, 43]
abbrev dktX2_mustName_0 : List UInt8 := dkwX2_mustName_0 ++ dktX2_mustName_1
theorem dksX2_mustName_0 : cX2_mustName.data.toList.drop 0 = dktX2_mustName_0 := by decide +kernel
theorem dksX2_mustName_1 : cX2_mustName.data.toList.drop 22 = dktX2_mustName_1 := dk_seg dksX2_mustName_0 22 rfl rfl
theorem dksX2_mustName_2 : cX2_mustName.data.toList.drop 25 = dktX2_mustName_2 := dk_seg dksX2_mustName_1 3 rfl rfl
theorem dksX2_mustName_3 : cX2_mustName.data.toList.drop 124 = dktX2_mustName_3 := dk_seg dksX2_mustName_2 99 rfl rfl
theorem dksX2_mustName_4 : cX2_mustName.data.toList.drop 148 = dktX2_mustName_4 := dk_seg dksX2_mustName_3 24 rfl rfl
theorem dksX2_mustName_5 : cX2_mustName.data.toList.drop 172 = dktX2_mustName_5 := dk_seg dksX2_mustName_4 24 rfl rfl
theorem dksX2_mustName_6 : cX2_mustName.data.toList.drop 195 = dktX2_mustName_6 := dk_seg dksX2_mustName_5 23 rfl rfl
theorem dksX2_mustName_7 : cX2_mustName.data.toList.drop 219 = dktX2_mustName_7 := dk_seg dksX2_mustName_6 24 rfl rfl
theorem dksX2_mustName_8 : cX2_mustName.data.toList.drop 241 = dktX2_mustName_8 := dk_seg dksX2_mustName_7 22 rfl rfl
theorem dksX2_mustName_9 : cX2_mustName.data.toList.drop 265 = dktX2_mustName_9 := dk_seg dksX2_mustName_8 24 rfl rfl
theorem dksX2_mustName_10 : cX2_mustName.data.toList.drop 281 = dktX2_mustName_10 := dk_seg dksX2_mustName_9 16 rfl rfl
theorem dksX2_mustName_11 : cX2_mustName.data.toList.drop 340 = dktX2_mustName_11 := dk_seg dksX2_mustName_10 59 rfl rfl
theorem dX2_mustName_0 : decode cX2_mustName 0 = .ok (.aload_n 0, 1) := dk_42 (dk_at dksX2_mustName_0 0 rfl rfl)
theorem dX2_mustName_1 : decode cX2_mustName 1 = .ok (.getfield 54, 3) := dk_180 0 54 (dk_at dksX2_mustName_0 1 rfl rfl)
theorem dX2_mustName_4 : decode cX2_mustName 4 = .ok (.iconst 2, 1) := dk_5 (dk_at dksX2_mustName_0 4 rfl rfl)
theorem dX2_mustName_5 : decode cX2_mustName 5 = .ok (.if_icmp .eq 9, 3) := dk_159 0 9 (dk_at dksX2_mustName_0 5 rfl rfl)
theorem dX2_mustName_8 : decode cX2_mustName 8 = .ok (.aload_n 0, 1) := dk_42 (dk_at dksX2_mustName_0 8 rfl rfl)
theorem dX2_mustName_9 : decode cX2_mustName 9 = .ok (.iconst 1, 1) := dk_4 (dk_at dksX2_mustName_0 9 rfl rfl)
theorem dX2_mustName_10 : decode cX2_mustName 10 = .ok (.invokevirtual 89, 3) := dk_182 0 89 (dk_at dksX2_mustName_0 10 rfl rfl)
theorem dX2_mustName_13 : decode cX2_mustName 13 = .ok (.athrow, 1) := dk_191 (dk_at dksX2_mustName_0 13 rfl rfl)
theorem dX2_mustName_14 : decode cX2_mustName 14 = .ok (.aload_n 0, 1) := dk_42 (dk_at dksX2_mustName_0 14 rfl rfl)
theorem dX2_mustName_15 : decode cX2_mustName 15 = .ok (.getfield 68, 3) := dk_180 0 68 (dk_at dksX2_mustName_0 15 rfl rfl)
theorem dX2_mustName_18 : decode cX2_mustName 18 = .ok (.astore_n 1, 1) := dk_76 (dk_at dksX2_mustName_0 18 rfl rfl)
theorem dX2_mustName_19 : decode cX2_mustName 19 = .ok (.iconst (-1), 1) := dk_2 (dk_at dksX2_mustName_0 19 rfl rfl)
theorem dX2_mustName_20 : decode cX2_mustName 20 = .ok (.istore_n 2, 1) := dk_61 (dk_at dksX2_mustName_0 20 rfl rfl)
theorem dX2_mustName_21 : decode cX2_mustName 21 = .ok (.aload_n 1, 1) := dk_43 (dk_at dksX2_mustName_0 21 rfl rfl)
theorem dX2_mustName_22 : decode cX2_mustName 22 = .ok (.invokevirtual 93, 3) := dk_182 0 93 (dk_at dksX2_mustName_1 0 rfl rfl)
theorem dX2_mustName_25 : decode cX2_mustName 25 = .ok (.lookupswitch 255 #[(3059345, 228), (3198694, 183), (3314155, 99), (3532157, 169), (3641802, 198), (99469088, 155), (105827604, 213), (109552651, 243), (109770853, 141), (112903447, 127), (114851798, 113)], 99) := by decide +kernel
theorem dX2_mustName_124 : decode cX2_mustName 124 = .ok (.aload_n 1, 1) := dk_43 (dk_at dksX2_mustName_3 0 rfl rfl)
theorem dX2_mustName_125 : decode cX2_mustName 125 = .ok (.ldc 97, 2) := dk_18 97 (dk_at dksX2_mustName_3 1 rfl rfl)
theorem dX2_mustName_127 : decode cX2_mustName 127 = .ok (.invokevirtual 78, 3) := dk_182 0 78 (dk_at dksX2_mustName_3 3 rfl rfl)
theorem dX2_mustName_130 : decode cX2_mustName 130 = .ok (.ifCond .eq 150, 3) := dk_153 0 150 (dk_at dksX2_mustName_3 6 rfl rfl)
theorem dX2_mustName_133 : decode cX2_mustName 133 = .ok (.iconst 0, 1) := dk_3 (dk_at dksX2_mustName_3 9 rfl rfl)
theorem dX2_mustName_134 : decode cX2_mustName 134 = .ok (.istore_n 2, 1) := dk_61 (dk_at dksX2_mustName_3 10 rfl rfl)
theorem dX2_mustName_135 : decode cX2_mustName 135 = .ok (.goto 145, 3) := dk_167 0 145 (dk_at dksX2_mustName_3 11 rfl rfl)
theorem dX2_mustName_138 : decode cX2_mustName 138 = .ok (.aload_n 1, 1) := dk_43 (dk_at dksX2_mustName_3 14 rfl rfl)
theorem dX2_mustName_139 : decode cX2_mustName 139 = .ok (.ldc 99, 2) := dk_18 99 (dk_at dksX2_mustName_3 15 rfl rfl)
theorem dX2_mustName_141 : decode cX2_mustName 141 = .ok (.invokevirtual 78, 3) := dk_182 0 78 (dk_at dksX2_mustName_3 17 rfl rfl)
theorem dX2_mustName_144 : decode cX2_mustName 144 = .ok (.ifCond .eq 136, 3) := dk_153 0 136 (dk_at dksX2_mustName_3 20 rfl rfl)
theorem dX2_mustName_147 : decode cX2_mustName 147 = .ok (.iconst 1, 1) := dk_4 (dk_at dksX2_mustName_3 23 rfl rfl)
theorem dX2_mustName_148 : decode cX2_mustName 148 = .ok (.istore_n 2, 1) := dk_61 (dk_at dksX2_mustName_4 0 rfl rfl)
theorem dX2_mustName_149 : decode cX2_mustName 149 = .ok (.goto 131, 3) := dk_167 0 131 (dk_at dksX2_mustName_4 1 rfl rfl)
theorem dX2_mustName_152 : decode cX2_mustName 152 = .ok (.aload_n 1, 1) := dk_43 (dk_at dksX2_mustName_4 4 rfl rfl)
theorem dX2_mustName_153 : decode cX2_mustName 153 = .ok (.ldc 101, 2) := dk_18 101 (dk_at dksX2_mustName_4 5 rfl rfl)
theorem dX2_mustName_155 : decode cX2_mustName 155 = .ok (.invokevirtual 78, 3) := dk_182 0 78 (dk_at dksX2_mustName_4 7 rfl rfl)
theorem dX2_mustName_158 : decode cX2_mustName 158 = .ok (.ifCond .eq 122, 3) := dk_153 0 122 (dk_at dksX2_mustName_4 10 rfl rfl)
theorem dX2_mustName_161 : decode cX2_mustName 161 = .ok (.iconst 2, 1) := dk_5 (dk_at dksX2_mustName_4 13 rfl rfl)
theorem dX2_mustName_162 : decode cX2_mustName 162 = .ok (.istore_n 2, 1) := dk_61 (dk_at dksX2_mustName_4 14 rfl rfl)
theorem dX2_mustName_163 : decode cX2_mustName 163 = .ok (.goto 117, 3) := dk_167 0 117 (dk_at dksX2_mustName_4 15 rfl rfl)
theorem dX2_mustName_166 : decode cX2_mustName 166 = .ok (.aload_n 1, 1) := dk_43 (dk_at dksX2_mustName_4 18 rfl rfl)
theorem dX2_mustName_167 : decode cX2_mustName 167 = .ok (.ldc 103, 2) := dk_18 103 (dk_at dksX2_mustName_4 19 rfl rfl)
theorem dX2_mustName_169 : decode cX2_mustName 169 = .ok (.invokevirtual 78, 3) := dk_182 0 78 (dk_at dksX2_mustName_4 21 rfl rfl)
theorem dX2_mustName_172 : decode cX2_mustName 172 = .ok (.ifCond .eq 108, 3) := dk_153 0 108 (dk_at dksX2_mustName_5 0 rfl rfl)
theorem dX2_mustName_175 : decode cX2_mustName 175 = .ok (.iconst 3, 1) := dk_6 (dk_at dksX2_mustName_5 3 rfl rfl)
theorem dX2_mustName_176 : decode cX2_mustName 176 = .ok (.istore_n 2, 1) := dk_61 (dk_at dksX2_mustName_5 4 rfl rfl)
theorem dX2_mustName_177 : decode cX2_mustName 177 = .ok (.goto 103, 3) := dk_167 0 103 (dk_at dksX2_mustName_5 5 rfl rfl)
theorem dX2_mustName_180 : decode cX2_mustName 180 = .ok (.aload_n 1, 1) := dk_43 (dk_at dksX2_mustName_5 8 rfl rfl)
theorem dX2_mustName_181 : decode cX2_mustName 181 = .ok (.ldc 105, 2) := dk_18 105 (dk_at dksX2_mustName_5 9 rfl rfl)
theorem dX2_mustName_183 : decode cX2_mustName 183 = .ok (.invokevirtual 78, 3) := dk_182 0 78 (dk_at dksX2_mustName_5 11 rfl rfl)
theorem dX2_mustName_186 : decode cX2_mustName 186 = .ok (.ifCond .eq 94, 3) := dk_153 0 94 (dk_at dksX2_mustName_5 14 rfl rfl)
theorem dX2_mustName_189 : decode cX2_mustName 189 = .ok (.iconst 4, 1) := dk_7 (dk_at dksX2_mustName_5 17 rfl rfl)
theorem dX2_mustName_190 : decode cX2_mustName 190 = .ok (.istore_n 2, 1) := dk_61 (dk_at dksX2_mustName_5 18 rfl rfl)
theorem dX2_mustName_191 : decode cX2_mustName 191 = .ok (.goto 89, 3) := dk_167 0 89 (dk_at dksX2_mustName_5 19 rfl rfl)
theorem dX2_mustName_194 : decode cX2_mustName 194 = .ok (.aload_n 1, 1) := dk_43 (dk_at dksX2_mustName_5 22 rfl rfl)
theorem dX2_mustName_195 : decode cX2_mustName 195 = .ok (.ldc 107, 2) := dk_18 107 (dk_at dksX2_mustName_6 0 rfl rfl)
theorem dX2_mustName_197 : decode cX2_mustName 197 = .ok (.invokevirtual 78, 3) := dk_182 0 78 (dk_at dksX2_mustName_6 2 rfl rfl)
theorem dX2_mustName_200 : decode cX2_mustName 200 = .ok (.ifCond .eq 80, 3) := dk_153 0 80 (dk_at dksX2_mustName_6 5 rfl rfl)
theorem dX2_mustName_203 : decode cX2_mustName 203 = .ok (.iconst 5, 1) := dk_8 (dk_at dksX2_mustName_6 8 rfl rfl)
theorem dX2_mustName_204 : decode cX2_mustName 204 = .ok (.istore_n 2, 1) := dk_61 (dk_at dksX2_mustName_6 9 rfl rfl)
theorem dX2_mustName_205 : decode cX2_mustName 205 = .ok (.goto 75, 3) := dk_167 0 75 (dk_at dksX2_mustName_6 10 rfl rfl)
theorem dX2_mustName_208 : decode cX2_mustName 208 = .ok (.aload_n 1, 1) := dk_43 (dk_at dksX2_mustName_6 13 rfl rfl)
theorem dX2_mustName_209 : decode cX2_mustName 209 = .ok (.ldc 109, 2) := dk_18 109 (dk_at dksX2_mustName_6 14 rfl rfl)
theorem dX2_mustName_211 : decode cX2_mustName 211 = .ok (.invokevirtual 78, 3) := dk_182 0 78 (dk_at dksX2_mustName_6 16 rfl rfl)
theorem dX2_mustName_214 : decode cX2_mustName 214 = .ok (.ifCond .eq 66, 3) := dk_153 0 66 (dk_at dksX2_mustName_6 19 rfl rfl)
theorem dX2_mustName_217 : decode cX2_mustName 217 = .ok (.bipush 6, 2) := dk_16 6 (dk_at dksX2_mustName_6 22 rfl rfl)
theorem dX2_mustName_219 : decode cX2_mustName 219 = .ok (.istore_n 2, 1) := dk_61 (dk_at dksX2_mustName_7 0 rfl rfl)
theorem dX2_mustName_220 : decode cX2_mustName 220 = .ok (.goto 60, 3) := dk_167 0 60 (dk_at dksX2_mustName_7 1 rfl rfl)
theorem dX2_mustName_223 : decode cX2_mustName 223 = .ok (.aload_n 1, 1) := dk_43 (dk_at dksX2_mustName_7 4 rfl rfl)
theorem dX2_mustName_224 : decode cX2_mustName 224 = .ok (.ldc 111, 2) := dk_18 111 (dk_at dksX2_mustName_7 5 rfl rfl)
theorem dX2_mustName_226 : decode cX2_mustName 226 = .ok (.invokevirtual 78, 3) := dk_182 0 78 (dk_at dksX2_mustName_7 7 rfl rfl)
theorem dX2_mustName_229 : decode cX2_mustName 229 = .ok (.ifCond .eq 51, 3) := dk_153 0 51 (dk_at dksX2_mustName_7 10 rfl rfl)
theorem dX2_mustName_232 : decode cX2_mustName 232 = .ok (.bipush 7, 2) := dk_16 7 (dk_at dksX2_mustName_7 13 rfl rfl)
theorem dX2_mustName_234 : decode cX2_mustName 234 = .ok (.istore_n 2, 1) := dk_61 (dk_at dksX2_mustName_7 15 rfl rfl)
theorem dX2_mustName_235 : decode cX2_mustName 235 = .ok (.goto 45, 3) := dk_167 0 45 (dk_at dksX2_mustName_7 16 rfl rfl)
theorem dX2_mustName_238 : decode cX2_mustName 238 = .ok (.aload_n 1, 1) := dk_43 (dk_at dksX2_mustName_7 19 rfl rfl)
theorem dX2_mustName_239 : decode cX2_mustName 239 = .ok (.ldc 113, 2) := dk_18 113 (dk_at dksX2_mustName_7 20 rfl rfl)
theorem dX2_mustName_241 : decode cX2_mustName 241 = .ok (.invokevirtual 78, 3) := dk_182 0 78 (dk_at dksX2_mustName_8 0 rfl rfl)
theorem dX2_mustName_244 : decode cX2_mustName 244 = .ok (.ifCond .eq 36, 3) := dk_153 0 36 (dk_at dksX2_mustName_8 3 rfl rfl)
theorem dX2_mustName_247 : decode cX2_mustName 247 = .ok (.bipush 8, 2) := dk_16 8 (dk_at dksX2_mustName_8 6 rfl rfl)
theorem dX2_mustName_249 : decode cX2_mustName 249 = .ok (.istore_n 2, 1) := dk_61 (dk_at dksX2_mustName_8 8 rfl rfl)
theorem dX2_mustName_250 : decode cX2_mustName 250 = .ok (.goto 30, 3) := dk_167 0 30 (dk_at dksX2_mustName_8 9 rfl rfl)
theorem dX2_mustName_253 : decode cX2_mustName 253 = .ok (.aload_n 1, 1) := dk_43 (dk_at dksX2_mustName_8 12 rfl rfl)
theorem dX2_mustName_254 : decode cX2_mustName 254 = .ok (.ldc 115, 2) := dk_18 115 (dk_at dksX2_mustName_8 13 rfl rfl)
theorem dX2_mustName_256 : decode cX2_mustName 256 = .ok (.invokevirtual 78, 3) := dk_182 0 78 (dk_at dksX2_mustName_8 15 rfl rfl)
theorem dX2_mustName_259 : decode cX2_mustName 259 = .ok (.ifCond .eq 21, 3) := dk_153 0 21 (dk_at dksX2_mustName_8 18 rfl rfl)
theorem dX2_mustName_262 : decode cX2_mustName 262 = .ok (.bipush 9, 2) := dk_16 9 (dk_at dksX2_mustName_8 21 rfl rfl)
theorem dX2_mustName_264 : decode cX2_mustName 264 = .ok (.istore_n 2, 1) := dk_61 (dk_at dksX2_mustName_8 23 rfl rfl)
theorem dX2_mustName_265 : decode cX2_mustName 265 = .ok (.goto 15, 3) := dk_167 0 15 (dk_at dksX2_mustName_9 0 rfl rfl)
theorem dX2_mustName_268 : decode cX2_mustName 268 = .ok (.aload_n 1, 1) := dk_43 (dk_at dksX2_mustName_9 3 rfl rfl)
theorem dX2_mustName_269 : decode cX2_mustName 269 = .ok (.ldc 117, 2) := dk_18 117 (dk_at dksX2_mustName_9 4 rfl rfl)
theorem dX2_mustName_271 : decode cX2_mustName 271 = .ok (.invokevirtual 78, 3) := dk_182 0 78 (dk_at dksX2_mustName_9 6 rfl rfl)
theorem dX2_mustName_274 : decode cX2_mustName 274 = .ok (.ifCond .eq 6, 3) := dk_153 0 6 (dk_at dksX2_mustName_9 9 rfl rfl)
theorem dX2_mustName_277 : decode cX2_mustName 277 = .ok (.bipush 10, 2) := dk_16 10 (dk_at dksX2_mustName_9 12 rfl rfl)
theorem dX2_mustName_279 : decode cX2_mustName 279 = .ok (.istore_n 2, 1) := dk_61 (dk_at dksX2_mustName_9 14 rfl rfl)
theorem dX2_mustName_280 : decode cX2_mustName 280 = .ok (.iload_n 2, 1) := dk_28 (dk_at dksX2_mustName_9 15 rfl rfl)
theorem dX2_mustName_281 : decode cX2_mustName 281 = .ok (.tableswitch 65 0 10 #[59, 59, 59, 59, 59, 59, 59, 59, 59, 59, 59], 59) := by decide +kernel
theorem dX2_mustName_340 : decode cX2_mustName 340 = .ok (.aload_n 0, 1) := dk_42 (dk_at dksX2_mustName_11 0 rfl rfl)
theorem dX2_mustName_341 : decode cX2_mustName 341 = .ok (.iconst 1, 1) := dk_4 (dk_at dksX2_mustName_11 1 rfl rfl)
theorem dX2_mustName_342 : decode cX2_mustName 342 = .ok (.invokevirtual 89, 3) := dk_182 0 89 (dk_at dksX2_mustName_11 2 rfl rfl)
theorem dX2_mustName_345 : decode cX2_mustName 345 = .ok (.athrow, 1) := dk_191 (dk_at dksX2_mustName_11 5 rfl rfl)
theorem dX2_mustName_346 : decode cX2_mustName 346 = .ok (.return_, 1) := dk_177 (dk_at dksX2_mustName_11 6 rfl rfl)
abbrev cX2_stoneOf : ByteArray := prog_8_method_27_code
def yX2_stoneOf : MethodName := ⟨RX2, "stoneOf", "(Ljava/lang/String;I)LYearSkins$Stone;"⟩
def dkwX2_stoneOf_2 : List UInt8 := [187, 1, 21, 89, 43, 28, 183, 1, 23, 176]
abbrev dktX2_stoneOf_2 : List UInt8 := dkwX2_stoneOf_2 ++ []
def dkwX2_stoneOf_1 : List UInt8 := [182, 0, 85, 153, 0, 13, 187, 1, 16, 89, 43, 28, 183, 1, 18, 176, 42, 19, 1, 19, 182, 0, 145]
abbrev dktX2_stoneOf_1 : List UInt8 := dkwX2_stoneOf_1 ++ dktX2_stoneOf_2
def dkwX2_stoneOf_0 : List UInt8 := [42, 19, 1, 7, 182, 0, 85, 153, 0, 13, 187, 1, 9, 89, 43, 28, 183, 1, 11, 176, 42, 19, 1, 14]
abbrev dktX2_stoneOf_0 : List UInt8 := dkwX2_stoneOf_0 ++ dktX2_stoneOf_1
theorem dksX2_stoneOf_0 : cX2_stoneOf.data.toList.drop 0 = dktX2_stoneOf_0 := by decide +kernel
theorem dksX2_stoneOf_1 : cX2_stoneOf.data.toList.drop 24 = dktX2_stoneOf_1 := dk_seg dksX2_stoneOf_0 24 rfl rfl
theorem dksX2_stoneOf_2 : cX2_stoneOf.data.toList.drop 47 = dktX2_stoneOf_2 := dk_seg dksX2_stoneOf_1 23 rfl rfl
theorem dX2_stoneOf_0 : decode cX2_stoneOf 0 = .ok (.aload_n 0, 1) := dk_42 (dk_at dksX2_stoneOf_0 0 rfl rfl)
theorem dX2_stoneOf_1 : decode cX2_stoneOf 1 = .ok (.ldc_w 263, 3) := dk_19 1 7 (dk_at dksX2_stoneOf_0 1 rfl rfl)
theorem dX2_stoneOf_4 : decode cX2_stoneOf 4 = .ok (.invokevirtual 85, 3) := dk_182 0 85 (dk_at dksX2_stoneOf_0 4 rfl rfl)
theorem dX2_stoneOf_7 : decode cX2_stoneOf 7 = .ok (.ifCond .eq 13, 3) := dk_153 0 13 (dk_at dksX2_stoneOf_0 7 rfl rfl)
theorem dX2_stoneOf_10 : decode cX2_stoneOf 10 = .ok (.new 265, 3) := dk_187 1 9 (dk_at dksX2_stoneOf_0 10 rfl rfl)
theorem dX2_stoneOf_13 : decode cX2_stoneOf 13 = .ok (.dup, 1) := dk_89 (dk_at dksX2_stoneOf_0 13 rfl rfl)
theorem dX2_stoneOf_14 : decode cX2_stoneOf 14 = .ok (.aload_n 1, 1) := dk_43 (dk_at dksX2_stoneOf_0 14 rfl rfl)
theorem dX2_stoneOf_15 : decode cX2_stoneOf 15 = .ok (.iload_n 2, 1) := dk_28 (dk_at dksX2_stoneOf_0 15 rfl rfl)
theorem dX2_stoneOf_16 : decode cX2_stoneOf 16 = .ok (.invokespecial 267, 3) := dk_183 1 11 (dk_at dksX2_stoneOf_0 16 rfl rfl)
theorem dX2_stoneOf_19 : decode cX2_stoneOf 19 = .ok (.areturn, 1) := dk_176 (dk_at dksX2_stoneOf_0 19 rfl rfl)
theorem dX2_stoneOf_20 : decode cX2_stoneOf 20 = .ok (.aload_n 0, 1) := dk_42 (dk_at dksX2_stoneOf_0 20 rfl rfl)
theorem dX2_stoneOf_21 : decode cX2_stoneOf 21 = .ok (.ldc_w 270, 3) := dk_19 1 14 (dk_at dksX2_stoneOf_0 21 rfl rfl)
theorem dX2_stoneOf_24 : decode cX2_stoneOf 24 = .ok (.invokevirtual 85, 3) := dk_182 0 85 (dk_at dksX2_stoneOf_1 0 rfl rfl)
theorem dX2_stoneOf_27 : decode cX2_stoneOf 27 = .ok (.ifCond .eq 13, 3) := dk_153 0 13 (dk_at dksX2_stoneOf_1 3 rfl rfl)
theorem dX2_stoneOf_30 : decode cX2_stoneOf 30 = .ok (.new 272, 3) := dk_187 1 16 (dk_at dksX2_stoneOf_1 6 rfl rfl)
theorem dX2_stoneOf_33 : decode cX2_stoneOf 33 = .ok (.dup, 1) := dk_89 (dk_at dksX2_stoneOf_1 9 rfl rfl)
theorem dX2_stoneOf_34 : decode cX2_stoneOf 34 = .ok (.aload_n 1, 1) := dk_43 (dk_at dksX2_stoneOf_1 10 rfl rfl)
theorem dX2_stoneOf_35 : decode cX2_stoneOf 35 = .ok (.iload_n 2, 1) := dk_28 (dk_at dksX2_stoneOf_1 11 rfl rfl)
theorem dX2_stoneOf_36 : decode cX2_stoneOf 36 = .ok (.invokespecial 274, 3) := dk_183 1 18 (dk_at dksX2_stoneOf_1 12 rfl rfl)
theorem dX2_stoneOf_39 : decode cX2_stoneOf 39 = .ok (.areturn, 1) := dk_176 (dk_at dksX2_stoneOf_1 15 rfl rfl)
theorem dX2_stoneOf_40 : decode cX2_stoneOf 40 = .ok (.aload_n 0, 1) := dk_42 (dk_at dksX2_stoneOf_1 16 rfl rfl)
theorem dX2_stoneOf_41 : decode cX2_stoneOf 41 = .ok (.ldc_w 275, 3) := dk_19 1 19 (dk_at dksX2_stoneOf_1 17 rfl rfl)
theorem dX2_stoneOf_44 : decode cX2_stoneOf 44 = .ok (.invokevirtual 145, 3) := dk_182 0 145 (dk_at dksX2_stoneOf_1 20 rfl rfl)
theorem dX2_stoneOf_47 : decode cX2_stoneOf 47 = .ok (.new 277, 3) := dk_187 1 21 (dk_at dksX2_stoneOf_2 0 rfl rfl)
theorem dX2_stoneOf_50 : decode cX2_stoneOf 50 = .ok (.dup, 1) := dk_89 (dk_at dksX2_stoneOf_2 3 rfl rfl)
theorem dX2_stoneOf_51 : decode cX2_stoneOf 51 = .ok (.aload_n 1, 1) := dk_43 (dk_at dksX2_stoneOf_2 4 rfl rfl)
theorem dX2_stoneOf_52 : decode cX2_stoneOf 52 = .ok (.iload_n 2, 1) := dk_28 (dk_at dksX2_stoneOf_2 5 rfl rfl)
theorem dX2_stoneOf_53 : decode cX2_stoneOf 53 = .ok (.invokespecial 279, 3) := dk_183 1 23 (dk_at dksX2_stoneOf_2 6 rfl rfl)
theorem dX2_stoneOf_56 : decode cX2_stoneOf 56 = .ok (.areturn, 1) := dk_176 (dk_at dksX2_stoneOf_2 9 rfl rfl)
abbrev cX2_house : ByteArray := prog_8_method_29_code
def yX2_house : MethodName := ⟨RX2, "house", "()V"⟩
def dkwX2_house_8 : List UInt8 := [180, 0, 122, 89, 180, 0, 174, 4, 96, 181, 0, 174, 42, 180, 0, 25, 43, 28, 29, 182, 1, 79, 177]
abbrev dktX2_house_8 : List UInt8 := dkwX2_house_8 ++ []
def dkwX2_house_7 : List UInt8 := [17, 3, 231, 182, 0, 206, 62, 42, 180, 0, 122, 180, 1, 75, 42, 180, 0, 122, 180, 0, 174, 43, 83, 42]
abbrev dktX2_house_7 : List UInt8 := dkwX2_house_7 ++ dktX2_house_8
def dkwX2_house_6 : List UInt8 := [182, 1, 65, 181, 1, 68, 42, 19, 1, 71, 3, 16, 99, 182, 0, 206, 61, 42, 19, 1, 73, 3]
abbrev dktX2_house_6 : List UInt8 := dkwX2_house_6 ++ dktX2_house_7
def dkwX2_house_5 : List UInt8 := [153, 0, 10, 42, 16, 7, 182, 0, 89, 191, 42, 182, 0, 82, 42, 19, 1, 63, 182, 0, 145, 43, 42]
abbrev dktX2_house_5 : List UInt8 := dkwX2_house_5 ++ dktX2_house_6
def dkwX2_house_4 : List UInt8 := [180, 1, 57, 182, 0, 252, 154, 0, 21, 42, 180, 0, 25, 43, 180, 1, 54, 43, 180, 1, 57, 182, 1, 60]
abbrev dktX2_house_4 : List UInt8 := dkwX2_house_4 ++ dktX2_house_5
def dkwX2_house_3 : List UInt8 := [180, 0, 122, 180, 0, 212, 4, 100, 182, 0, 141, 181, 1, 57, 42, 180, 0, 122, 43, 180, 1, 54, 43]
abbrev dktX2_house_3 : List UInt8 := dkwX2_house_3 ++ dktX2_house_4
def dkwX2_house_2 : List UInt8 := [180, 0, 122, 180, 0, 156, 4, 100, 182, 0, 206, 181, 1, 54, 42, 182, 0, 249, 43, 42, 3, 42]
abbrev dktX2_house_2 : List UInt8 := dkwX2_house_2 ++ dktX2_house_3
def dkwX2_house_1 : List UInt8 := [89, 42, 182, 1, 24, 42, 180, 0, 122, 180, 0, 174, 183, 1, 52, 76, 43, 42, 19, 1, 53, 3, 42]
abbrev dktX2_house_1 : List UInt8 := dkwX2_house_1 ++ dktX2_house_2
def dkwX2_house_0 : List UInt8 := [42, 42, 180, 0, 122, 180, 0, 174, 7, 162, 0, 7, 4, 167, 0, 4, 3, 4, 182, 0, 230, 187, 0, 137]
abbrev dktX2_house_0 : List UInt8 := dkwX2_house_0 ++ dktX2_house_1
theorem dksX2_house_0 : cX2_house.data.toList.drop 0 = dktX2_house_0 := by decide +kernel
theorem dksX2_house_1 : cX2_house.data.toList.drop 24 = dktX2_house_1 := dk_seg dksX2_house_0 24 rfl rfl
theorem dksX2_house_2 : cX2_house.data.toList.drop 47 = dktX2_house_2 := dk_seg dksX2_house_1 23 rfl rfl
theorem dksX2_house_3 : cX2_house.data.toList.drop 69 = dktX2_house_3 := dk_seg dksX2_house_2 22 rfl rfl
theorem dksX2_house_4 : cX2_house.data.toList.drop 92 = dktX2_house_4 := dk_seg dksX2_house_3 23 rfl rfl
theorem dksX2_house_5 : cX2_house.data.toList.drop 116 = dktX2_house_5 := dk_seg dksX2_house_4 24 rfl rfl
theorem dksX2_house_6 : cX2_house.data.toList.drop 139 = dktX2_house_6 := dk_seg dksX2_house_5 23 rfl rfl
theorem dksX2_house_7 : cX2_house.data.toList.drop 161 = dktX2_house_7 := dk_seg dksX2_house_6 22 rfl rfl
theorem dksX2_house_8 : cX2_house.data.toList.drop 185 = dktX2_house_8 := dk_seg dksX2_house_7 24 rfl rfl
theorem dX2_house_0 : decode cX2_house 0 = .ok (.aload_n 0, 1) := dk_42 (dk_at dksX2_house_0 0 rfl rfl)
theorem dX2_house_1 : decode cX2_house 1 = .ok (.aload_n 0, 1) := dk_42 (dk_at dksX2_house_0 1 rfl rfl)
theorem dX2_house_2 : decode cX2_house 2 = .ok (.getfield 122, 3) := dk_180 0 122 (dk_at dksX2_house_0 2 rfl rfl)
theorem dX2_house_5 : decode cX2_house 5 = .ok (.getfield 174, 3) := dk_180 0 174 (dk_at dksX2_house_0 5 rfl rfl)
theorem dX2_house_8 : decode cX2_house 8 = .ok (.iconst 4, 1) := dk_7 (dk_at dksX2_house_0 8 rfl rfl)
theorem dX2_house_9 : decode cX2_house 9 = .ok (.if_icmp .ge 7, 3) := dk_162 0 7 (dk_at dksX2_house_0 9 rfl rfl)
theorem dX2_house_12 : decode cX2_house 12 = .ok (.iconst 1, 1) := dk_4 (dk_at dksX2_house_0 12 rfl rfl)
theorem dX2_house_13 : decode cX2_house 13 = .ok (.goto 4, 3) := dk_167 0 4 (dk_at dksX2_house_0 13 rfl rfl)
theorem dX2_house_16 : decode cX2_house 16 = .ok (.iconst 0, 1) := dk_3 (dk_at dksX2_house_0 16 rfl rfl)
theorem dX2_house_17 : decode cX2_house 17 = .ok (.iconst 1, 1) := dk_4 (dk_at dksX2_house_0 17 rfl rfl)
theorem dX2_house_18 : decode cX2_house 18 = .ok (.invokevirtual 230, 3) := dk_182 0 230 (dk_at dksX2_house_0 18 rfl rfl)
theorem dX2_house_21 : decode cX2_house 21 = .ok (.new 137, 3) := dk_187 0 137 (dk_at dksX2_house_0 21 rfl rfl)
theorem dX2_house_24 : decode cX2_house 24 = .ok (.dup, 1) := dk_89 (dk_at dksX2_house_1 0 rfl rfl)
theorem dX2_house_25 : decode cX2_house 25 = .ok (.aload_n 0, 1) := dk_42 (dk_at dksX2_house_1 1 rfl rfl)
theorem dX2_house_26 : decode cX2_house 26 = .ok (.invokevirtual 280, 3) := dk_182 1 24 (dk_at dksX2_house_1 2 rfl rfl)
theorem dX2_house_29 : decode cX2_house 29 = .ok (.aload_n 0, 1) := dk_42 (dk_at dksX2_house_1 5 rfl rfl)
theorem dX2_house_30 : decode cX2_house 30 = .ok (.getfield 122, 3) := dk_180 0 122 (dk_at dksX2_house_1 6 rfl rfl)
theorem dX2_house_33 : decode cX2_house 33 = .ok (.getfield 174, 3) := dk_180 0 174 (dk_at dksX2_house_1 9 rfl rfl)
theorem dX2_house_36 : decode cX2_house 36 = .ok (.invokespecial 308, 3) := dk_183 1 52 (dk_at dksX2_house_1 12 rfl rfl)
theorem dX2_house_39 : decode cX2_house 39 = .ok (.astore_n 1, 1) := dk_76 (dk_at dksX2_house_1 15 rfl rfl)
theorem dX2_house_40 : decode cX2_house 40 = .ok (.aload_n 1, 1) := dk_43 (dk_at dksX2_house_1 16 rfl rfl)
theorem dX2_house_41 : decode cX2_house 41 = .ok (.aload_n 0, 1) := dk_42 (dk_at dksX2_house_1 17 rfl rfl)
theorem dX2_house_42 : decode cX2_house 42 = .ok (.ldc_w 309, 3) := dk_19 1 53 (dk_at dksX2_house_1 18 rfl rfl)
theorem dX2_house_45 : decode cX2_house 45 = .ok (.iconst 0, 1) := dk_3 (dk_at dksX2_house_1 21 rfl rfl)
theorem dX2_house_46 : decode cX2_house 46 = .ok (.aload_n 0, 1) := dk_42 (dk_at dksX2_house_1 22 rfl rfl)
theorem dX2_house_47 : decode cX2_house 47 = .ok (.getfield 122, 3) := dk_180 0 122 (dk_at dksX2_house_2 0 rfl rfl)
theorem dX2_house_50 : decode cX2_house 50 = .ok (.getfield 156, 3) := dk_180 0 156 (dk_at dksX2_house_2 3 rfl rfl)
theorem dX2_house_53 : decode cX2_house 53 = .ok (.iconst 1, 1) := dk_4 (dk_at dksX2_house_2 6 rfl rfl)
theorem dX2_house_54 : decode cX2_house 54 = .ok (.isub, 1) := dk_100 (dk_at dksX2_house_2 7 rfl rfl)
theorem dX2_house_55 : decode cX2_house 55 = .ok (.invokevirtual 206, 3) := dk_182 0 206 (dk_at dksX2_house_2 8 rfl rfl)
theorem dX2_house_58 : decode cX2_house 58 = .ok (.putfield 310, 3) := dk_181 1 54 (dk_at dksX2_house_2 11 rfl rfl)
theorem dX2_house_61 : decode cX2_house 61 = .ok (.aload_n 0, 1) := dk_42 (dk_at dksX2_house_2 14 rfl rfl)
theorem dX2_house_62 : decode cX2_house 62 = .ok (.invokevirtual 249, 3) := dk_182 0 249 (dk_at dksX2_house_2 15 rfl rfl)
theorem dX2_house_65 : decode cX2_house 65 = .ok (.aload_n 1, 1) := dk_43 (dk_at dksX2_house_2 18 rfl rfl)
theorem dX2_house_66 : decode cX2_house 66 = .ok (.aload_n 0, 1) := dk_42 (dk_at dksX2_house_2 19 rfl rfl)
theorem dX2_house_67 : decode cX2_house 67 = .ok (.iconst 0, 1) := dk_3 (dk_at dksX2_house_2 20 rfl rfl)
theorem dX2_house_68 : decode cX2_house 68 = .ok (.aload_n 0, 1) := dk_42 (dk_at dksX2_house_2 21 rfl rfl)
theorem dX2_house_69 : decode cX2_house 69 = .ok (.getfield 122, 3) := dk_180 0 122 (dk_at dksX2_house_3 0 rfl rfl)
theorem dX2_house_72 : decode cX2_house 72 = .ok (.getfield 212, 3) := dk_180 0 212 (dk_at dksX2_house_3 3 rfl rfl)
theorem dX2_house_75 : decode cX2_house 75 = .ok (.iconst 1, 1) := dk_4 (dk_at dksX2_house_3 6 rfl rfl)
theorem dX2_house_76 : decode cX2_house 76 = .ok (.isub, 1) := dk_100 (dk_at dksX2_house_3 7 rfl rfl)
theorem dX2_house_77 : decode cX2_house 77 = .ok (.invokevirtual 141, 3) := dk_182 0 141 (dk_at dksX2_house_3 8 rfl rfl)
theorem dX2_house_80 : decode cX2_house 80 = .ok (.putfield 313, 3) := dk_181 1 57 (dk_at dksX2_house_3 11 rfl rfl)
theorem dX2_house_83 : decode cX2_house 83 = .ok (.aload_n 0, 1) := dk_42 (dk_at dksX2_house_3 14 rfl rfl)
theorem dX2_house_84 : decode cX2_house 84 = .ok (.getfield 122, 3) := dk_180 0 122 (dk_at dksX2_house_3 15 rfl rfl)
theorem dX2_house_87 : decode cX2_house 87 = .ok (.aload_n 1, 1) := dk_43 (dk_at dksX2_house_3 18 rfl rfl)
theorem dX2_house_88 : decode cX2_house 88 = .ok (.getfield 310, 3) := dk_180 1 54 (dk_at dksX2_house_3 19 rfl rfl)
theorem dX2_house_91 : decode cX2_house 91 = .ok (.aload_n 1, 1) := dk_43 (dk_at dksX2_house_3 22 rfl rfl)
theorem dX2_house_92 : decode cX2_house 92 = .ok (.getfield 313, 3) := dk_180 1 57 (dk_at dksX2_house_4 0 rfl rfl)
theorem dX2_house_95 : decode cX2_house 95 = .ok (.invokevirtual 252, 3) := dk_182 0 252 (dk_at dksX2_house_4 3 rfl rfl)
theorem dX2_house_98 : decode cX2_house 98 = .ok (.ifCond .ne 21, 3) := dk_154 0 21 (dk_at dksX2_house_4 6 rfl rfl)
theorem dX2_house_101 : decode cX2_house 101 = .ok (.aload_n 0, 1) := dk_42 (dk_at dksX2_house_4 9 rfl rfl)
theorem dX2_house_102 : decode cX2_house 102 = .ok (.getfield 25, 3) := dk_180 0 25 (dk_at dksX2_house_4 10 rfl rfl)
theorem dX2_house_105 : decode cX2_house 105 = .ok (.aload_n 1, 1) := dk_43 (dk_at dksX2_house_4 13 rfl rfl)
theorem dX2_house_106 : decode cX2_house 106 = .ok (.getfield 310, 3) := dk_180 1 54 (dk_at dksX2_house_4 14 rfl rfl)
theorem dX2_house_109 : decode cX2_house 109 = .ok (.aload_n 1, 1) := dk_43 (dk_at dksX2_house_4 17 rfl rfl)
theorem dX2_house_110 : decode cX2_house 110 = .ok (.getfield 313, 3) := dk_180 1 57 (dk_at dksX2_house_4 18 rfl rfl)
theorem dX2_house_113 : decode cX2_house 113 = .ok (.invokevirtual 316, 3) := dk_182 1 60 (dk_at dksX2_house_4 21 rfl rfl)
theorem dX2_house_116 : decode cX2_house 116 = .ok (.ifCond .eq 10, 3) := dk_153 0 10 (dk_at dksX2_house_5 0 rfl rfl)
theorem dX2_house_119 : decode cX2_house 119 = .ok (.aload_n 0, 1) := dk_42 (dk_at dksX2_house_5 3 rfl rfl)
theorem dX2_house_120 : decode cX2_house 120 = .ok (.bipush 7, 2) := dk_16 7 (dk_at dksX2_house_5 4 rfl rfl)
theorem dX2_house_122 : decode cX2_house 122 = .ok (.invokevirtual 89, 3) := dk_182 0 89 (dk_at dksX2_house_5 6 rfl rfl)
theorem dX2_house_125 : decode cX2_house 125 = .ok (.athrow, 1) := dk_191 (dk_at dksX2_house_5 9 rfl rfl)
theorem dX2_house_126 : decode cX2_house 126 = .ok (.aload_n 0, 1) := dk_42 (dk_at dksX2_house_5 10 rfl rfl)
theorem dX2_house_127 : decode cX2_house 127 = .ok (.invokevirtual 82, 3) := dk_182 0 82 (dk_at dksX2_house_5 11 rfl rfl)
theorem dX2_house_130 : decode cX2_house 130 = .ok (.aload_n 0, 1) := dk_42 (dk_at dksX2_house_5 14 rfl rfl)
theorem dX2_house_131 : decode cX2_house 131 = .ok (.ldc_w 319, 3) := dk_19 1 63 (dk_at dksX2_house_5 15 rfl rfl)
theorem dX2_house_134 : decode cX2_house 134 = .ok (.invokevirtual 145, 3) := dk_182 0 145 (dk_at dksX2_house_5 18 rfl rfl)
theorem dX2_house_137 : decode cX2_house 137 = .ok (.aload_n 1, 1) := dk_43 (dk_at dksX2_house_5 21 rfl rfl)
theorem dX2_house_138 : decode cX2_house 138 = .ok (.aload_n 0, 1) := dk_42 (dk_at dksX2_house_5 22 rfl rfl)
theorem dX2_house_139 : decode cX2_house 139 = .ok (.invokevirtual 321, 3) := dk_182 1 65 (dk_at dksX2_house_6 0 rfl rfl)
theorem dX2_house_142 : decode cX2_house 142 = .ok (.putfield 324, 3) := dk_181 1 68 (dk_at dksX2_house_6 3 rfl rfl)
theorem dX2_house_145 : decode cX2_house 145 = .ok (.aload_n 0, 1) := dk_42 (dk_at dksX2_house_6 6 rfl rfl)
theorem dX2_house_146 : decode cX2_house 146 = .ok (.ldc_w 327, 3) := dk_19 1 71 (dk_at dksX2_house_6 7 rfl rfl)
theorem dX2_house_149 : decode cX2_house 149 = .ok (.iconst 0, 1) := dk_3 (dk_at dksX2_house_6 10 rfl rfl)
theorem dX2_house_150 : decode cX2_house 150 = .ok (.bipush 99, 2) := dk_16 99 (dk_at dksX2_house_6 11 rfl rfl)
theorem dX2_house_152 : decode cX2_house 152 = .ok (.invokevirtual 206, 3) := dk_182 0 206 (dk_at dksX2_house_6 13 rfl rfl)
theorem dX2_house_155 : decode cX2_house 155 = .ok (.istore_n 2, 1) := dk_61 (dk_at dksX2_house_6 16 rfl rfl)
theorem dX2_house_156 : decode cX2_house 156 = .ok (.aload_n 0, 1) := dk_42 (dk_at dksX2_house_6 17 rfl rfl)
theorem dX2_house_157 : decode cX2_house 157 = .ok (.ldc_w 329, 3) := dk_19 1 73 (dk_at dksX2_house_6 18 rfl rfl)
theorem dX2_house_160 : decode cX2_house 160 = .ok (.iconst 0, 1) := dk_3 (dk_at dksX2_house_6 21 rfl rfl)
theorem dX2_house_161 : decode cX2_house 161 = .ok (.sipush 999, 3) := dk_17 3 231 (dk_at dksX2_house_7 0 rfl rfl)
theorem dX2_house_164 : decode cX2_house 164 = .ok (.invokevirtual 206, 3) := dk_182 0 206 (dk_at dksX2_house_7 3 rfl rfl)
theorem dX2_house_167 : decode cX2_house 167 = .ok (.istore_n 3, 1) := dk_62 (dk_at dksX2_house_7 6 rfl rfl)
theorem dX2_house_168 : decode cX2_house 168 = .ok (.aload_n 0, 1) := dk_42 (dk_at dksX2_house_7 7 rfl rfl)
theorem dX2_house_169 : decode cX2_house 169 = .ok (.getfield 122, 3) := dk_180 0 122 (dk_at dksX2_house_7 8 rfl rfl)
theorem dX2_house_172 : decode cX2_house 172 = .ok (.getfield 331, 3) := dk_180 1 75 (dk_at dksX2_house_7 11 rfl rfl)
theorem dX2_house_175 : decode cX2_house 175 = .ok (.aload_n 0, 1) := dk_42 (dk_at dksX2_house_7 14 rfl rfl)
theorem dX2_house_176 : decode cX2_house 176 = .ok (.getfield 122, 3) := dk_180 0 122 (dk_at dksX2_house_7 15 rfl rfl)
theorem dX2_house_179 : decode cX2_house 179 = .ok (.getfield 174, 3) := dk_180 0 174 (dk_at dksX2_house_7 18 rfl rfl)
theorem dX2_house_182 : decode cX2_house 182 = .ok (.aload_n 1, 1) := dk_43 (dk_at dksX2_house_7 21 rfl rfl)
theorem dX2_house_183 : decode cX2_house 183 = .ok (.aastore, 1) := dk_83 (dk_at dksX2_house_7 22 rfl rfl)
theorem dX2_house_184 : decode cX2_house 184 = .ok (.aload_n 0, 1) := dk_42 (dk_at dksX2_house_7 23 rfl rfl)
theorem dX2_house_185 : decode cX2_house 185 = .ok (.getfield 122, 3) := dk_180 0 122 (dk_at dksX2_house_8 0 rfl rfl)
theorem dX2_house_188 : decode cX2_house 188 = .ok (.dup, 1) := dk_89 (dk_at dksX2_house_8 3 rfl rfl)
theorem dX2_house_189 : decode cX2_house 189 = .ok (.getfield 174, 3) := dk_180 0 174 (dk_at dksX2_house_8 4 rfl rfl)
theorem dX2_house_192 : decode cX2_house 192 = .ok (.iconst 1, 1) := dk_4 (dk_at dksX2_house_8 7 rfl rfl)
theorem dX2_house_193 : decode cX2_house 193 = .ok (.iadd, 1) := dk_96 (dk_at dksX2_house_8 8 rfl rfl)
theorem dX2_house_194 : decode cX2_house 194 = .ok (.putfield 174, 3) := dk_181 0 174 (dk_at dksX2_house_8 9 rfl rfl)
theorem dX2_house_197 : decode cX2_house 197 = .ok (.aload_n 0, 1) := dk_42 (dk_at dksX2_house_8 12 rfl rfl)
theorem dX2_house_198 : decode cX2_house 198 = .ok (.getfield 25, 3) := dk_180 0 25 (dk_at dksX2_house_8 13 rfl rfl)
theorem dX2_house_201 : decode cX2_house 201 = .ok (.aload_n 1, 1) := dk_43 (dk_at dksX2_house_8 16 rfl rfl)
theorem dX2_house_202 : decode cX2_house 202 = .ok (.iload_n 2, 1) := dk_28 (dk_at dksX2_house_8 17 rfl rfl)
theorem dX2_house_203 : decode cX2_house 203 = .ok (.iload_n 3, 1) := dk_29 (dk_at dksX2_house_8 18 rfl rfl)
theorem dX2_house_204 : decode cX2_house 204 = .ok (.invokevirtual 335, 3) := dk_182 1 79 (dk_at dksX2_house_8 19 rfl rfl)
theorem dX2_house_207 : decode cX2_house 207 = .ok (.return_, 1) := dk_177 (dk_at dksX2_house_8 22 rfl rfl)
abbrev cX2_stone : ByteArray := prog_8_method_13_code
def yX2_stone : MethodName := ⟨RX2, "stone", "()LYearSkins$Stone;"⟩
def dkwX2_stone_1 : List UInt8 := [192, 0, 135, 176]
abbrev dktX2_stone_1 : List UInt8 := dkwX2_stone_1 ++ []
def dkwX2_stone_0 : List UInt8 := [42, 182, 0, 131, 76, 43, 193, 0, 135, 154, 0, 9, 42, 5, 182, 0, 89, 191, 42, 182, 0, 82, 43]
abbrev dktX2_stone_0 : List UInt8 := dkwX2_stone_0 ++ dktX2_stone_1
theorem dksX2_stone_0 : cX2_stone.data.toList.drop 0 = dktX2_stone_0 := by decide +kernel
theorem dksX2_stone_1 : cX2_stone.data.toList.drop 23 = dktX2_stone_1 := dk_seg dksX2_stone_0 23 rfl rfl
theorem dX2_stone_0 : decode cX2_stone 0 = .ok (.aload_n 0, 1) := dk_42 (dk_at dksX2_stone_0 0 rfl rfl)
theorem dX2_stone_1 : decode cX2_stone 1 = .ok (.invokevirtual 131, 3) := dk_182 0 131 (dk_at dksX2_stone_0 1 rfl rfl)
theorem dX2_stone_4 : decode cX2_stone 4 = .ok (.astore_n 1, 1) := dk_76 (dk_at dksX2_stone_0 4 rfl rfl)
theorem dX2_stone_5 : decode cX2_stone 5 = .ok (.aload_n 1, 1) := dk_43 (dk_at dksX2_stone_0 5 rfl rfl)
theorem dX2_stone_6 : decode cX2_stone 6 = .ok (.instanceof 135, 3) := dk_193 0 135 (dk_at dksX2_stone_0 6 rfl rfl)
theorem dX2_stone_9 : decode cX2_stone 9 = .ok (.ifCond .ne 9, 3) := dk_154 0 9 (dk_at dksX2_stone_0 9 rfl rfl)
theorem dX2_stone_12 : decode cX2_stone 12 = .ok (.aload_n 0, 1) := dk_42 (dk_at dksX2_stone_0 12 rfl rfl)
theorem dX2_stone_13 : decode cX2_stone 13 = .ok (.iconst 2, 1) := dk_5 (dk_at dksX2_stone_0 13 rfl rfl)
theorem dX2_stone_14 : decode cX2_stone 14 = .ok (.invokevirtual 89, 3) := dk_182 0 89 (dk_at dksX2_stone_0 14 rfl rfl)
theorem dX2_stone_17 : decode cX2_stone 17 = .ok (.athrow, 1) := dk_191 (dk_at dksX2_stone_0 17 rfl rfl)
theorem dX2_stone_18 : decode cX2_stone 18 = .ok (.aload_n 0, 1) := dk_42 (dk_at dksX2_stone_0 18 rfl rfl)
theorem dX2_stone_19 : decode cX2_stone 19 = .ok (.invokevirtual 82, 3) := dk_182 0 82 (dk_at dksX2_stone_0 19 rfl rfl)
theorem dX2_stone_22 : decode cX2_stone 22 = .ok (.aload_n 1, 1) := dk_43 (dk_at dksX2_stone_0 22 rfl rfl)
theorem dX2_stone_23 : decode cX2_stone 23 = .ok (.checkcast 135, 3) := dk_192 0 135 (dk_at dksX2_stone_1 0 rfl rfl)
theorem dX2_stone_26 : decode cX2_stone 26 = .ok (.areturn, 1) := dk_176 (dk_at dksX2_stone_1 3 rfl rfl)
abbrev cX2_found : ByteArray := prog_8_method_12_code
def yX2_found : MethodName := ⟨RX2, "found", "()LYearSkins$Named;"⟩
def dkwX2_found_0 : List UInt8 := [42, 182, 0, 119, 42, 180, 0, 122, 42, 180, 0, 68, 182, 0, 125, 176]
abbrev dktX2_found_0 : List UInt8 := dkwX2_found_0 ++ []
theorem dksX2_found_0 : cX2_found.data.toList.drop 0 = dktX2_found_0 := by decide +kernel
theorem dX2_found_0 : decode cX2_found 0 = .ok (.aload_n 0, 1) := dk_42 (dk_at dksX2_found_0 0 rfl rfl)
theorem dX2_found_1 : decode cX2_found 1 = .ok (.invokevirtual 119, 3) := dk_182 0 119 (dk_at dksX2_found_0 1 rfl rfl)
theorem dX2_found_4 : decode cX2_found 4 = .ok (.aload_n 0, 1) := dk_42 (dk_at dksX2_found_0 4 rfl rfl)
theorem dX2_found_5 : decode cX2_found 5 = .ok (.getfield 122, 3) := dk_180 0 122 (dk_at dksX2_found_0 5 rfl rfl)
theorem dX2_found_8 : decode cX2_found 8 = .ok (.aload_n 0, 1) := dk_42 (dk_at dksX2_found_0 8 rfl rfl)
theorem dX2_found_9 : decode cX2_found 9 = .ok (.getfield 68, 3) := dk_180 0 68 (dk_at dksX2_found_0 9 rfl rfl)
theorem dX2_found_12 : decode cX2_found 12 = .ok (.invokevirtual 125, 3) := dk_182 0 125 (dk_at dksX2_found_0 12 rfl rfl)
theorem dX2_found_15 : decode cX2_found 15 = .ok (.areturn, 1) := dk_176 (dk_at dksX2_found_0 15 rfl rfl)
abbrev cX2_skin : ByteArray := prog_8_method_30_code
def yX2_skin : MethodName := ⟨RX2, "skin", "()V"⟩
def dkwX2_skin_8 : List UInt8 := [42, 19, 1, 108, 3, 16, 99, 182, 0, 206, 16, 254, 182, 1, 110, 177]
abbrev dktX2_skin_8 : List UInt8 := dkwX2_skin_8 ++ []
def dkwX2_skin_7 : List UInt8 := [191, 42, 182, 0, 82, 42, 3, 5, 44, 180, 1, 92, 104, 182, 0, 149, 54, 5, 44, 45, 21, 4, 21, 5]
abbrev dktX2_skin_7 : List UInt8 := dkwX2_skin_7 ++ dktX2_skin_8
def dkwX2_skin_6 : List UInt8 := [182, 0, 78, 153, 0, 7, 6, 167, 0, 4, 2, 54, 4, 21, 4, 2, 160, 0, 9, 42, 4, 182, 0, 89]
abbrev dktX2_skin_6 : List UInt8 := dkwX2_skin_6 ++ dktX2_skin_7
def dkwX2_skin_5 : List UInt8 := [180, 0, 68, 19, 1, 104, 182, 0, 78, 153, 0, 7, 5, 167, 0, 21, 42, 180, 0, 68, 19, 1, 106]
abbrev dktX2_skin_5 : List UInt8 := dkwX2_skin_5 ++ dktX2_skin_6
def dkwX2_skin_4 : List UInt8 := [3, 167, 0, 55, 42, 180, 0, 68, 19, 1, 102, 182, 0, 78, 153, 0, 7, 4, 167, 0, 38, 42]
abbrev dktX2_skin_4 : List UInt8 := dkwX2_skin_4 ++ dktX2_skin_5
def dkwX2_skin_3 : List UInt8 := [180, 0, 54, 5, 159, 0, 7, 2, 167, 0, 72, 42, 180, 0, 68, 19, 1, 100, 182, 0, 78, 153, 0, 7]
abbrev dktX2_skin_3 : List UInt8 := dkwX2_skin_3 ++ dktX2_skin_4
def dkwX2_skin_2 : List UInt8 := [182, 1, 97, 154, 0, 10, 42, 16, 7, 182, 0, 89, 191, 42, 182, 0, 82, 42, 182, 1, 65, 78, 42]
abbrev dktX2_skin_2 : List UInt8 := dkwX2_skin_2 ++ dktX2_skin_3
def dkwX2_skin_1 : List UInt8 := [180, 1, 92, 16, 6, 160, 0, 9, 42, 8, 182, 0, 89, 191, 42, 180, 0, 25, 43, 180, 1, 87]
abbrev dktX2_skin_1 : List UInt8 := dkwX2_skin_1 ++ dktX2_skin_2
def dkwX2_skin_0 : List UInt8 := [42, 4, 4, 182, 0, 230, 42, 182, 1, 83, 76, 42, 180, 0, 25, 43, 180, 1, 87, 182, 1, 89, 77, 44]
abbrev dktX2_skin_0 : List UInt8 := dkwX2_skin_0 ++ dktX2_skin_1
theorem dksX2_skin_0 : cX2_skin.data.toList.drop 0 = dktX2_skin_0 := by decide +kernel
theorem dksX2_skin_1 : cX2_skin.data.toList.drop 24 = dktX2_skin_1 := dk_seg dksX2_skin_0 24 rfl rfl
theorem dksX2_skin_2 : cX2_skin.data.toList.drop 46 = dktX2_skin_2 := dk_seg dksX2_skin_1 22 rfl rfl
theorem dksX2_skin_3 : cX2_skin.data.toList.drop 69 = dktX2_skin_3 := dk_seg dksX2_skin_2 23 rfl rfl
theorem dksX2_skin_4 : cX2_skin.data.toList.drop 93 = dktX2_skin_4 := dk_seg dksX2_skin_3 24 rfl rfl
theorem dksX2_skin_5 : cX2_skin.data.toList.drop 115 = dktX2_skin_5 := dk_seg dksX2_skin_4 22 rfl rfl
theorem dksX2_skin_6 : cX2_skin.data.toList.drop 138 = dktX2_skin_6 := dk_seg dksX2_skin_5 23 rfl rfl
theorem dksX2_skin_7 : cX2_skin.data.toList.drop 162 = dktX2_skin_7 := dk_seg dksX2_skin_6 24 rfl rfl
theorem dksX2_skin_8 : cX2_skin.data.toList.drop 186 = dktX2_skin_8 := dk_seg dksX2_skin_7 24 rfl rfl
theorem dX2_skin_0 : decode cX2_skin 0 = .ok (.aload_n 0, 1) := dk_42 (dk_at dksX2_skin_0 0 rfl rfl)
theorem dX2_skin_1 : decode cX2_skin 1 = .ok (.iconst 1, 1) := dk_4 (dk_at dksX2_skin_0 1 rfl rfl)
theorem dX2_skin_2 : decode cX2_skin 2 = .ok (.iconst 1, 1) := dk_4 (dk_at dksX2_skin_0 2 rfl rfl)
theorem dX2_skin_3 : decode cX2_skin 3 = .ok (.invokevirtual 230, 3) := dk_182 0 230 (dk_at dksX2_skin_0 3 rfl rfl)
theorem dX2_skin_6 : decode cX2_skin 6 = .ok (.aload_n 0, 1) := dk_42 (dk_at dksX2_skin_0 6 rfl rfl)
theorem dX2_skin_7 : decode cX2_skin 7 = .ok (.invokevirtual 339, 3) := dk_182 1 83 (dk_at dksX2_skin_0 7 rfl rfl)
theorem dX2_skin_10 : decode cX2_skin 10 = .ok (.astore_n 1, 1) := dk_76 (dk_at dksX2_skin_0 10 rfl rfl)
theorem dX2_skin_11 : decode cX2_skin 11 = .ok (.aload_n 0, 1) := dk_42 (dk_at dksX2_skin_0 11 rfl rfl)
theorem dX2_skin_12 : decode cX2_skin 12 = .ok (.getfield 25, 3) := dk_180 0 25 (dk_at dksX2_skin_0 12 rfl rfl)
theorem dX2_skin_15 : decode cX2_skin 15 = .ok (.aload_n 1, 1) := dk_43 (dk_at dksX2_skin_0 15 rfl rfl)
theorem dX2_skin_16 : decode cX2_skin 16 = .ok (.getfield 343, 3) := dk_180 1 87 (dk_at dksX2_skin_0 16 rfl rfl)
theorem dX2_skin_19 : decode cX2_skin 19 = .ok (.invokevirtual 345, 3) := dk_182 1 89 (dk_at dksX2_skin_0 19 rfl rfl)
theorem dX2_skin_22 : decode cX2_skin 22 = .ok (.astore_n 2, 1) := dk_77 (dk_at dksX2_skin_0 22 rfl rfl)
theorem dX2_skin_23 : decode cX2_skin 23 = .ok (.aload_n 2, 1) := dk_44 (dk_at dksX2_skin_0 23 rfl rfl)
theorem dX2_skin_24 : decode cX2_skin 24 = .ok (.getfield 348, 3) := dk_180 1 92 (dk_at dksX2_skin_1 0 rfl rfl)
theorem dX2_skin_27 : decode cX2_skin 27 = .ok (.bipush 6, 2) := dk_16 6 (dk_at dksX2_skin_1 3 rfl rfl)
theorem dX2_skin_29 : decode cX2_skin 29 = .ok (.if_icmp .ne 9, 3) := dk_160 0 9 (dk_at dksX2_skin_1 5 rfl rfl)
theorem dX2_skin_32 : decode cX2_skin 32 = .ok (.aload_n 0, 1) := dk_42 (dk_at dksX2_skin_1 8 rfl rfl)
theorem dX2_skin_33 : decode cX2_skin 33 = .ok (.iconst 5, 1) := dk_8 (dk_at dksX2_skin_1 9 rfl rfl)
theorem dX2_skin_34 : decode cX2_skin 34 = .ok (.invokevirtual 89, 3) := dk_182 0 89 (dk_at dksX2_skin_1 10 rfl rfl)
theorem dX2_skin_37 : decode cX2_skin 37 = .ok (.athrow, 1) := dk_191 (dk_at dksX2_skin_1 13 rfl rfl)
theorem dX2_skin_38 : decode cX2_skin 38 = .ok (.aload_n 0, 1) := dk_42 (dk_at dksX2_skin_1 14 rfl rfl)
theorem dX2_skin_39 : decode cX2_skin 39 = .ok (.getfield 25, 3) := dk_180 0 25 (dk_at dksX2_skin_1 15 rfl rfl)
theorem dX2_skin_42 : decode cX2_skin 42 = .ok (.aload_n 1, 1) := dk_43 (dk_at dksX2_skin_1 18 rfl rfl)
theorem dX2_skin_43 : decode cX2_skin 43 = .ok (.getfield 343, 3) := dk_180 1 87 (dk_at dksX2_skin_1 19 rfl rfl)
theorem dX2_skin_46 : decode cX2_skin 46 = .ok (.invokevirtual 353, 3) := dk_182 1 97 (dk_at dksX2_skin_2 0 rfl rfl)
theorem dX2_skin_49 : decode cX2_skin 49 = .ok (.ifCond .ne 10, 3) := dk_154 0 10 (dk_at dksX2_skin_2 3 rfl rfl)
theorem dX2_skin_52 : decode cX2_skin 52 = .ok (.aload_n 0, 1) := dk_42 (dk_at dksX2_skin_2 6 rfl rfl)
theorem dX2_skin_53 : decode cX2_skin 53 = .ok (.bipush 7, 2) := dk_16 7 (dk_at dksX2_skin_2 7 rfl rfl)
theorem dX2_skin_55 : decode cX2_skin 55 = .ok (.invokevirtual 89, 3) := dk_182 0 89 (dk_at dksX2_skin_2 9 rfl rfl)
theorem dX2_skin_58 : decode cX2_skin 58 = .ok (.athrow, 1) := dk_191 (dk_at dksX2_skin_2 12 rfl rfl)
theorem dX2_skin_59 : decode cX2_skin 59 = .ok (.aload_n 0, 1) := dk_42 (dk_at dksX2_skin_2 13 rfl rfl)
theorem dX2_skin_60 : decode cX2_skin 60 = .ok (.invokevirtual 82, 3) := dk_182 0 82 (dk_at dksX2_skin_2 14 rfl rfl)
theorem dX2_skin_63 : decode cX2_skin 63 = .ok (.aload_n 0, 1) := dk_42 (dk_at dksX2_skin_2 17 rfl rfl)
theorem dX2_skin_64 : decode cX2_skin 64 = .ok (.invokevirtual 321, 3) := dk_182 1 65 (dk_at dksX2_skin_2 18 rfl rfl)
theorem dX2_skin_67 : decode cX2_skin 67 = .ok (.astore_n 3, 1) := dk_78 (dk_at dksX2_skin_2 21 rfl rfl)
theorem dX2_skin_68 : decode cX2_skin 68 = .ok (.aload_n 0, 1) := dk_42 (dk_at dksX2_skin_2 22 rfl rfl)
theorem dX2_skin_69 : decode cX2_skin 69 = .ok (.getfield 54, 3) := dk_180 0 54 (dk_at dksX2_skin_3 0 rfl rfl)
theorem dX2_skin_72 : decode cX2_skin 72 = .ok (.iconst 2, 1) := dk_5 (dk_at dksX2_skin_3 3 rfl rfl)
theorem dX2_skin_73 : decode cX2_skin 73 = .ok (.if_icmp .eq 7, 3) := dk_159 0 7 (dk_at dksX2_skin_3 4 rfl rfl)
theorem dX2_skin_76 : decode cX2_skin 76 = .ok (.iconst (-1), 1) := dk_2 (dk_at dksX2_skin_3 7 rfl rfl)
theorem dX2_skin_77 : decode cX2_skin 77 = .ok (.goto 72, 3) := dk_167 0 72 (dk_at dksX2_skin_3 8 rfl rfl)
theorem dX2_skin_80 : decode cX2_skin 80 = .ok (.aload_n 0, 1) := dk_42 (dk_at dksX2_skin_3 11 rfl rfl)
theorem dX2_skin_81 : decode cX2_skin 81 = .ok (.getfield 68, 3) := dk_180 0 68 (dk_at dksX2_skin_3 12 rfl rfl)
theorem dX2_skin_84 : decode cX2_skin 84 = .ok (.ldc_w 356, 3) := dk_19 1 100 (dk_at dksX2_skin_3 15 rfl rfl)
theorem dX2_skin_87 : decode cX2_skin 87 = .ok (.invokevirtual 78, 3) := dk_182 0 78 (dk_at dksX2_skin_3 18 rfl rfl)
theorem dX2_skin_90 : decode cX2_skin 90 = .ok (.ifCond .eq 7, 3) := dk_153 0 7 (dk_at dksX2_skin_3 21 rfl rfl)
theorem dX2_skin_93 : decode cX2_skin 93 = .ok (.iconst 0, 1) := dk_3 (dk_at dksX2_skin_4 0 rfl rfl)
theorem dX2_skin_94 : decode cX2_skin 94 = .ok (.goto 55, 3) := dk_167 0 55 (dk_at dksX2_skin_4 1 rfl rfl)
theorem dX2_skin_97 : decode cX2_skin 97 = .ok (.aload_n 0, 1) := dk_42 (dk_at dksX2_skin_4 4 rfl rfl)
theorem dX2_skin_98 : decode cX2_skin 98 = .ok (.getfield 68, 3) := dk_180 0 68 (dk_at dksX2_skin_4 5 rfl rfl)
theorem dX2_skin_101 : decode cX2_skin 101 = .ok (.ldc_w 358, 3) := dk_19 1 102 (dk_at dksX2_skin_4 8 rfl rfl)
theorem dX2_skin_104 : decode cX2_skin 104 = .ok (.invokevirtual 78, 3) := dk_182 0 78 (dk_at dksX2_skin_4 11 rfl rfl)
theorem dX2_skin_107 : decode cX2_skin 107 = .ok (.ifCond .eq 7, 3) := dk_153 0 7 (dk_at dksX2_skin_4 14 rfl rfl)
theorem dX2_skin_110 : decode cX2_skin 110 = .ok (.iconst 1, 1) := dk_4 (dk_at dksX2_skin_4 17 rfl rfl)
theorem dX2_skin_111 : decode cX2_skin 111 = .ok (.goto 38, 3) := dk_167 0 38 (dk_at dksX2_skin_4 18 rfl rfl)
theorem dX2_skin_114 : decode cX2_skin 114 = .ok (.aload_n 0, 1) := dk_42 (dk_at dksX2_skin_4 21 rfl rfl)
theorem dX2_skin_115 : decode cX2_skin 115 = .ok (.getfield 68, 3) := dk_180 0 68 (dk_at dksX2_skin_5 0 rfl rfl)
theorem dX2_skin_118 : decode cX2_skin 118 = .ok (.ldc_w 360, 3) := dk_19 1 104 (dk_at dksX2_skin_5 3 rfl rfl)
theorem dX2_skin_121 : decode cX2_skin 121 = .ok (.invokevirtual 78, 3) := dk_182 0 78 (dk_at dksX2_skin_5 6 rfl rfl)
theorem dX2_skin_124 : decode cX2_skin 124 = .ok (.ifCond .eq 7, 3) := dk_153 0 7 (dk_at dksX2_skin_5 9 rfl rfl)
theorem dX2_skin_127 : decode cX2_skin 127 = .ok (.iconst 2, 1) := dk_5 (dk_at dksX2_skin_5 12 rfl rfl)
theorem dX2_skin_128 : decode cX2_skin 128 = .ok (.goto 21, 3) := dk_167 0 21 (dk_at dksX2_skin_5 13 rfl rfl)
theorem dX2_skin_131 : decode cX2_skin 131 = .ok (.aload_n 0, 1) := dk_42 (dk_at dksX2_skin_5 16 rfl rfl)
theorem dX2_skin_132 : decode cX2_skin 132 = .ok (.getfield 68, 3) := dk_180 0 68 (dk_at dksX2_skin_5 17 rfl rfl)
theorem dX2_skin_135 : decode cX2_skin 135 = .ok (.ldc_w 362, 3) := dk_19 1 106 (dk_at dksX2_skin_5 20 rfl rfl)
theorem dX2_skin_138 : decode cX2_skin 138 = .ok (.invokevirtual 78, 3) := dk_182 0 78 (dk_at dksX2_skin_6 0 rfl rfl)
theorem dX2_skin_141 : decode cX2_skin 141 = .ok (.ifCond .eq 7, 3) := dk_153 0 7 (dk_at dksX2_skin_6 3 rfl rfl)
theorem dX2_skin_144 : decode cX2_skin 144 = .ok (.iconst 3, 1) := dk_6 (dk_at dksX2_skin_6 6 rfl rfl)
theorem dX2_skin_145 : decode cX2_skin 145 = .ok (.goto 4, 3) := dk_167 0 4 (dk_at dksX2_skin_6 7 rfl rfl)
theorem dX2_skin_148 : decode cX2_skin 148 = .ok (.iconst (-1), 1) := dk_2 (dk_at dksX2_skin_6 10 rfl rfl)
theorem dX2_skin_149 : decode cX2_skin 149 = .ok (.istore 4, 2) := dk_54 4 (dk_at dksX2_skin_6 11 rfl rfl)
theorem dX2_skin_151 : decode cX2_skin 151 = .ok (.iload 4, 2) := dk_21 4 (dk_at dksX2_skin_6 13 rfl rfl)
theorem dX2_skin_153 : decode cX2_skin 153 = .ok (.iconst (-1), 1) := dk_2 (dk_at dksX2_skin_6 15 rfl rfl)
theorem dX2_skin_154 : decode cX2_skin 154 = .ok (.if_icmp .ne 9, 3) := dk_160 0 9 (dk_at dksX2_skin_6 16 rfl rfl)
theorem dX2_skin_157 : decode cX2_skin 157 = .ok (.aload_n 0, 1) := dk_42 (dk_at dksX2_skin_6 19 rfl rfl)
theorem dX2_skin_158 : decode cX2_skin 158 = .ok (.iconst 1, 1) := dk_4 (dk_at dksX2_skin_6 20 rfl rfl)
theorem dX2_skin_159 : decode cX2_skin 159 = .ok (.invokevirtual 89, 3) := dk_182 0 89 (dk_at dksX2_skin_6 21 rfl rfl)
theorem dX2_skin_162 : decode cX2_skin 162 = .ok (.athrow, 1) := dk_191 (dk_at dksX2_skin_7 0 rfl rfl)
theorem dX2_skin_163 : decode cX2_skin 163 = .ok (.aload_n 0, 1) := dk_42 (dk_at dksX2_skin_7 1 rfl rfl)
theorem dX2_skin_164 : decode cX2_skin 164 = .ok (.invokevirtual 82, 3) := dk_182 0 82 (dk_at dksX2_skin_7 2 rfl rfl)
theorem dX2_skin_167 : decode cX2_skin 167 = .ok (.aload_n 0, 1) := dk_42 (dk_at dksX2_skin_7 5 rfl rfl)
theorem dX2_skin_168 : decode cX2_skin 168 = .ok (.iconst 0, 1) := dk_3 (dk_at dksX2_skin_7 6 rfl rfl)
theorem dX2_skin_169 : decode cX2_skin 169 = .ok (.iconst 2, 1) := dk_5 (dk_at dksX2_skin_7 7 rfl rfl)
theorem dX2_skin_170 : decode cX2_skin 170 = .ok (.aload_n 2, 1) := dk_44 (dk_at dksX2_skin_7 8 rfl rfl)
theorem dX2_skin_171 : decode cX2_skin 171 = .ok (.getfield 348, 3) := dk_180 1 92 (dk_at dksX2_skin_7 9 rfl rfl)
theorem dX2_skin_174 : decode cX2_skin 174 = .ok (.imul, 1) := dk_104 (dk_at dksX2_skin_7 12 rfl rfl)
theorem dX2_skin_175 : decode cX2_skin 175 = .ok (.invokevirtual 149, 3) := dk_182 0 149 (dk_at dksX2_skin_7 13 rfl rfl)
theorem dX2_skin_178 : decode cX2_skin 178 = .ok (.istore 5, 2) := dk_54 5 (dk_at dksX2_skin_7 16 rfl rfl)
theorem dX2_skin_180 : decode cX2_skin 180 = .ok (.aload_n 2, 1) := dk_44 (dk_at dksX2_skin_7 18 rfl rfl)
theorem dX2_skin_181 : decode cX2_skin 181 = .ok (.aload_n 3, 1) := dk_45 (dk_at dksX2_skin_7 19 rfl rfl)
theorem dX2_skin_182 : decode cX2_skin 182 = .ok (.iload 4, 2) := dk_21 4 (dk_at dksX2_skin_7 20 rfl rfl)
theorem dX2_skin_184 : decode cX2_skin 184 = .ok (.iload 5, 2) := dk_21 5 (dk_at dksX2_skin_7 22 rfl rfl)
theorem dX2_skin_186 : decode cX2_skin 186 = .ok (.aload_n 0, 1) := dk_42 (dk_at dksX2_skin_8 0 rfl rfl)
theorem dX2_skin_187 : decode cX2_skin 187 = .ok (.ldc_w 364, 3) := dk_19 1 108 (dk_at dksX2_skin_8 1 rfl rfl)
theorem dX2_skin_190 : decode cX2_skin 190 = .ok (.iconst 0, 1) := dk_3 (dk_at dksX2_skin_8 4 rfl rfl)
theorem dX2_skin_191 : decode cX2_skin 191 = .ok (.bipush 99, 2) := dk_16 99 (dk_at dksX2_skin_8 5 rfl rfl)
theorem dX2_skin_193 : decode cX2_skin 193 = .ok (.invokevirtual 206, 3) := dk_182 0 206 (dk_at dksX2_skin_8 7 rfl rfl)
theorem dX2_skin_196 : decode cX2_skin 196 = .ok (.bipush (-2), 2) := dk_16 254 (dk_at dksX2_skin_8 10 rfl rfl)
theorem dX2_skin_198 : decode cX2_skin 198 = .ok (.invokevirtual 366, 3) := dk_182 1 110 (dk_at dksX2_skin_8 12 rfl rfl)
theorem dX2_skin_201 : decode cX2_skin 201 = .ok (.return_, 1) := dk_177 (dk_at dksX2_skin_8 15 rfl rfl)
abbrev cX2_siteHere : ByteArray := prog_8_method_14_code
def yX2_siteHere : MethodName := ⟨RX2, "siteHere", "()LYearSkins$Site;"⟩
def dkwX2_siteHere_0 : List UInt8 := [42, 182, 0, 131, 76, 43, 193, 0, 137, 154, 0, 9, 42, 5, 182, 0, 89, 191, 43, 192, 0, 137, 176]
abbrev dktX2_siteHere_0 : List UInt8 := dkwX2_siteHere_0 ++ []
theorem dksX2_siteHere_0 : cX2_siteHere.data.toList.drop 0 = dktX2_siteHere_0 := by decide +kernel
theorem dX2_siteHere_0 : decode cX2_siteHere 0 = .ok (.aload_n 0, 1) := dk_42 (dk_at dksX2_siteHere_0 0 rfl rfl)
theorem dX2_siteHere_1 : decode cX2_siteHere 1 = .ok (.invokevirtual 131, 3) := dk_182 0 131 (dk_at dksX2_siteHere_0 1 rfl rfl)
theorem dX2_siteHere_4 : decode cX2_siteHere 4 = .ok (.astore_n 1, 1) := dk_76 (dk_at dksX2_siteHere_0 4 rfl rfl)
theorem dX2_siteHere_5 : decode cX2_siteHere 5 = .ok (.aload_n 1, 1) := dk_43 (dk_at dksX2_siteHere_0 5 rfl rfl)
theorem dX2_siteHere_6 : decode cX2_siteHere 6 = .ok (.instanceof 137, 3) := dk_193 0 137 (dk_at dksX2_siteHere_0 6 rfl rfl)
theorem dX2_siteHere_9 : decode cX2_siteHere 9 = .ok (.ifCond .ne 9, 3) := dk_154 0 9 (dk_at dksX2_siteHere_0 9 rfl rfl)
theorem dX2_siteHere_12 : decode cX2_siteHere 12 = .ok (.aload_n 0, 1) := dk_42 (dk_at dksX2_siteHere_0 12 rfl rfl)
theorem dX2_siteHere_13 : decode cX2_siteHere 13 = .ok (.iconst 2, 1) := dk_5 (dk_at dksX2_siteHere_0 13 rfl rfl)
theorem dX2_siteHere_14 : decode cX2_siteHere 14 = .ok (.invokevirtual 89, 3) := dk_182 0 89 (dk_at dksX2_siteHere_0 14 rfl rfl)
theorem dX2_siteHere_17 : decode cX2_siteHere 17 = .ok (.athrow, 1) := dk_191 (dk_at dksX2_siteHere_0 17 rfl rfl)
theorem dX2_siteHere_18 : decode cX2_siteHere 18 = .ok (.aload_n 1, 1) := dk_43 (dk_at dksX2_siteHere_0 18 rfl rfl)
theorem dX2_siteHere_19 : decode cX2_siteHere 19 = .ok (.checkcast 137, 3) := dk_192 0 137 (dk_at dksX2_siteHere_0 19 rfl rfl)
theorem dX2_siteHere_22 : decode cX2_siteHere 22 = .ok (.areturn, 1) := dk_176 (dk_at dksX2_siteHere_0 22 rfl rfl)
abbrev cX2_heir : ByteArray := prog_8_method_31_code
def yX2_heir : MethodName := ⟨RX2, "heir", "()V"⟩
def dkwX2_heir_5 : List UInt8 := [42, 180, 0, 122, 89, 180, 1, 114, 4, 96, 181, 1, 114, 177]
abbrev dktX2_heir_5 : List UInt8 := dkwX2_heir_5 ++ []
def dkwX2_heir_4 : List UInt8 := [180, 1, 114, 45, 180, 1, 122, 79, 42, 180, 0, 122, 180, 1, 127, 42, 180, 0, 122, 180, 1, 114, 45, 83]
abbrev dktX2_heir_4 : List UInt8 := dkwX2_heir_4 ++ dktX2_heir_5
def dkwX2_heir_3 : List UInt8 := [182, 1, 89, 180, 1, 92, 182, 0, 149, 181, 1, 122, 42, 180, 0, 25, 180, 1, 124, 42, 180, 0, 122]
abbrev dktX2_heir_3 : List UInt8 := dkwX2_heir_3 ++ dktX2_heir_4
def dkwX2_heir_2 : List UInt8 := [180, 1, 114, 44, 180, 1, 87, 183, 1, 119, 78, 45, 42, 3, 42, 180, 0, 25, 44, 180, 1, 87]
abbrev dktX2_heir_2 : List UInt8 := dkwX2_heir_2 ++ dktX2_heir_3
def dkwX2_heir_1 : List UInt8 := [182, 1, 24, 76, 42, 182, 1, 83, 77, 42, 182, 0, 82, 187, 1, 117, 89, 43, 42, 180, 0, 122]
abbrev dktX2_heir_1 : List UInt8 := dkwX2_heir_1 ++ dktX2_heir_2
def dkwX2_heir_0 : List UInt8 := [42, 42, 180, 0, 122, 180, 1, 114, 16, 6, 162, 0, 7, 4, 167, 0, 4, 3, 4, 182, 0, 230, 42]
abbrev dktX2_heir_0 : List UInt8 := dkwX2_heir_0 ++ dktX2_heir_1
theorem dksX2_heir_0 : cX2_heir.data.toList.drop 0 = dktX2_heir_0 := by decide +kernel
theorem dksX2_heir_1 : cX2_heir.data.toList.drop 23 = dktX2_heir_1 := dk_seg dksX2_heir_0 23 rfl rfl
theorem dksX2_heir_2 : cX2_heir.data.toList.drop 45 = dktX2_heir_2 := dk_seg dksX2_heir_1 22 rfl rfl
theorem dksX2_heir_3 : cX2_heir.data.toList.drop 67 = dktX2_heir_3 := dk_seg dksX2_heir_2 22 rfl rfl
theorem dksX2_heir_4 : cX2_heir.data.toList.drop 90 = dktX2_heir_4 := dk_seg dksX2_heir_3 23 rfl rfl
theorem dksX2_heir_5 : cX2_heir.data.toList.drop 114 = dktX2_heir_5 := dk_seg dksX2_heir_4 24 rfl rfl
theorem dX2_heir_0 : decode cX2_heir 0 = .ok (.aload_n 0, 1) := dk_42 (dk_at dksX2_heir_0 0 rfl rfl)
theorem dX2_heir_1 : decode cX2_heir 1 = .ok (.aload_n 0, 1) := dk_42 (dk_at dksX2_heir_0 1 rfl rfl)
theorem dX2_heir_2 : decode cX2_heir 2 = .ok (.getfield 122, 3) := dk_180 0 122 (dk_at dksX2_heir_0 2 rfl rfl)
theorem dX2_heir_5 : decode cX2_heir 5 = .ok (.getfield 370, 3) := dk_180 1 114 (dk_at dksX2_heir_0 5 rfl rfl)
theorem dX2_heir_8 : decode cX2_heir 8 = .ok (.bipush 6, 2) := dk_16 6 (dk_at dksX2_heir_0 8 rfl rfl)
theorem dX2_heir_10 : decode cX2_heir 10 = .ok (.if_icmp .ge 7, 3) := dk_162 0 7 (dk_at dksX2_heir_0 10 rfl rfl)
theorem dX2_heir_13 : decode cX2_heir 13 = .ok (.iconst 1, 1) := dk_4 (dk_at dksX2_heir_0 13 rfl rfl)
theorem dX2_heir_14 : decode cX2_heir 14 = .ok (.goto 4, 3) := dk_167 0 4 (dk_at dksX2_heir_0 14 rfl rfl)
theorem dX2_heir_17 : decode cX2_heir 17 = .ok (.iconst 0, 1) := dk_3 (dk_at dksX2_heir_0 17 rfl rfl)
theorem dX2_heir_18 : decode cX2_heir 18 = .ok (.iconst 1, 1) := dk_4 (dk_at dksX2_heir_0 18 rfl rfl)
theorem dX2_heir_19 : decode cX2_heir 19 = .ok (.invokevirtual 230, 3) := dk_182 0 230 (dk_at dksX2_heir_0 19 rfl rfl)
theorem dX2_heir_22 : decode cX2_heir 22 = .ok (.aload_n 0, 1) := dk_42 (dk_at dksX2_heir_0 22 rfl rfl)
theorem dX2_heir_23 : decode cX2_heir 23 = .ok (.invokevirtual 280, 3) := dk_182 1 24 (dk_at dksX2_heir_1 0 rfl rfl)
theorem dX2_heir_26 : decode cX2_heir 26 = .ok (.astore_n 1, 1) := dk_76 (dk_at dksX2_heir_1 3 rfl rfl)
theorem dX2_heir_27 : decode cX2_heir 27 = .ok (.aload_n 0, 1) := dk_42 (dk_at dksX2_heir_1 4 rfl rfl)
theorem dX2_heir_28 : decode cX2_heir 28 = .ok (.invokevirtual 339, 3) := dk_182 1 83 (dk_at dksX2_heir_1 5 rfl rfl)
theorem dX2_heir_31 : decode cX2_heir 31 = .ok (.astore_n 2, 1) := dk_77 (dk_at dksX2_heir_1 8 rfl rfl)
theorem dX2_heir_32 : decode cX2_heir 32 = .ok (.aload_n 0, 1) := dk_42 (dk_at dksX2_heir_1 9 rfl rfl)
theorem dX2_heir_33 : decode cX2_heir 33 = .ok (.invokevirtual 82, 3) := dk_182 0 82 (dk_at dksX2_heir_1 10 rfl rfl)
theorem dX2_heir_36 : decode cX2_heir 36 = .ok (.new 373, 3) := dk_187 1 117 (dk_at dksX2_heir_1 13 rfl rfl)
theorem dX2_heir_39 : decode cX2_heir 39 = .ok (.dup, 1) := dk_89 (dk_at dksX2_heir_1 16 rfl rfl)
theorem dX2_heir_40 : decode cX2_heir 40 = .ok (.aload_n 1, 1) := dk_43 (dk_at dksX2_heir_1 17 rfl rfl)
theorem dX2_heir_41 : decode cX2_heir 41 = .ok (.aload_n 0, 1) := dk_42 (dk_at dksX2_heir_1 18 rfl rfl)
theorem dX2_heir_42 : decode cX2_heir 42 = .ok (.getfield 122, 3) := dk_180 0 122 (dk_at dksX2_heir_1 19 rfl rfl)
theorem dX2_heir_45 : decode cX2_heir 45 = .ok (.getfield 370, 3) := dk_180 1 114 (dk_at dksX2_heir_2 0 rfl rfl)
theorem dX2_heir_48 : decode cX2_heir 48 = .ok (.aload_n 2, 1) := dk_44 (dk_at dksX2_heir_2 3 rfl rfl)
theorem dX2_heir_49 : decode cX2_heir 49 = .ok (.getfield 343, 3) := dk_180 1 87 (dk_at dksX2_heir_2 4 rfl rfl)
theorem dX2_heir_52 : decode cX2_heir 52 = .ok (.invokespecial 375, 3) := dk_183 1 119 (dk_at dksX2_heir_2 7 rfl rfl)
theorem dX2_heir_55 : decode cX2_heir 55 = .ok (.astore_n 3, 1) := dk_78 (dk_at dksX2_heir_2 10 rfl rfl)
theorem dX2_heir_56 : decode cX2_heir 56 = .ok (.aload_n 3, 1) := dk_45 (dk_at dksX2_heir_2 11 rfl rfl)
theorem dX2_heir_57 : decode cX2_heir 57 = .ok (.aload_n 0, 1) := dk_42 (dk_at dksX2_heir_2 12 rfl rfl)
theorem dX2_heir_58 : decode cX2_heir 58 = .ok (.iconst 0, 1) := dk_3 (dk_at dksX2_heir_2 13 rfl rfl)
theorem dX2_heir_59 : decode cX2_heir 59 = .ok (.aload_n 0, 1) := dk_42 (dk_at dksX2_heir_2 14 rfl rfl)
theorem dX2_heir_60 : decode cX2_heir 60 = .ok (.getfield 25, 3) := dk_180 0 25 (dk_at dksX2_heir_2 15 rfl rfl)
theorem dX2_heir_63 : decode cX2_heir 63 = .ok (.aload_n 2, 1) := dk_44 (dk_at dksX2_heir_2 18 rfl rfl)
theorem dX2_heir_64 : decode cX2_heir 64 = .ok (.getfield 343, 3) := dk_180 1 87 (dk_at dksX2_heir_2 19 rfl rfl)
theorem dX2_heir_67 : decode cX2_heir 67 = .ok (.invokevirtual 345, 3) := dk_182 1 89 (dk_at dksX2_heir_3 0 rfl rfl)
theorem dX2_heir_70 : decode cX2_heir 70 = .ok (.getfield 348, 3) := dk_180 1 92 (dk_at dksX2_heir_3 3 rfl rfl)
theorem dX2_heir_73 : decode cX2_heir 73 = .ok (.invokevirtual 149, 3) := dk_182 0 149 (dk_at dksX2_heir_3 6 rfl rfl)
theorem dX2_heir_76 : decode cX2_heir 76 = .ok (.putfield 378, 3) := dk_181 1 122 (dk_at dksX2_heir_3 9 rfl rfl)
theorem dX2_heir_79 : decode cX2_heir 79 = .ok (.aload_n 0, 1) := dk_42 (dk_at dksX2_heir_3 12 rfl rfl)
theorem dX2_heir_80 : decode cX2_heir 80 = .ok (.getfield 25, 3) := dk_180 0 25 (dk_at dksX2_heir_3 13 rfl rfl)
theorem dX2_heir_83 : decode cX2_heir 83 = .ok (.getfield 380, 3) := dk_180 1 124 (dk_at dksX2_heir_3 16 rfl rfl)
theorem dX2_heir_86 : decode cX2_heir 86 = .ok (.aload_n 0, 1) := dk_42 (dk_at dksX2_heir_3 19 rfl rfl)
theorem dX2_heir_87 : decode cX2_heir 87 = .ok (.getfield 122, 3) := dk_180 0 122 (dk_at dksX2_heir_3 20 rfl rfl)
theorem dX2_heir_90 : decode cX2_heir 90 = .ok (.getfield 370, 3) := dk_180 1 114 (dk_at dksX2_heir_4 0 rfl rfl)
theorem dX2_heir_93 : decode cX2_heir 93 = .ok (.aload_n 3, 1) := dk_45 (dk_at dksX2_heir_4 3 rfl rfl)
theorem dX2_heir_94 : decode cX2_heir 94 = .ok (.getfield 378, 3) := dk_180 1 122 (dk_at dksX2_heir_4 4 rfl rfl)
theorem dX2_heir_97 : decode cX2_heir 97 = .ok (.iastore, 1) := dk_79 (dk_at dksX2_heir_4 7 rfl rfl)
theorem dX2_heir_98 : decode cX2_heir 98 = .ok (.aload_n 0, 1) := dk_42 (dk_at dksX2_heir_4 8 rfl rfl)
theorem dX2_heir_99 : decode cX2_heir 99 = .ok (.getfield 122, 3) := dk_180 0 122 (dk_at dksX2_heir_4 9 rfl rfl)
theorem dX2_heir_102 : decode cX2_heir 102 = .ok (.getfield 383, 3) := dk_180 1 127 (dk_at dksX2_heir_4 12 rfl rfl)
theorem dX2_heir_105 : decode cX2_heir 105 = .ok (.aload_n 0, 1) := dk_42 (dk_at dksX2_heir_4 15 rfl rfl)
theorem dX2_heir_106 : decode cX2_heir 106 = .ok (.getfield 122, 3) := dk_180 0 122 (dk_at dksX2_heir_4 16 rfl rfl)
theorem dX2_heir_109 : decode cX2_heir 109 = .ok (.getfield 370, 3) := dk_180 1 114 (dk_at dksX2_heir_4 19 rfl rfl)
theorem dX2_heir_112 : decode cX2_heir 112 = .ok (.aload_n 3, 1) := dk_45 (dk_at dksX2_heir_4 22 rfl rfl)
theorem dX2_heir_113 : decode cX2_heir 113 = .ok (.aastore, 1) := dk_83 (dk_at dksX2_heir_4 23 rfl rfl)
theorem dX2_heir_114 : decode cX2_heir 114 = .ok (.aload_n 0, 1) := dk_42 (dk_at dksX2_heir_5 0 rfl rfl)
theorem dX2_heir_115 : decode cX2_heir 115 = .ok (.getfield 122, 3) := dk_180 0 122 (dk_at dksX2_heir_5 1 rfl rfl)
theorem dX2_heir_118 : decode cX2_heir 118 = .ok (.dup, 1) := dk_89 (dk_at dksX2_heir_5 4 rfl rfl)
theorem dX2_heir_119 : decode cX2_heir 119 = .ok (.getfield 370, 3) := dk_180 1 114 (dk_at dksX2_heir_5 5 rfl rfl)
theorem dX2_heir_122 : decode cX2_heir 122 = .ok (.iconst 1, 1) := dk_4 (dk_at dksX2_heir_5 8 rfl rfl)
theorem dX2_heir_123 : decode cX2_heir 123 = .ok (.iadd, 1) := dk_96 (dk_at dksX2_heir_5 9 rfl rfl)
theorem dX2_heir_124 : decode cX2_heir 124 = .ok (.putfield 370, 3) := dk_181 1 114 (dk_at dksX2_heir_5 10 rfl rfl)
theorem dX2_heir_127 : decode cX2_heir 127 = .ok (.return_, 1) := dk_177 (dk_at dksX2_heir_5 13 rfl rfl)
abbrev cX2_wall : ByteArray := prog_8_method_32_code
def yX2_wall : MethodName := ⟨RX2, "wall", "()V"⟩
def dkwX2_wall_2 : List UInt8 := [180, 0, 122, 180, 1, 131, 183, 1, 138, 83, 42, 180, 0, 122, 89, 180, 1, 131, 4, 96, 181, 1, 131, 177]
abbrev dktX2_wall_2 : List UInt8 := dkwX2_wall_2 ++ []
def dkwX2_wall_1 : List UInt8 := [180, 0, 122, 180, 1, 134, 42, 180, 0, 122, 180, 1, 131, 187, 0, 139, 89, 42, 182, 1, 24, 42]
abbrev dktX2_wall_1 : List UInt8 := dkwX2_wall_1 ++ dktX2_wall_2
def dkwX2_wall_0 : List UInt8 := [42, 42, 180, 0, 122, 180, 1, 131, 16, 6, 162, 0, 7, 4, 167, 0, 4, 3, 4, 182, 0, 230, 42]
abbrev dktX2_wall_0 : List UInt8 := dkwX2_wall_0 ++ dktX2_wall_1
theorem dksX2_wall_0 : cX2_wall.data.toList.drop 0 = dktX2_wall_0 := by decide +kernel
theorem dksX2_wall_1 : cX2_wall.data.toList.drop 23 = dktX2_wall_1 := dk_seg dksX2_wall_0 23 rfl rfl
theorem dksX2_wall_2 : cX2_wall.data.toList.drop 45 = dktX2_wall_2 := dk_seg dksX2_wall_1 22 rfl rfl
theorem dX2_wall_0 : decode cX2_wall 0 = .ok (.aload_n 0, 1) := dk_42 (dk_at dksX2_wall_0 0 rfl rfl)
theorem dX2_wall_1 : decode cX2_wall 1 = .ok (.aload_n 0, 1) := dk_42 (dk_at dksX2_wall_0 1 rfl rfl)
theorem dX2_wall_2 : decode cX2_wall 2 = .ok (.getfield 122, 3) := dk_180 0 122 (dk_at dksX2_wall_0 2 rfl rfl)
theorem dX2_wall_5 : decode cX2_wall 5 = .ok (.getfield 387, 3) := dk_180 1 131 (dk_at dksX2_wall_0 5 rfl rfl)
theorem dX2_wall_8 : decode cX2_wall 8 = .ok (.bipush 6, 2) := dk_16 6 (dk_at dksX2_wall_0 8 rfl rfl)
theorem dX2_wall_10 : decode cX2_wall 10 = .ok (.if_icmp .ge 7, 3) := dk_162 0 7 (dk_at dksX2_wall_0 10 rfl rfl)
theorem dX2_wall_13 : decode cX2_wall 13 = .ok (.iconst 1, 1) := dk_4 (dk_at dksX2_wall_0 13 rfl rfl)
theorem dX2_wall_14 : decode cX2_wall 14 = .ok (.goto 4, 3) := dk_167 0 4 (dk_at dksX2_wall_0 14 rfl rfl)
theorem dX2_wall_17 : decode cX2_wall 17 = .ok (.iconst 0, 1) := dk_3 (dk_at dksX2_wall_0 17 rfl rfl)
theorem dX2_wall_18 : decode cX2_wall 18 = .ok (.iconst 1, 1) := dk_4 (dk_at dksX2_wall_0 18 rfl rfl)
theorem dX2_wall_19 : decode cX2_wall 19 = .ok (.invokevirtual 230, 3) := dk_182 0 230 (dk_at dksX2_wall_0 19 rfl rfl)
theorem dX2_wall_22 : decode cX2_wall 22 = .ok (.aload_n 0, 1) := dk_42 (dk_at dksX2_wall_0 22 rfl rfl)
theorem dX2_wall_23 : decode cX2_wall 23 = .ok (.getfield 122, 3) := dk_180 0 122 (dk_at dksX2_wall_1 0 rfl rfl)
theorem dX2_wall_26 : decode cX2_wall 26 = .ok (.getfield 390, 3) := dk_180 1 134 (dk_at dksX2_wall_1 3 rfl rfl)
theorem dX2_wall_29 : decode cX2_wall 29 = .ok (.aload_n 0, 1) := dk_42 (dk_at dksX2_wall_1 6 rfl rfl)
theorem dX2_wall_30 : decode cX2_wall 30 = .ok (.getfield 122, 3) := dk_180 0 122 (dk_at dksX2_wall_1 7 rfl rfl)
theorem dX2_wall_33 : decode cX2_wall 33 = .ok (.getfield 387, 3) := dk_180 1 131 (dk_at dksX2_wall_1 10 rfl rfl)
theorem dX2_wall_36 : decode cX2_wall 36 = .ok (.new 139, 3) := dk_187 0 139 (dk_at dksX2_wall_1 13 rfl rfl)
theorem dX2_wall_39 : decode cX2_wall 39 = .ok (.dup, 1) := dk_89 (dk_at dksX2_wall_1 16 rfl rfl)
theorem dX2_wall_40 : decode cX2_wall 40 = .ok (.aload_n 0, 1) := dk_42 (dk_at dksX2_wall_1 17 rfl rfl)
theorem dX2_wall_41 : decode cX2_wall 41 = .ok (.invokevirtual 280, 3) := dk_182 1 24 (dk_at dksX2_wall_1 18 rfl rfl)
theorem dX2_wall_44 : decode cX2_wall 44 = .ok (.aload_n 0, 1) := dk_42 (dk_at dksX2_wall_1 21 rfl rfl)
theorem dX2_wall_45 : decode cX2_wall 45 = .ok (.getfield 122, 3) := dk_180 0 122 (dk_at dksX2_wall_2 0 rfl rfl)
theorem dX2_wall_48 : decode cX2_wall 48 = .ok (.getfield 387, 3) := dk_180 1 131 (dk_at dksX2_wall_2 3 rfl rfl)
theorem dX2_wall_51 : decode cX2_wall 51 = .ok (.invokespecial 394, 3) := dk_183 1 138 (dk_at dksX2_wall_2 6 rfl rfl)
theorem dX2_wall_54 : decode cX2_wall 54 = .ok (.aastore, 1) := dk_83 (dk_at dksX2_wall_2 9 rfl rfl)
theorem dX2_wall_55 : decode cX2_wall 55 = .ok (.aload_n 0, 1) := dk_42 (dk_at dksX2_wall_2 10 rfl rfl)
theorem dX2_wall_56 : decode cX2_wall 56 = .ok (.getfield 122, 3) := dk_180 0 122 (dk_at dksX2_wall_2 11 rfl rfl)
theorem dX2_wall_59 : decode cX2_wall 59 = .ok (.dup, 1) := dk_89 (dk_at dksX2_wall_2 14 rfl rfl)
theorem dX2_wall_60 : decode cX2_wall 60 = .ok (.getfield 387, 3) := dk_180 1 131 (dk_at dksX2_wall_2 15 rfl rfl)
theorem dX2_wall_63 : decode cX2_wall 63 = .ok (.iconst 1, 1) := dk_4 (dk_at dksX2_wall_2 18 rfl rfl)
theorem dX2_wall_64 : decode cX2_wall 64 = .ok (.iadd, 1) := dk_96 (dk_at dksX2_wall_2 19 rfl rfl)
theorem dX2_wall_65 : decode cX2_wall 65 = .ok (.putfield 387, 3) := dk_181 1 131 (dk_at dksX2_wall_2 20 rfl rfl)
theorem dX2_wall_68 : decode cX2_wall 68 = .ok (.return_, 1) := dk_177 (dk_at dksX2_wall_2 23 rfl rfl)
abbrev cX2_older : ByteArray := prog_8_method_33_code
def yX2_older : MethodName := ⟨RX2, "older", "()V"⟩
def dkwX2_older_5 : List UInt8 := [96, 181, 1, 139, 177]
abbrev dktX2_older_5 : List UInt8 := dkwX2_older_5 ++ []
def dkwX2_older_4 : List UInt8 := [180, 1, 152, 42, 180, 0, 122, 180, 1, 139, 44, 180, 1, 146, 79, 42, 180, 0, 122, 89, 180, 1, 139, 4]
abbrev dktX2_older_4 : List UInt8 := dkwX2_older_4 ++ dktX2_older_5
def dkwX2_older_3 : List UInt8 := [180, 0, 122, 180, 1, 150, 42, 180, 0, 122, 180, 1, 139, 43, 180, 1, 146, 79, 42, 180, 0, 122]
abbrev dktX2_older_3 : List UInt8 := dkwX2_older_3 ++ dktX2_older_4
def dkwX2_older_2 : List UInt8 := [180, 1, 146, 44, 180, 1, 146, 182, 1, 147, 153, 0, 9, 42, 6, 182, 0, 89, 191, 42, 182, 0, 82, 42]
abbrev dktX2_older_2 : List UInt8 := dkwX2_older_2 ++ dktX2_older_3
def dkwX2_older_1 : List UInt8 := [182, 1, 142, 76, 42, 182, 0, 82, 42, 182, 1, 142, 77, 43, 44, 165, 0, 21, 42, 180, 0, 122, 43]
abbrev dktX2_older_1 : List UInt8 := dkwX2_older_1 ++ dktX2_older_2
def dkwX2_older_0 : List UInt8 := [42, 42, 180, 0, 122, 180, 1, 139, 16, 8, 162, 0, 7, 4, 167, 0, 4, 3, 4, 182, 0, 230, 42]
abbrev dktX2_older_0 : List UInt8 := dkwX2_older_0 ++ dktX2_older_1
theorem dksX2_older_0 : cX2_older.data.toList.drop 0 = dktX2_older_0 := by decide +kernel
theorem dksX2_older_1 : cX2_older.data.toList.drop 23 = dktX2_older_1 := dk_seg dksX2_older_0 23 rfl rfl
theorem dksX2_older_2 : cX2_older.data.toList.drop 46 = dktX2_older_2 := dk_seg dksX2_older_1 23 rfl rfl
theorem dksX2_older_3 : cX2_older.data.toList.drop 70 = dktX2_older_3 := dk_seg dksX2_older_2 24 rfl rfl
theorem dksX2_older_4 : cX2_older.data.toList.drop 92 = dktX2_older_4 := dk_seg dksX2_older_3 22 rfl rfl
theorem dksX2_older_5 : cX2_older.data.toList.drop 116 = dktX2_older_5 := dk_seg dksX2_older_4 24 rfl rfl
theorem dX2_older_0 : decode cX2_older 0 = .ok (.aload_n 0, 1) := dk_42 (dk_at dksX2_older_0 0 rfl rfl)
theorem dX2_older_1 : decode cX2_older 1 = .ok (.aload_n 0, 1) := dk_42 (dk_at dksX2_older_0 1 rfl rfl)
theorem dX2_older_2 : decode cX2_older 2 = .ok (.getfield 122, 3) := dk_180 0 122 (dk_at dksX2_older_0 2 rfl rfl)
theorem dX2_older_5 : decode cX2_older 5 = .ok (.getfield 395, 3) := dk_180 1 139 (dk_at dksX2_older_0 5 rfl rfl)
theorem dX2_older_8 : decode cX2_older 8 = .ok (.bipush 8, 2) := dk_16 8 (dk_at dksX2_older_0 8 rfl rfl)
theorem dX2_older_10 : decode cX2_older 10 = .ok (.if_icmp .ge 7, 3) := dk_162 0 7 (dk_at dksX2_older_0 10 rfl rfl)
theorem dX2_older_13 : decode cX2_older 13 = .ok (.iconst 1, 1) := dk_4 (dk_at dksX2_older_0 13 rfl rfl)
theorem dX2_older_14 : decode cX2_older 14 = .ok (.goto 4, 3) := dk_167 0 4 (dk_at dksX2_older_0 14 rfl rfl)
theorem dX2_older_17 : decode cX2_older 17 = .ok (.iconst 0, 1) := dk_3 (dk_at dksX2_older_0 17 rfl rfl)
theorem dX2_older_18 : decode cX2_older 18 = .ok (.iconst 1, 1) := dk_4 (dk_at dksX2_older_0 18 rfl rfl)
theorem dX2_older_19 : decode cX2_older 19 = .ok (.invokevirtual 230, 3) := dk_182 0 230 (dk_at dksX2_older_0 19 rfl rfl)
theorem dX2_older_22 : decode cX2_older 22 = .ok (.aload_n 0, 1) := dk_42 (dk_at dksX2_older_0 22 rfl rfl)
theorem dX2_older_23 : decode cX2_older 23 = .ok (.invokevirtual 398, 3) := dk_182 1 142 (dk_at dksX2_older_1 0 rfl rfl)
theorem dX2_older_26 : decode cX2_older 26 = .ok (.astore_n 1, 1) := dk_76 (dk_at dksX2_older_1 3 rfl rfl)
theorem dX2_older_27 : decode cX2_older 27 = .ok (.aload_n 0, 1) := dk_42 (dk_at dksX2_older_1 4 rfl rfl)
theorem dX2_older_28 : decode cX2_older 28 = .ok (.invokevirtual 82, 3) := dk_182 0 82 (dk_at dksX2_older_1 5 rfl rfl)
theorem dX2_older_31 : decode cX2_older 31 = .ok (.aload_n 0, 1) := dk_42 (dk_at dksX2_older_1 8 rfl rfl)
theorem dX2_older_32 : decode cX2_older 32 = .ok (.invokevirtual 398, 3) := dk_182 1 142 (dk_at dksX2_older_1 9 rfl rfl)
theorem dX2_older_35 : decode cX2_older 35 = .ok (.astore_n 2, 1) := dk_77 (dk_at dksX2_older_1 12 rfl rfl)
theorem dX2_older_36 : decode cX2_older 36 = .ok (.aload_n 1, 1) := dk_43 (dk_at dksX2_older_1 13 rfl rfl)
theorem dX2_older_37 : decode cX2_older 37 = .ok (.aload_n 2, 1) := dk_44 (dk_at dksX2_older_1 14 rfl rfl)
theorem dX2_older_38 : decode cX2_older 38 = .ok (.if_acmp .eq 21, 3) := dk_165 0 21 (dk_at dksX2_older_1 15 rfl rfl)
theorem dX2_older_41 : decode cX2_older 41 = .ok (.aload_n 0, 1) := dk_42 (dk_at dksX2_older_1 18 rfl rfl)
theorem dX2_older_42 : decode cX2_older 42 = .ok (.getfield 122, 3) := dk_180 0 122 (dk_at dksX2_older_1 19 rfl rfl)
theorem dX2_older_45 : decode cX2_older 45 = .ok (.aload_n 1, 1) := dk_43 (dk_at dksX2_older_1 22 rfl rfl)
theorem dX2_older_46 : decode cX2_older 46 = .ok (.getfield 402, 3) := dk_180 1 146 (dk_at dksX2_older_2 0 rfl rfl)
theorem dX2_older_49 : decode cX2_older 49 = .ok (.aload_n 2, 1) := dk_44 (dk_at dksX2_older_2 3 rfl rfl)
theorem dX2_older_50 : decode cX2_older 50 = .ok (.getfield 402, 3) := dk_180 1 146 (dk_at dksX2_older_2 4 rfl rfl)
theorem dX2_older_53 : decode cX2_older 53 = .ok (.invokevirtual 403, 3) := dk_182 1 147 (dk_at dksX2_older_2 7 rfl rfl)
theorem dX2_older_56 : decode cX2_older 56 = .ok (.ifCond .eq 9, 3) := dk_153 0 9 (dk_at dksX2_older_2 10 rfl rfl)
theorem dX2_older_59 : decode cX2_older 59 = .ok (.aload_n 0, 1) := dk_42 (dk_at dksX2_older_2 13 rfl rfl)
theorem dX2_older_60 : decode cX2_older 60 = .ok (.iconst 3, 1) := dk_6 (dk_at dksX2_older_2 14 rfl rfl)
theorem dX2_older_61 : decode cX2_older 61 = .ok (.invokevirtual 89, 3) := dk_182 0 89 (dk_at dksX2_older_2 15 rfl rfl)
theorem dX2_older_64 : decode cX2_older 64 = .ok (.athrow, 1) := dk_191 (dk_at dksX2_older_2 18 rfl rfl)
theorem dX2_older_65 : decode cX2_older 65 = .ok (.aload_n 0, 1) := dk_42 (dk_at dksX2_older_2 19 rfl rfl)
theorem dX2_older_66 : decode cX2_older 66 = .ok (.invokevirtual 82, 3) := dk_182 0 82 (dk_at dksX2_older_2 20 rfl rfl)
theorem dX2_older_69 : decode cX2_older 69 = .ok (.aload_n 0, 1) := dk_42 (dk_at dksX2_older_2 23 rfl rfl)
theorem dX2_older_70 : decode cX2_older 70 = .ok (.getfield 122, 3) := dk_180 0 122 (dk_at dksX2_older_3 0 rfl rfl)
theorem dX2_older_73 : decode cX2_older 73 = .ok (.getfield 406, 3) := dk_180 1 150 (dk_at dksX2_older_3 3 rfl rfl)
theorem dX2_older_76 : decode cX2_older 76 = .ok (.aload_n 0, 1) := dk_42 (dk_at dksX2_older_3 6 rfl rfl)
theorem dX2_older_77 : decode cX2_older 77 = .ok (.getfield 122, 3) := dk_180 0 122 (dk_at dksX2_older_3 7 rfl rfl)
theorem dX2_older_80 : decode cX2_older 80 = .ok (.getfield 395, 3) := dk_180 1 139 (dk_at dksX2_older_3 10 rfl rfl)
theorem dX2_older_83 : decode cX2_older 83 = .ok (.aload_n 1, 1) := dk_43 (dk_at dksX2_older_3 13 rfl rfl)
theorem dX2_older_84 : decode cX2_older 84 = .ok (.getfield 402, 3) := dk_180 1 146 (dk_at dksX2_older_3 14 rfl rfl)
theorem dX2_older_87 : decode cX2_older 87 = .ok (.iastore, 1) := dk_79 (dk_at dksX2_older_3 17 rfl rfl)
theorem dX2_older_88 : decode cX2_older 88 = .ok (.aload_n 0, 1) := dk_42 (dk_at dksX2_older_3 18 rfl rfl)
theorem dX2_older_89 : decode cX2_older 89 = .ok (.getfield 122, 3) := dk_180 0 122 (dk_at dksX2_older_3 19 rfl rfl)
theorem dX2_older_92 : decode cX2_older 92 = .ok (.getfield 408, 3) := dk_180 1 152 (dk_at dksX2_older_4 0 rfl rfl)
theorem dX2_older_95 : decode cX2_older 95 = .ok (.aload_n 0, 1) := dk_42 (dk_at dksX2_older_4 3 rfl rfl)
theorem dX2_older_96 : decode cX2_older 96 = .ok (.getfield 122, 3) := dk_180 0 122 (dk_at dksX2_older_4 4 rfl rfl)
theorem dX2_older_99 : decode cX2_older 99 = .ok (.getfield 395, 3) := dk_180 1 139 (dk_at dksX2_older_4 7 rfl rfl)
theorem dX2_older_102 : decode cX2_older 102 = .ok (.aload_n 2, 1) := dk_44 (dk_at dksX2_older_4 10 rfl rfl)
theorem dX2_older_103 : decode cX2_older 103 = .ok (.getfield 402, 3) := dk_180 1 146 (dk_at dksX2_older_4 11 rfl rfl)
theorem dX2_older_106 : decode cX2_older 106 = .ok (.iastore, 1) := dk_79 (dk_at dksX2_older_4 14 rfl rfl)
theorem dX2_older_107 : decode cX2_older 107 = .ok (.aload_n 0, 1) := dk_42 (dk_at dksX2_older_4 15 rfl rfl)
theorem dX2_older_108 : decode cX2_older 108 = .ok (.getfield 122, 3) := dk_180 0 122 (dk_at dksX2_older_4 16 rfl rfl)
theorem dX2_older_111 : decode cX2_older 111 = .ok (.dup, 1) := dk_89 (dk_at dksX2_older_4 19 rfl rfl)
theorem dX2_older_112 : decode cX2_older 112 = .ok (.getfield 395, 3) := dk_180 1 139 (dk_at dksX2_older_4 20 rfl rfl)
theorem dX2_older_115 : decode cX2_older 115 = .ok (.iconst 1, 1) := dk_4 (dk_at dksX2_older_4 23 rfl rfl)
theorem dX2_older_116 : decode cX2_older 116 = .ok (.iadd, 1) := dk_96 (dk_at dksX2_older_5 0 rfl rfl)
theorem dX2_older_117 : decode cX2_older 117 = .ok (.putfield 395, 3) := dk_181 1 139 (dk_at dksX2_older_5 1 rfl rfl)
theorem dX2_older_120 : decode cX2_older 120 = .ok (.return_, 1) := dk_177 (dk_at dksX2_older_5 4 rfl rfl)
abbrev cX2_wallHere : ByteArray := prog_8_method_15_code
def yX2_wallHere : MethodName := ⟨RX2, "wallHere", "()LYearSkins$Wall;"⟩
def dkwX2_wallHere_0 : List UInt8 := [42, 182, 0, 131, 76, 43, 193, 0, 139, 154, 0, 9, 42, 5, 182, 0, 89, 191, 43, 192, 0, 139, 176]
abbrev dktX2_wallHere_0 : List UInt8 := dkwX2_wallHere_0 ++ []
theorem dksX2_wallHere_0 : cX2_wallHere.data.toList.drop 0 = dktX2_wallHere_0 := by decide +kernel
theorem dX2_wallHere_0 : decode cX2_wallHere 0 = .ok (.aload_n 0, 1) := dk_42 (dk_at dksX2_wallHere_0 0 rfl rfl)
theorem dX2_wallHere_1 : decode cX2_wallHere 1 = .ok (.invokevirtual 131, 3) := dk_182 0 131 (dk_at dksX2_wallHere_0 1 rfl rfl)
theorem dX2_wallHere_4 : decode cX2_wallHere 4 = .ok (.astore_n 1, 1) := dk_76 (dk_at dksX2_wallHere_0 4 rfl rfl)
theorem dX2_wallHere_5 : decode cX2_wallHere 5 = .ok (.aload_n 1, 1) := dk_43 (dk_at dksX2_wallHere_0 5 rfl rfl)
theorem dX2_wallHere_6 : decode cX2_wallHere 6 = .ok (.instanceof 139, 3) := dk_193 0 139 (dk_at dksX2_wallHere_0 6 rfl rfl)
theorem dX2_wallHere_9 : decode cX2_wallHere 9 = .ok (.ifCond .ne 9, 3) := dk_154 0 9 (dk_at dksX2_wallHere_0 9 rfl rfl)
theorem dX2_wallHere_12 : decode cX2_wallHere 12 = .ok (.aload_n 0, 1) := dk_42 (dk_at dksX2_wallHere_0 12 rfl rfl)
theorem dX2_wallHere_13 : decode cX2_wallHere 13 = .ok (.iconst 2, 1) := dk_5 (dk_at dksX2_wallHere_0 13 rfl rfl)
theorem dX2_wallHere_14 : decode cX2_wallHere 14 = .ok (.invokevirtual 89, 3) := dk_182 0 89 (dk_at dksX2_wallHere_0 14 rfl rfl)
theorem dX2_wallHere_17 : decode cX2_wallHere 17 = .ok (.athrow, 1) := dk_191 (dk_at dksX2_wallHere_0 17 rfl rfl)
theorem dX2_wallHere_18 : decode cX2_wallHere 18 = .ok (.aload_n 1, 1) := dk_43 (dk_at dksX2_wallHere_0 18 rfl rfl)
theorem dX2_wallHere_19 : decode cX2_wallHere 19 = .ok (.checkcast 139, 3) := dk_192 0 139 (dk_at dksX2_wallHere_0 19 rfl rfl)
theorem dX2_wallHere_22 : decode cX2_wallHere 22 = .ok (.areturn, 1) := dk_176 (dk_at dksX2_wallHere_0 22 rfl rfl)
abbrev cX2_coin : ByteArray := prog_8_method_34_code
def yX2_coin : MethodName := ⟨RX2, "coin", "()V"⟩
def dkwX2_coin_1 : List UInt8 := [191, 42, 182, 0, 82, 43, 42, 3, 17, 3, 231, 182, 0, 149, 181, 1, 155, 177]
abbrev dktX2_coin_1 : List UInt8 := dkwX2_coin_1 ++ []
def dkwX2_coin_0 : List UInt8 := [42, 4, 4, 182, 0, 230, 42, 182, 1, 142, 76, 43, 180, 1, 155, 2, 159, 0, 9, 42, 6, 182, 0, 89]
abbrev dktX2_coin_0 : List UInt8 := dkwX2_coin_0 ++ dktX2_coin_1
theorem dksX2_coin_0 : cX2_coin.data.toList.drop 0 = dktX2_coin_0 := by decide +kernel
theorem dksX2_coin_1 : cX2_coin.data.toList.drop 24 = dktX2_coin_1 := dk_seg dksX2_coin_0 24 rfl rfl
theorem dX2_coin_0 : decode cX2_coin 0 = .ok (.aload_n 0, 1) := dk_42 (dk_at dksX2_coin_0 0 rfl rfl)
theorem dX2_coin_1 : decode cX2_coin 1 = .ok (.iconst 1, 1) := dk_4 (dk_at dksX2_coin_0 1 rfl rfl)
theorem dX2_coin_2 : decode cX2_coin 2 = .ok (.iconst 1, 1) := dk_4 (dk_at dksX2_coin_0 2 rfl rfl)
theorem dX2_coin_3 : decode cX2_coin 3 = .ok (.invokevirtual 230, 3) := dk_182 0 230 (dk_at dksX2_coin_0 3 rfl rfl)
theorem dX2_coin_6 : decode cX2_coin 6 = .ok (.aload_n 0, 1) := dk_42 (dk_at dksX2_coin_0 6 rfl rfl)
theorem dX2_coin_7 : decode cX2_coin 7 = .ok (.invokevirtual 398, 3) := dk_182 1 142 (dk_at dksX2_coin_0 7 rfl rfl)
theorem dX2_coin_10 : decode cX2_coin 10 = .ok (.astore_n 1, 1) := dk_76 (dk_at dksX2_coin_0 10 rfl rfl)
theorem dX2_coin_11 : decode cX2_coin 11 = .ok (.aload_n 1, 1) := dk_43 (dk_at dksX2_coin_0 11 rfl rfl)
theorem dX2_coin_12 : decode cX2_coin 12 = .ok (.getfield 411, 3) := dk_180 1 155 (dk_at dksX2_coin_0 12 rfl rfl)
theorem dX2_coin_15 : decode cX2_coin 15 = .ok (.iconst (-1), 1) := dk_2 (dk_at dksX2_coin_0 15 rfl rfl)
theorem dX2_coin_16 : decode cX2_coin 16 = .ok (.if_icmp .eq 9, 3) := dk_159 0 9 (dk_at dksX2_coin_0 16 rfl rfl)
theorem dX2_coin_19 : decode cX2_coin 19 = .ok (.aload_n 0, 1) := dk_42 (dk_at dksX2_coin_0 19 rfl rfl)
theorem dX2_coin_20 : decode cX2_coin 20 = .ok (.iconst 3, 1) := dk_6 (dk_at dksX2_coin_0 20 rfl rfl)
theorem dX2_coin_21 : decode cX2_coin 21 = .ok (.invokevirtual 89, 3) := dk_182 0 89 (dk_at dksX2_coin_0 21 rfl rfl)
theorem dX2_coin_24 : decode cX2_coin 24 = .ok (.athrow, 1) := dk_191 (dk_at dksX2_coin_1 0 rfl rfl)
theorem dX2_coin_25 : decode cX2_coin 25 = .ok (.aload_n 0, 1) := dk_42 (dk_at dksX2_coin_1 1 rfl rfl)
theorem dX2_coin_26 : decode cX2_coin 26 = .ok (.invokevirtual 82, 3) := dk_182 0 82 (dk_at dksX2_coin_1 2 rfl rfl)
theorem dX2_coin_29 : decode cX2_coin 29 = .ok (.aload_n 1, 1) := dk_43 (dk_at dksX2_coin_1 5 rfl rfl)
theorem dX2_coin_30 : decode cX2_coin 30 = .ok (.aload_n 0, 1) := dk_42 (dk_at dksX2_coin_1 6 rfl rfl)
theorem dX2_coin_31 : decode cX2_coin 31 = .ok (.iconst 0, 1) := dk_3 (dk_at dksX2_coin_1 7 rfl rfl)
theorem dX2_coin_32 : decode cX2_coin 32 = .ok (.sipush 999, 3) := dk_17 3 231 (dk_at dksX2_coin_1 8 rfl rfl)
theorem dX2_coin_35 : decode cX2_coin 35 = .ok (.invokevirtual 149, 3) := dk_182 0 149 (dk_at dksX2_coin_1 11 rfl rfl)
theorem dX2_coin_38 : decode cX2_coin 38 = .ok (.putfield 411, 3) := dk_181 1 155 (dk_at dksX2_coin_1 14 rfl rfl)
theorem dX2_coin_41 : decode cX2_coin 41 = .ok (.return_, 1) := dk_177 (dk_at dksX2_coin_1 17 rfl rfl)
abbrev cX2_smell : ByteArray := prog_8_method_35_code
def yX2_smell : MethodName := ⟨RX2, "smell", "()V"⟩
def dkwX2_smell_1 : List UInt8 := [191, 42, 182, 0, 82, 43, 42, 3, 17, 3, 231, 182, 0, 149, 181, 1, 157, 177]
abbrev dktX2_smell_1 : List UInt8 := dkwX2_smell_1 ++ []
def dkwX2_smell_0 : List UInt8 := [42, 4, 4, 182, 0, 230, 42, 182, 1, 142, 76, 43, 180, 1, 157, 2, 159, 0, 9, 42, 6, 182, 0, 89]
abbrev dktX2_smell_0 : List UInt8 := dkwX2_smell_0 ++ dktX2_smell_1
theorem dksX2_smell_0 : cX2_smell.data.toList.drop 0 = dktX2_smell_0 := by decide +kernel
theorem dksX2_smell_1 : cX2_smell.data.toList.drop 24 = dktX2_smell_1 := dk_seg dksX2_smell_0 24 rfl rfl
theorem dX2_smell_0 : decode cX2_smell 0 = .ok (.aload_n 0, 1) := dk_42 (dk_at dksX2_smell_0 0 rfl rfl)
theorem dX2_smell_1 : decode cX2_smell 1 = .ok (.iconst 1, 1) := dk_4 (dk_at dksX2_smell_0 1 rfl rfl)
theorem dX2_smell_2 : decode cX2_smell 2 = .ok (.iconst 1, 1) := dk_4 (dk_at dksX2_smell_0 2 rfl rfl)
theorem dX2_smell_3 : decode cX2_smell 3 = .ok (.invokevirtual 230, 3) := dk_182 0 230 (dk_at dksX2_smell_0 3 rfl rfl)
theorem dX2_smell_6 : decode cX2_smell 6 = .ok (.aload_n 0, 1) := dk_42 (dk_at dksX2_smell_0 6 rfl rfl)
theorem dX2_smell_7 : decode cX2_smell 7 = .ok (.invokevirtual 398, 3) := dk_182 1 142 (dk_at dksX2_smell_0 7 rfl rfl)
theorem dX2_smell_10 : decode cX2_smell 10 = .ok (.astore_n 1, 1) := dk_76 (dk_at dksX2_smell_0 10 rfl rfl)
theorem dX2_smell_11 : decode cX2_smell 11 = .ok (.aload_n 1, 1) := dk_43 (dk_at dksX2_smell_0 11 rfl rfl)
theorem dX2_smell_12 : decode cX2_smell 12 = .ok (.getfield 413, 3) := dk_180 1 157 (dk_at dksX2_smell_0 12 rfl rfl)
theorem dX2_smell_15 : decode cX2_smell 15 = .ok (.iconst (-1), 1) := dk_2 (dk_at dksX2_smell_0 15 rfl rfl)
theorem dX2_smell_16 : decode cX2_smell 16 = .ok (.if_icmp .eq 9, 3) := dk_159 0 9 (dk_at dksX2_smell_0 16 rfl rfl)
theorem dX2_smell_19 : decode cX2_smell 19 = .ok (.aload_n 0, 1) := dk_42 (dk_at dksX2_smell_0 19 rfl rfl)
theorem dX2_smell_20 : decode cX2_smell 20 = .ok (.iconst 3, 1) := dk_6 (dk_at dksX2_smell_0 20 rfl rfl)
theorem dX2_smell_21 : decode cX2_smell 21 = .ok (.invokevirtual 89, 3) := dk_182 0 89 (dk_at dksX2_smell_0 21 rfl rfl)
theorem dX2_smell_24 : decode cX2_smell 24 = .ok (.athrow, 1) := dk_191 (dk_at dksX2_smell_1 0 rfl rfl)
theorem dX2_smell_25 : decode cX2_smell 25 = .ok (.aload_n 0, 1) := dk_42 (dk_at dksX2_smell_1 1 rfl rfl)
theorem dX2_smell_26 : decode cX2_smell 26 = .ok (.invokevirtual 82, 3) := dk_182 0 82 (dk_at dksX2_smell_1 2 rfl rfl)
theorem dX2_smell_29 : decode cX2_smell 29 = .ok (.aload_n 1, 1) := dk_43 (dk_at dksX2_smell_1 5 rfl rfl)
theorem dX2_smell_30 : decode cX2_smell 30 = .ok (.aload_n 0, 1) := dk_42 (dk_at dksX2_smell_1 6 rfl rfl)
theorem dX2_smell_31 : decode cX2_smell 31 = .ok (.iconst 0, 1) := dk_3 (dk_at dksX2_smell_1 7 rfl rfl)
theorem dX2_smell_32 : decode cX2_smell 32 = .ok (.sipush 999, 3) := dk_17 3 231 (dk_at dksX2_smell_1 8 rfl rfl)
theorem dX2_smell_35 : decode cX2_smell 35 = .ok (.invokevirtual 149, 3) := dk_182 0 149 (dk_at dksX2_smell_1 11 rfl rfl)
theorem dX2_smell_38 : decode cX2_smell 38 = .ok (.putfield 413, 3) := dk_181 1 157 (dk_at dksX2_smell_1 14 rfl rfl)
theorem dX2_smell_41 : decode cX2_smell 41 = .ok (.return_, 1) := dk_177 (dk_at dksX2_smell_1 17 rfl rfl)
abbrev cX2_village : ByteArray := prog_8_method_2_code
def yX2_village : MethodName := ⟨RX2, "village", "()LYearSkins$Village;"⟩
theorem dX2_village_0 : decode cX2_village 0 = .ok (.aload_n 0, 1) := by decide +kernel
theorem dX2_village_1 : decode cX2_village 1 = .ok (.getfield 25, 3) := by decide +kernel
theorem dX2_village_4 : decode cX2_village 4 = .ok (.areturn, 1) := by decide +kernel
theorem q127 : (Jvm.Cond.initialized "YearSkins$Reader") ∈ lw_all := lw_g (lw_at lw_m1 2 rfl) rfl
theorem q166 : (Jvm.Cond.instantiable "YearSkins$Reader" (12 : Nat)) ∈ lw_all := lw_g (lw_at lw_m1 41 rfl) rfl
theorem q168 : (Jvm.Cond.instanceMethod ({ cls := "YearSkins$Reader", name := "<init>", desc := "([B)V" } : Jvm.MethodName)) ∈ lw_all := lw_g (lw_at lw_m1 43 rfl) rfl
theorem q169 : (Jvm.Cond.code ({ cls := "YearSkins$Reader", name := "<init>", desc := "([B)V" } : Jvm.MethodName) prog_8_method_1_code (2 : Nat) (Option.none : Option Jvm.ClassFile.FieldType)) ∈ lw_all := lw_g (lw_at lw_m1 44 rfl) rfl
theorem q170 : (Jvm.Cond.methodLink "YearSkins$Reader" (3 : Nat) ({ cls := "java/lang/Object", name := "<init>", desc := "()V" } : Jvm.MethodName)) ∈ lw_all := lw_g (lw_at lw_m1 45 rfl) rfl
theorem q171 : (Jvm.Cond.classLink "YearSkins$Reader" (9 : Nat) "YearSkins$Refused") ∈ lw_all := lw_g (lw_at lw_m1 46 rfl) rfl
theorem q211 : (Jvm.Cond.methodLink "YearSkins$Reader" (11 : Nat) ({ cls := "YearSkins$Refused", name := "<init>", desc := "()V" } : Jvm.MethodName)) ∈ lw_all := lw_g (lw_at lw_m1 86 rfl) rfl
theorem q245 : (Jvm.Cond.classLink "YearSkins$Reader" (22 : Nat) "YearSkins$Village") ∈ lw_all := lw_g (lw_at lw_m1 120 rfl) rfl
theorem q247 : (Jvm.Cond.methodLink "YearSkins$Reader" (24 : Nat) ({ cls := "YearSkins$Village", name := "<init>", desc := "()V" } : Jvm.MethodName)) ∈ lw_all := lw_g (lw_at lw_m1 122 rfl) rfl
theorem q315 : (Jvm.Cond.fieldLink "YearSkins$Reader" (348 : Nat) "YearSkins$House" "many" "I") ∈ lw_all := lw_g (lw_at lw_m1 190 rfl) rfl
theorem q341 : (Jvm.Cond.fieldLink "YearSkins$Reader" (380 : Nat) "YearSkins$Village" "depth" "[I") ∈ lw_all := lw_g (lw_at lw_m1 216 rfl) rfl
theorem q348 : (Jvm.Cond.fieldLink "YearSkins$Reader" (180 : Nat) "YearSkins$Village" "year" "I") ∈ lw_all := lw_g (lw_at lw_m1 223 rfl) rfl
theorem q378 : (Jvm.Cond.fieldLink "YearSkins$Reader" (12 : Nat) "YearSkins$Reader" "wrong" "LYearSkins$Refused;") ∈ lw_all := lw_g (lw_at lw_m2 13 rfl) rfl
theorem q379 : (Jvm.Cond.fieldLink "YearSkins$Reader" (29 : Nat) "YearSkins$Reader" "text" "[B") ∈ lw_all := lw_g (lw_at lw_m2 14 rfl) rfl
theorem q380 : (Jvm.Cond.fieldLink "YearSkins$Reader" (18 : Nat) "YearSkins$Reader" "letters" "[C") ∈ lw_all := lw_g (lw_at lw_m2 15 rfl) rfl
theorem q381 : (Jvm.Cond.fieldLink "YearSkins$Reader" (25 : Nat) "YearSkins$Reader" "village" "LYearSkins$Village;") ∈ lw_all := lw_g (lw_at lw_m2 16 rfl) rfl
theorem q382 : (Jvm.Cond.fieldLink "YearSkins$Reader" (40 : Nat) "YearSkins$Reader" "size" "I") ∈ lw_all := lw_g (lw_at lw_m2 17 rfl) rfl
theorem q383 : (Jvm.Cond.fieldLink "YearSkins$Reader" (47 : Nat) "YearSkins$Reader" "end" "I") ∈ lw_all := lw_g (lw_at lw_m2 18 rfl) rfl
theorem q384 : (Jvm.Cond.fieldLink "YearSkins$Reader" (54 : Nat) "YearSkins$Reader" "token" "I") ∈ lw_all := lw_g (lw_at lw_m2 19 rfl) rfl
theorem q385 : (Jvm.Cond.fieldLink "YearSkins$Reader" (33 : Nat) "YearSkins$Reader" "at" "I") ∈ lw_all := lw_g (lw_at lw_m2 20 rfl) rfl
theorem q386 : (Jvm.Cond.fieldLink "YearSkins$Reader" (75 : Nat) "YearSkins$Reader" "whole" "I") ∈ lw_all := lw_g (lw_at lw_m2 21 rfl) rfl
theorem q387 : (Jvm.Cond.fieldLink "YearSkins$Reader" (177 : Nat) "YearSkins$Reader" "year" "I") ∈ lw_all := lw_g (lw_at lw_m2 22 rfl) rfl
theorem q388 : (Jvm.Cond.fieldLink "YearSkins$Reader" (68 : Nat) "YearSkins$Reader" "word" "Ljava/lang/String;") ∈ lw_all := lw_g (lw_at lw_m2 23 rfl) rfl
theorem q389 : (Jvm.Cond.fieldLink "YearSkins$Reader" (122 : Nat) "YearSkins$Reader" "land" "LYearSkins$Land;") ∈ lw_all := lw_g (lw_at lw_m2 24 rfl) rfl
theorem q390 : (Jvm.Cond.laysFinal "YearSkins$Reader" "YearSkins$Reader" "wrong" "LYearSkins$Refused;") ∈ lw_all := lw_g (lw_at lw_m2 25 rfl) rfl
theorem q391 : (Jvm.Cond.soleField "YearSkins$Reader" "wrong") ∈ lw_all := lw_g (lw_at lw_m2 26 rfl) rfl
theorem q392 : (Jvm.Cond.laysFinal "YearSkins$Reader" "YearSkins$Reader" "text" "[B") ∈ lw_all := lw_g (lw_at lw_m2 27 rfl) rfl
theorem q393 : (Jvm.Cond.soleField "YearSkins$Reader" "text") ∈ lw_all := lw_g (lw_at lw_m2 28 rfl) rfl
theorem q394 : (Jvm.Cond.laysFinal "YearSkins$Reader" "YearSkins$Reader" "letters" "[C") ∈ lw_all := lw_g (lw_at lw_m2 29 rfl) rfl
theorem q395 : (Jvm.Cond.soleField "YearSkins$Reader" "letters") ∈ lw_all := lw_g (lw_at lw_m2 30 rfl) rfl
theorem q396 : (Jvm.Cond.laysFinal "YearSkins$Reader" "YearSkins$Reader" "village" "LYearSkins$Village;") ∈ lw_all := lw_g (lw_at lw_m2 31 rfl) rfl
theorem q397 : (Jvm.Cond.soleField "YearSkins$Reader" "village") ∈ lw_all := lw_g (lw_at lw_m2 32 rfl) rfl
theorem q398 : (Jvm.Cond.lays "YearSkins$Reader" "YearSkins$Reader" "size" "I") ∈ lw_all := lw_g (lw_at lw_m2 33 rfl) rfl
theorem q399 : (Jvm.Cond.soleField "YearSkins$Reader" "size") ∈ lw_all := lw_g (lw_at lw_m2 34 rfl) rfl
theorem q400 : (Jvm.Cond.lays "YearSkins$Reader" "YearSkins$Reader" "end" "I") ∈ lw_all := lw_g (lw_at lw_m2 35 rfl) rfl
theorem q401 : (Jvm.Cond.soleField "YearSkins$Reader" "end") ∈ lw_all := lw_g (lw_at lw_m2 36 rfl) rfl
theorem q402 : (Jvm.Cond.lays "YearSkins$Reader" "YearSkins$Reader" "token" "I") ∈ lw_all := lw_g (lw_at lw_m2 37 rfl) rfl
theorem q403 : (Jvm.Cond.soleField "YearSkins$Reader" "token") ∈ lw_all := lw_g (lw_at lw_m2 38 rfl) rfl
theorem q404 : (Jvm.Cond.lays "YearSkins$Reader" "YearSkins$Reader" "at" "I") ∈ lw_all := lw_g (lw_at lw_m2 39 rfl) rfl
theorem q405 : (Jvm.Cond.soleField "YearSkins$Reader" "at") ∈ lw_all := lw_g (lw_at lw_m2 40 rfl) rfl
theorem q406 : (Jvm.Cond.lays "YearSkins$Reader" "YearSkins$Reader" "whole" "I") ∈ lw_all := lw_g (lw_at lw_m2 41 rfl) rfl
theorem q407 : (Jvm.Cond.soleField "YearSkins$Reader" "whole") ∈ lw_all := lw_g (lw_at lw_m2 42 rfl) rfl
theorem q408 : (Jvm.Cond.lays "YearSkins$Reader" "YearSkins$Reader" "year" "I") ∈ lw_all := lw_g (lw_at lw_m2 43 rfl) rfl
theorem q409 : (Jvm.Cond.soleField "YearSkins$Reader" "year") ∈ lw_all := lw_g (lw_at lw_m2 44 rfl) rfl
theorem q410 : (Jvm.Cond.lays "YearSkins$Reader" "YearSkins$Reader" "word" "Ljava/lang/String;") ∈ lw_all := lw_g (lw_at lw_m2 45 rfl) rfl
theorem q411 : (Jvm.Cond.soleField "YearSkins$Reader" "word") ∈ lw_all := lw_g (lw_at lw_m2 46 rfl) rfl
theorem q412 : (Jvm.Cond.lays "YearSkins$Reader" "YearSkins$Reader" "land" "LYearSkins$Land;") ∈ lw_all := lw_g (lw_at lw_m2 47 rfl) rfl
theorem q413 : (Jvm.Cond.soleField "YearSkins$Reader" "land") ∈ lw_all := lw_g (lw_at lw_m2 48 rfl) rfl
theorem q414 : (Jvm.Cond.superclass "YearSkins$Reader" "java/lang/Object") ∈ lw_all := lw_g (lw_at lw_m2 49 rfl) rfl
theorem q540 : (Jvm.Cond.instanceMethod ({ cls := "YearSkins$Reader", name := "read", desc := "(I)LYearSkins$Land;" } : Jvm.MethodName)) ∈ lw_all := lw_g (lw_at lw_m2 175 rfl) rfl
theorem q541 : (Jvm.Cond.selects "YearSkins$Reader" ({ cls := "YearSkins$Reader", name := "read", desc := "(I)LYearSkins$Land;" } : Jvm.MethodName) ({ cls := "YearSkins$Reader", name := "read", desc := "(I)LYearSkins$Land;" } : Jvm.MethodName)) ∈ lw_all := lw_g (lw_at lw_m2 176 rfl) rfl
theorem q542 : (Jvm.Cond.code ({ cls := "YearSkins$Reader", name := "read", desc := "(I)LYearSkins$Land;" } : Jvm.MethodName) prog_8_method_22_code (2 : Nat) (Option.some (Jvm.ClassFile.FieldType.object "YearSkins$Land"))) ∈ lw_all := lw_g (lw_at lw_m2 177 rfl) rfl
theorem q543 : (Jvm.Cond.classLink "YearSkins$Reader" (126 : Nat) "YearSkins$Land") ∈ lw_all := lw_g (lw_at lw_m2 178 rfl) rfl
theorem q545 : (Jvm.Cond.methodLinkNest "YearSkins$Reader" (159 : Nat) ({ cls := "YearSkins$Land", name := "<init>", desc := "()V" } : Jvm.MethodName) "YearSkins") ∈ lw_tbl := lw_at lw_m2 180 rfl
theorem q558 : (Jvm.Cond.fieldLink "YearSkins$Reader" (256 : Nat) "YearSkins$Land" "waterX" "[I") ∈ lw_all := lw_g (lw_at lw_m2 193 rfl) rfl
theorem q560 : (Jvm.Cond.fieldLink "YearSkins$Reader" (260 : Nat) "YearSkins$Land" "waterY" "[I") ∈ lw_all := lw_g (lw_at lw_m2 195 rfl) rfl
theorem q563 : (Jvm.Cond.fieldLink "YearSkins$Reader" (406 : Nat) "YearSkins$Land" "older" "[I") ∈ lw_all := lw_g (lw_at lw_m2 198 rfl) rfl
theorem q566 : (Jvm.Cond.fieldLink "YearSkins$Reader" (408 : Nat) "YearSkins$Land" "younger" "[I") ∈ lw_all := lw_g (lw_at lw_m2 201 rfl) rfl
theorem q568 : (Jvm.Cond.fieldLink "YearSkins$Reader" (304 : Nat) "YearSkins$Land" "stones" "[LYearSkins$Stone;") ∈ lw_all := lw_g (lw_at lw_m2 203 rfl) rfl
theorem q571 : (Jvm.Cond.fieldLink "YearSkins$Reader" (331 : Nat) "YearSkins$Land" "sites" "[LYearSkins$Site;") ∈ lw_all := lw_g (lw_at lw_m2 206 rfl) rfl
theorem q575 : (Jvm.Cond.fieldLink "YearSkins$Reader" (383 : Nat) "YearSkins$Land" "heirs" "[LYearSkins$Heir;") ∈ lw_all := lw_g (lw_at lw_m2 210 rfl) rfl
theorem q578 : (Jvm.Cond.fieldLink "YearSkins$Reader" (390 : Nat) "YearSkins$Land" "walls" "[LYearSkins$Wall;") ∈ lw_all := lw_g (lw_at lw_m2 213 rfl) rfl
theorem q581 : (Jvm.Cond.fieldLink "YearSkins$Reader" (156 : Nat) "YearSkins$Land" "wide" "I") ∈ lw_all := lw_g (lw_at lw_m2 216 rfl) rfl
theorem q586 : (Jvm.Cond.fieldLink "YearSkins$Reader" (212 : Nat) "YearSkins$Land" "high" "I") ∈ lw_all := lw_g (lw_at lw_m2 221 rfl) rfl
theorem q588 : (Jvm.Cond.fieldLink "YearSkins$Reader" (236 : Nat) "YearSkins$Land" "births" "I") ∈ lw_all := lw_g (lw_at lw_m2 223 rfl) rfl
theorem q590 : (Jvm.Cond.fieldLink "YearSkins$Reader" (240 : Nat) "YearSkins$Land" "fire" "I") ∈ lw_all := lw_g (lw_at lw_m2 225 rfl) rfl
theorem q592 : (Jvm.Cond.fieldLink "YearSkins$Reader" (244 : Nat) "YearSkins$Land" "earns" "I") ∈ lw_all := lw_g (lw_at lw_m2 227 rfl) rfl
theorem q594 : (Jvm.Cond.fieldLink "YearSkins$Reader" (246 : Nat) "YearSkins$Land" "waterMany" "I") ∈ lw_all := lw_g (lw_at lw_m2 229 rfl) rfl
theorem q597 : (Jvm.Cond.fieldLink "YearSkins$Reader" (171 : Nat) "YearSkins$Land" "stoneMany" "I") ∈ lw_all := lw_g (lw_at lw_m2 232 rfl) rfl
theorem q599 : (Jvm.Cond.fieldLink "YearSkins$Reader" (174 : Nat) "YearSkins$Land" "siteMany" "I") ∈ lw_all := lw_g (lw_at lw_m2 234 rfl) rfl
theorem q604 : (Jvm.Cond.fieldLink "YearSkins$Reader" (370 : Nat) "YearSkins$Land" "heirMany" "I") ∈ lw_all := lw_g (lw_at lw_m2 239 rfl) rfl
theorem q608 : (Jvm.Cond.fieldLink "YearSkins$Reader" (387 : Nat) "YearSkins$Land" "wallMany" "I") ∈ lw_all := lw_g (lw_at lw_m3 3 rfl) rfl
theorem q611 : (Jvm.Cond.fieldLink "YearSkins$Reader" (395 : Nat) "YearSkins$Land" "olderMany" "I") ∈ lw_all := lw_g (lw_at lw_m3 6 rfl) rfl
theorem q613 : (Jvm.Cond.fieldLink "YearSkins$Reader" (218 : Nat) "YearSkins$Land" "far" "Z") ∈ lw_all := lw_g (lw_at lw_m3 8 rfl) rfl
theorem q616 : (Jvm.Cond.fieldLink "YearSkins$Reader" (228 : Nat) "YearSkins$Land" "share" "Z") ∈ lw_all := lw_g (lw_at lw_m3 11 rfl) rfl
theorem q618 : (Jvm.Cond.fieldLink "YearSkins$Reader" (167 : Nat) "YearSkins$Land" "hasYears" "Z") ∈ lw_all := lw_g (lw_at lw_m3 13 rfl) rfl
theorem q664 : (Jvm.Cond.methodLink "YearSkins$Reader" (160 : Nat) ({ cls := "YearSkins$Village", name := "begin", desc := "(LYearSkins$Land;I)V" } : Jvm.MethodName)) ∈ lw_all := lw_g (lw_at lw_m3 59 rfl) rfl
theorem q668 : (Jvm.Cond.methodLink "YearSkins$Reader" (82 : Nat) ({ cls := "YearSkins$Reader", name := "next", desc := "()V" } : Jvm.MethodName)) ∈ lw_all := lw_g (lw_at lw_m3 63 rfl) rfl
theorem q669 : (Jvm.Cond.privateMethod ({ cls := "YearSkins$Reader", name := "next", desc := "()V" } : Jvm.MethodName)) ∈ lw_tbl := lw_at lw_m3 64 rfl
theorem q670 : (Jvm.Cond.instanceMethod ({ cls := "YearSkins$Reader", name := "next", desc := "()V" } : Jvm.MethodName)) ∈ lw_all := lw_g (lw_at lw_m3 65 rfl) rfl
theorem q671 : (Jvm.Cond.code ({ cls := "YearSkins$Reader", name := "next", desc := "()V" } : Jvm.MethodName) prog_8_method_7_code (3 : Nat) (Option.none : Option Jvm.ClassFile.FieldType)) ∈ lw_all := lw_g (lw_at lw_m3 66 rfl) rfl
theorem q672 : (Jvm.Cond.methodLink "YearSkins$Reader" (50 : Nat) ({ cls := "YearSkins$Reader", name := "see", desc := "(I)I" } : Jvm.MethodName)) ∈ lw_all := lw_g (lw_at lw_m3 67 rfl) rfl
theorem q673 : (Jvm.Cond.privateMethod ({ cls := "YearSkins$Reader", name := "see", desc := "(I)I" } : Jvm.MethodName)) ∈ lw_tbl := lw_at lw_m3 68 rfl
theorem q674 : (Jvm.Cond.instanceMethod ({ cls := "YearSkins$Reader", name := "see", desc := "(I)I" } : Jvm.MethodName)) ∈ lw_all := lw_g (lw_at lw_m3 69 rfl) rfl
theorem q675 : (Jvm.Cond.code ({ cls := "YearSkins$Reader", name := "see", desc := "(I)I" } : Jvm.MethodName) prog_8_method_4_code (2 : Nat) (Option.some Jvm.ClassFile.FieldType.int)) ∈ lw_all := lw_g (lw_at lw_m3 70 rfl) rfl
theorem q676 : (Jvm.Cond.methodLink "YearSkins$Reader" (57 : Nat) ({ cls := "YearSkins$Reader", name := "isSmall", desc := "(I)Z" } : Jvm.MethodName)) ∈ lw_all := lw_g (lw_at lw_m3 71 rfl) rfl
theorem q677 : (Jvm.Cond.static ({ cls := "YearSkins$Reader", name := "isSmall", desc := "(I)Z" } : Jvm.MethodName)) ∈ lw_all := lw_g (lw_at lw_m3 72 rfl) rfl
theorem q678 : (Jvm.Cond.code ({ cls := "YearSkins$Reader", name := "isSmall", desc := "(I)Z" } : Jvm.MethodName) prog_8_method_5_code (1 : Nat) (Option.some Jvm.ClassFile.FieldType.boolean)) ∈ lw_all := lw_g (lw_at lw_m3 73 rfl) rfl
theorem q679 : (Jvm.Cond.methodLinkNest "YearSkins$Reader" (43 : Nat) ({ cls := "YearSkins", name := "within", desc := "(III)Z" } : Jvm.MethodName) "YearSkins") ∈ lw_tbl := lw_at lw_m3 74 rfl
theorem q680 : (Jvm.Cond.classLink "YearSkins$Reader" (61 : Nat) "java/lang/String") ∈ lw_all := lw_g (lw_at lw_m3 75 rfl) rfl
theorem q682 : (Jvm.Cond.methodLink "YearSkins$Reader" (63 : Nat) ({ cls := "java/lang/String", name := "<init>", desc := "([CII)V" } : Jvm.MethodName)) ∈ lw_all := lw_g (lw_at lw_m3 77 rfl) rfl
theorem q758 : (Jvm.Cond.stringRef "YearSkins$Reader" (66 : Nat) "") ∈ lw_tbl := lw_at lw_m3 153 rfl
theorem q759 : (Jvm.Cond.methodLink "YearSkins$Reader" (72 : Nat) ({ cls := "YearSkins$Reader", name := "isDigit", desc := "(I)Z" } : Jvm.MethodName)) ∈ lw_all := lw_g (lw_at lw_m3 154 rfl) rfl
theorem q760 : (Jvm.Cond.static ({ cls := "YearSkins$Reader", name := "isDigit", desc := "(I)Z" } : Jvm.MethodName)) ∈ lw_all := lw_g (lw_at lw_m3 155 rfl) rfl
theorem q761 : (Jvm.Cond.code ({ cls := "YearSkins$Reader", name := "isDigit", desc := "(I)Z" } : Jvm.MethodName) prog_8_method_6_code (1 : Nat) (Option.some Jvm.ClassFile.FieldType.boolean)) ∈ lw_all := lw_g (lw_at lw_m3 156 rfl) rfl
theorem q762 : (Jvm.Cond.methodLink "YearSkins$Reader" (164 : Nat) ({ cls := "YearSkins$Reader", name := "line", desc := "()V" } : Jvm.MethodName)) ∈ lw_all := lw_g (lw_at lw_m3 157 rfl) rfl
theorem q763 : (Jvm.Cond.privateMethod ({ cls := "YearSkins$Reader", name := "line", desc := "()V" } : Jvm.MethodName)) ∈ lw_tbl := lw_at lw_m3 158 rfl
theorem q764 : (Jvm.Cond.instanceMethod ({ cls := "YearSkins$Reader", name := "line", desc := "()V" } : Jvm.MethodName)) ∈ lw_all := lw_g (lw_at lw_m3 159 rfl) rfl
theorem q765 : (Jvm.Cond.code ({ cls := "YearSkins$Reader", name := "line", desc := "()V" } : Jvm.MethodName) prog_8_method_23_code (3 : Nat) (Option.none : Option Jvm.ClassFile.FieldType)) ∈ lw_all := lw_g (lw_at lw_m3 160 rfl) rfl
theorem q766 : (Jvm.Cond.methodLink "YearSkins$Reader" (89 : Nat) ({ cls := "YearSkins$Reader", name := "fail", desc := "(I)LYearSkins$Refused;" } : Jvm.MethodName)) ∈ lw_all := lw_g (lw_at lw_m3 161 rfl) rfl
theorem q767 : (Jvm.Cond.privateMethod ({ cls := "YearSkins$Reader", name := "fail", desc := "(I)LYearSkins$Refused;" } : Jvm.MethodName)) ∈ lw_tbl := lw_at lw_m3 162 rfl
theorem q768 : (Jvm.Cond.instanceMethod ({ cls := "YearSkins$Reader", name := "fail", desc := "(I)LYearSkins$Refused;" } : Jvm.MethodName)) ∈ lw_all := lw_g (lw_at lw_m3 163 rfl) rfl
theorem q769 : (Jvm.Cond.code ({ cls := "YearSkins$Reader", name := "fail", desc := "(I)LYearSkins$Refused;" } : Jvm.MethodName) prog_8_method_3_code (2 : Nat) (Option.some (Jvm.ClassFile.FieldType.object "YearSkins$Refused"))) ∈ lw_all := lw_g (lw_at lw_m3 164 rfl) rfl
theorem q770 : (Jvm.Cond.methodLink "YearSkins$Reader" (37 : Nat) ({ cls := "YearSkins$Refused", name := "at", desc := "(II)LYearSkins$Refused;" } : Jvm.MethodName)) ∈ lw_all := lw_g (lw_at lw_m3 165 rfl) rfl
theorem q774 : (Jvm.Cond.methodLink "YearSkins$Reader" (93 : Nat) ({ cls := "java/lang/String", name := "hashCode", desc := "()I" } : Jvm.MethodName)) ∈ lw_all := lw_g (lw_at lw_m3 169 rfl) rfl
theorem q827 : (Jvm.Cond.stringRef "YearSkins$Reader" (97 : Nat) "land") ∈ lw_tbl := lw_at lw_m3 222 rfl
theorem q828 : (Jvm.Cond.methodLink "YearSkins$Reader" (78 : Nat) ({ cls := "java/lang/String", name := "equals", desc := "(Ljava/lang/Object;)Z" } : Jvm.MethodName)) ∈ lw_all := lw_g (lw_at lw_m3 223 rfl) rfl
theorem q836 : (Jvm.Cond.stringRef "YearSkins$Reader" (99 : Nat) "years") ∈ lw_tbl := lw_at lw_m3 231 rfl
theorem q837 : (Jvm.Cond.stringRef "YearSkins$Reader" (101 : Nat) "water") ∈ lw_tbl := lw_at lw_m3 232 rfl
theorem q838 : (Jvm.Cond.stringRef "YearSkins$Reader" (103 : Nat) "stone") ∈ lw_tbl := lw_at lw_m3 233 rfl
theorem q839 : (Jvm.Cond.stringRef "YearSkins$Reader" (105 : Nat) "house") ∈ lw_tbl := lw_at lw_m3 234 rfl
theorem q840 : (Jvm.Cond.stringRef "YearSkins$Reader" (107 : Nat) "skin") ∈ lw_tbl := lw_at lw_m3 235 rfl
theorem q841 : (Jvm.Cond.stringRef "YearSkins$Reader" (109 : Nat) "heir") ∈ lw_tbl := lw_at lw_m3 236 rfl
theorem q842 : (Jvm.Cond.stringRef "YearSkins$Reader" (111 : Nat) "wall") ∈ lw_tbl := lw_at lw_m3 237 rfl
theorem q843 : (Jvm.Cond.stringRef "YearSkins$Reader" (113 : Nat) "older") ∈ lw_tbl := lw_at lw_m3 238 rfl
theorem q844 : (Jvm.Cond.stringRef "YearSkins$Reader" (115 : Nat) "coin") ∈ lw_tbl := lw_at lw_m3 239 rfl
theorem q845 : (Jvm.Cond.stringRef "YearSkins$Reader" (117 : Nat) "smell") ∈ lw_tbl := lw_at lw_m4 0 rfl
theorem q846 : (Jvm.Cond.methodLink "YearSkins$Reader" (181 : Nat) ({ cls := "YearSkins$Reader", name := "landLine", desc := "()V" } : Jvm.MethodName)) ∈ lw_all := lw_g (lw_at lw_m4 1 rfl) rfl
theorem q847 : (Jvm.Cond.privateMethod ({ cls := "YearSkins$Reader", name := "landLine", desc := "()V" } : Jvm.MethodName)) ∈ lw_tbl := lw_at lw_m4 2 rfl
theorem q848 : (Jvm.Cond.instanceMethod ({ cls := "YearSkins$Reader", name := "landLine", desc := "()V" } : Jvm.MethodName)) ∈ lw_all := lw_g (lw_at lw_m4 3 rfl) rfl
theorem q849 : (Jvm.Cond.code ({ cls := "YearSkins$Reader", name := "landLine", desc := "()V" } : Jvm.MethodName) prog_8_method_24_code (2 : Nat) (Option.none : Option Jvm.ClassFile.FieldType)) ∈ lw_all := lw_g (lw_at lw_m4 4 rfl) rfl
theorem q850 : (Jvm.Cond.stringRef "YearSkins$Reader" (205 : Nat) "wide") ∈ lw_tbl := lw_at lw_m4 5 rfl
theorem q851 : (Jvm.Cond.methodLink "YearSkins$Reader" (206 : Nat) ({ cls := "YearSkins$Reader", name := "after", desc := "(Ljava/lang/String;II)I" } : Jvm.MethodName)) ∈ lw_all := lw_g (lw_at lw_m4 6 rfl) rfl
theorem q852 : (Jvm.Cond.privateMethod ({ cls := "YearSkins$Reader", name := "after", desc := "(Ljava/lang/String;II)I" } : Jvm.MethodName)) ∈ lw_tbl := lw_at lw_m4 7 rfl
theorem q853 : (Jvm.Cond.instanceMethod ({ cls := "YearSkins$Reader", name := "after", desc := "(Ljava/lang/String;II)I" } : Jvm.MethodName)) ∈ lw_all := lw_g (lw_at lw_m4 8 rfl) rfl
theorem q854 : (Jvm.Cond.code ({ cls := "YearSkins$Reader", name := "after", desc := "(Ljava/lang/String;II)I" } : Jvm.MethodName) prog_8_method_18_code (4 : Nat) (Option.some Jvm.ClassFile.FieldType.int)) ∈ lw_all := lw_g (lw_at lw_m4 9 rfl) rfl
theorem q855 : (Jvm.Cond.methodLink "YearSkins$Reader" (145 : Nat) ({ cls := "YearSkins$Reader", name := "must", desc := "(Ljava/lang/String;)V" } : Jvm.MethodName)) ∈ lw_all := lw_g (lw_at lw_m4 10 rfl) rfl
theorem q856 : (Jvm.Cond.privateMethod ({ cls := "YearSkins$Reader", name := "must", desc := "(Ljava/lang/String;)V" } : Jvm.MethodName)) ∈ lw_tbl := lw_at lw_m4 11 rfl
theorem q857 : (Jvm.Cond.instanceMethod ({ cls := "YearSkins$Reader", name := "must", desc := "(Ljava/lang/String;)V" } : Jvm.MethodName)) ∈ lw_all := lw_g (lw_at lw_m4 12 rfl) rfl
theorem q858 : (Jvm.Cond.code ({ cls := "YearSkins$Reader", name := "must", desc := "(Ljava/lang/String;)V" } : Jvm.MethodName) prog_8_method_9_code (2 : Nat) (Option.none : Option Jvm.ClassFile.FieldType)) ∈ lw_all := lw_g (lw_at lw_m4 13 rfl) rfl
theorem q859 : (Jvm.Cond.methodLink "YearSkins$Reader" (85 : Nat) ({ cls := "YearSkins$Reader", name := "takes", desc := "(Ljava/lang/String;)Z" } : Jvm.MethodName)) ∈ lw_all := lw_g (lw_at lw_m4 14 rfl) rfl
theorem q860 : (Jvm.Cond.privateMethod ({ cls := "YearSkins$Reader", name := "takes", desc := "(Ljava/lang/String;)Z" } : Jvm.MethodName)) ∈ lw_tbl := lw_at lw_m4 15 rfl
theorem q861 : (Jvm.Cond.instanceMethod ({ cls := "YearSkins$Reader", name := "takes", desc := "(Ljava/lang/String;)Z" } : Jvm.MethodName)) ∈ lw_all := lw_g (lw_at lw_m4 16 rfl) rfl
theorem q862 : (Jvm.Cond.code ({ cls := "YearSkins$Reader", name := "takes", desc := "(Ljava/lang/String;)Z" } : Jvm.MethodName) prog_8_method_8_code (2 : Nat) (Option.some Jvm.ClassFile.FieldType.boolean)) ∈ lw_all := lw_g (lw_at lw_m4 17 rfl) rfl
theorem q863 : (Jvm.Cond.methodLink "YearSkins$Reader" (149 : Nat) ({ cls := "YearSkins$Reader", name := "number", desc := "(II)I" } : Jvm.MethodName)) ∈ lw_all := lw_g (lw_at lw_m4 18 rfl) rfl
theorem q864 : (Jvm.Cond.privateMethod ({ cls := "YearSkins$Reader", name := "number", desc := "(II)I" } : Jvm.MethodName)) ∈ lw_tbl := lw_at lw_m4 19 rfl
theorem q865 : (Jvm.Cond.instanceMethod ({ cls := "YearSkins$Reader", name := "number", desc := "(II)I" } : Jvm.MethodName)) ∈ lw_all := lw_g (lw_at lw_m4 20 rfl) rfl
theorem q866 : (Jvm.Cond.code ({ cls := "YearSkins$Reader", name := "number", desc := "(II)I" } : Jvm.MethodName) prog_8_method_17_code (4 : Nat) (Option.some Jvm.ClassFile.FieldType.int)) ∈ lw_all := lw_g (lw_at lw_m4 21 rfl) rfl
theorem q867 : (Jvm.Cond.methodLink "YearSkins$Reader" (141 : Nat) ({ cls := "YearSkins$Reader", name := "numberHere", desc := "(II)I" } : Jvm.MethodName)) ∈ lw_all := lw_g (lw_at lw_m4 22 rfl) rfl
theorem q868 : (Jvm.Cond.privateMethod ({ cls := "YearSkins$Reader", name := "numberHere", desc := "(II)I" } : Jvm.MethodName)) ∈ lw_tbl := lw_at lw_m4 23 rfl
theorem q869 : (Jvm.Cond.instanceMethod ({ cls := "YearSkins$Reader", name := "numberHere", desc := "(II)I" } : Jvm.MethodName)) ∈ lw_all := lw_g (lw_at lw_m4 24 rfl) rfl
theorem q870 : (Jvm.Cond.code ({ cls := "YearSkins$Reader", name := "numberHere", desc := "(II)I" } : Jvm.MethodName) prog_8_method_16_code (3 : Nat) (Option.some Jvm.ClassFile.FieldType.int)) ∈ lw_all := lw_g (lw_at lw_m4 25 rfl) rfl
theorem q871 : (Jvm.Cond.stringRef "YearSkins$Reader" (210 : Nat) "high") ∈ lw_tbl := lw_at lw_m4 26 rfl
theorem q872 : (Jvm.Cond.stringRef "YearSkins$Reader" (214 : Nat) "doors") ∈ lw_tbl := lw_at lw_m4 27 rfl
theorem q873 : (Jvm.Cond.stringRef "YearSkins$Reader" (216 : Nat) "far") ∈ lw_tbl := lw_at lw_m4 28 rfl
theorem q874 : (Jvm.Cond.stringRef "YearSkins$Reader" (220 : Nat) "near") ∈ lw_tbl := lw_at lw_m4 29 rfl
theorem q875 : (Jvm.Cond.stringRef "YearSkins$Reader" (222 : Nat) "share") ∈ lw_tbl := lw_at lw_m4 30 rfl
theorem q876 : (Jvm.Cond.methodLink "YearSkins$Reader" (224 : Nat) ({ cls := "YearSkins$Reader", name := "answer", desc := "()Z" } : Jvm.MethodName)) ∈ lw_all := lw_g (lw_at lw_m4 31 rfl) rfl
theorem q877 : (Jvm.Cond.privateMethod ({ cls := "YearSkins$Reader", name := "answer", desc := "()Z" } : Jvm.MethodName)) ∈ lw_tbl := lw_at lw_m4 32 rfl
theorem q878 : (Jvm.Cond.instanceMethod ({ cls := "YearSkins$Reader", name := "answer", desc := "()Z" } : Jvm.MethodName)) ∈ lw_all := lw_g (lw_at lw_m4 33 rfl) rfl
theorem q879 : (Jvm.Cond.code ({ cls := "YearSkins$Reader", name := "answer", desc := "()Z" } : Jvm.MethodName) prog_8_method_20_code (1 : Nat) (Option.some Jvm.ClassFile.FieldType.boolean)) ∈ lw_all := lw_g (lw_at lw_m4 34 rfl) rfl
theorem q880 : (Jvm.Cond.stringRef "YearSkins$Reader" (152 : Nat) "yes") ∈ lw_tbl := lw_at lw_m4 35 rfl
theorem q881 : (Jvm.Cond.stringRef "YearSkins$Reader" (154 : Nat) "no") ∈ lw_tbl := lw_at lw_m4 36 rfl
theorem q882 : (Jvm.Cond.methodLink "YearSkins$Reader" (184 : Nat) ({ cls := "YearSkins$Reader", name := "years", desc := "()V" } : Jvm.MethodName)) ∈ lw_all := lw_g (lw_at lw_m4 37 rfl) rfl
theorem q883 : (Jvm.Cond.privateMethod ({ cls := "YearSkins$Reader", name := "years", desc := "()V" } : Jvm.MethodName)) ∈ lw_tbl := lw_at lw_m4 38 rfl
theorem q884 : (Jvm.Cond.instanceMethod ({ cls := "YearSkins$Reader", name := "years", desc := "()V" } : Jvm.MethodName)) ∈ lw_all := lw_g (lw_at lw_m4 39 rfl) rfl
theorem q885 : (Jvm.Cond.code ({ cls := "YearSkins$Reader", name := "years", desc := "()V" } : Jvm.MethodName) prog_8_method_25_code (1 : Nat) (Option.none : Option Jvm.ClassFile.FieldType)) ∈ lw_all := lw_g (lw_at lw_m4 40 rfl) rfl
theorem q886 : (Jvm.Cond.methodLink "YearSkins$Reader" (230 : Nat) ({ cls := "YearSkins$Reader", name := "begins", desc := "(ZZ)V" } : Jvm.MethodName)) ∈ lw_all := lw_g (lw_at lw_m4 41 rfl) rfl
theorem q887 : (Jvm.Cond.privateMethod ({ cls := "YearSkins$Reader", name := "begins", desc := "(ZZ)V" } : Jvm.MethodName)) ∈ lw_tbl := lw_at lw_m4 42 rfl
theorem q888 : (Jvm.Cond.instanceMethod ({ cls := "YearSkins$Reader", name := "begins", desc := "(ZZ)V" } : Jvm.MethodName)) ∈ lw_all := lw_g (lw_at lw_m4 43 rfl) rfl
theorem q889 : (Jvm.Cond.code ({ cls := "YearSkins$Reader", name := "begins", desc := "(ZZ)V" } : Jvm.MethodName) prog_8_method_21_code (3 : Nat) (Option.none : Option Jvm.ClassFile.FieldType)) ∈ lw_all := lw_g (lw_at lw_m4 44 rfl) rfl
theorem q890 : (Jvm.Cond.stringRef "YearSkins$Reader" (234 : Nat) "births") ∈ lw_tbl := lw_at lw_m4 45 rfl
theorem q891 : (Jvm.Cond.stringRef "YearSkins$Reader" (238 : Nat) "fire") ∈ lw_tbl := lw_at lw_m4 46 rfl
theorem q892 : (Jvm.Cond.stringRef "YearSkins$Reader" (242 : Nat) "earns") ∈ lw_tbl := lw_at lw_m4 47 rfl
theorem q893 : (Jvm.Cond.methodLink "YearSkins$Reader" (186 : Nat) ({ cls := "YearSkins$Reader", name := "water", desc := "()V" } : Jvm.MethodName)) ∈ lw_all := lw_g (lw_at lw_m4 48 rfl) rfl
theorem q894 : (Jvm.Cond.privateMethod ({ cls := "YearSkins$Reader", name := "water", desc := "()V" } : Jvm.MethodName)) ∈ lw_tbl := lw_at lw_m4 49 rfl
theorem q895 : (Jvm.Cond.instanceMethod ({ cls := "YearSkins$Reader", name := "water", desc := "()V" } : Jvm.MethodName)) ∈ lw_all := lw_g (lw_at lw_m4 50 rfl) rfl
theorem q896 : (Jvm.Cond.code ({ cls := "YearSkins$Reader", name := "water", desc := "()V" } : Jvm.MethodName) prog_8_method_26_code (3 : Nat) (Option.none : Option Jvm.ClassFile.FieldType)) ∈ lw_all := lw_g (lw_at lw_m4 51 rfl) rfl
theorem q897 : (Jvm.Cond.methodLink "YearSkins$Reader" (249 : Nat) ({ cls := "YearSkins$Reader", name := "mustComma", desc := "()V" } : Jvm.MethodName)) ∈ lw_all := lw_g (lw_at lw_m4 52 rfl) rfl
theorem q898 : (Jvm.Cond.privateMethod ({ cls := "YearSkins$Reader", name := "mustComma", desc := "()V" } : Jvm.MethodName)) ∈ lw_tbl := lw_at lw_m4 53 rfl
theorem q899 : (Jvm.Cond.instanceMethod ({ cls := "YearSkins$Reader", name := "mustComma", desc := "()V" } : Jvm.MethodName)) ∈ lw_all := lw_g (lw_at lw_m4 54 rfl) rfl
theorem q900 : (Jvm.Cond.code ({ cls := "YearSkins$Reader", name := "mustComma", desc := "()V" } : Jvm.MethodName) prog_8_method_19_code (1 : Nat) (Option.none : Option Jvm.ClassFile.FieldType)) ∈ lw_all := lw_g (lw_at lw_m4 55 rfl) rfl
theorem q901 : (Jvm.Cond.methodLink "YearSkins$Reader" (252 : Nat) ({ cls := "YearSkins$Land", name := "isWater", desc := "(II)Z" } : Jvm.MethodName)) ∈ lw_all := lw_g (lw_at lw_m4 56 rfl) rfl
theorem q905 : (Jvm.Cond.methodLink "YearSkins$Reader" (188 : Nat) ({ cls := "YearSkins$Reader", name := "stoneLine", desc := "()V" } : Jvm.MethodName)) ∈ lw_all := lw_g (lw_at lw_m4 60 rfl) rfl
theorem q906 : (Jvm.Cond.privateMethod ({ cls := "YearSkins$Reader", name := "stoneLine", desc := "()V" } : Jvm.MethodName)) ∈ lw_tbl := lw_at lw_m4 61 rfl
theorem q907 : (Jvm.Cond.instanceMethod ({ cls := "YearSkins$Reader", name := "stoneLine", desc := "()V" } : Jvm.MethodName)) ∈ lw_all := lw_g (lw_at lw_m4 62 rfl) rfl
theorem q908 : (Jvm.Cond.code ({ cls := "YearSkins$Reader", name := "stoneLine", desc := "()V" } : Jvm.MethodName) prog_8_method_28_code (2 : Nat) (Option.none : Option Jvm.ClassFile.FieldType)) ∈ lw_all := lw_g (lw_at lw_m4 63 rfl) rfl
theorem q909 : (Jvm.Cond.methodLink "YearSkins$Reader" (280 : Nat) ({ cls := "YearSkins$Reader", name := "newName", desc := "()Ljava/lang/String;" } : Jvm.MethodName)) ∈ lw_all := lw_g (lw_at lw_m4 64 rfl) rfl
theorem q910 : (Jvm.Cond.privateMethod ({ cls := "YearSkins$Reader", name := "newName", desc := "()Ljava/lang/String;" } : Jvm.MethodName)) ∈ lw_tbl := lw_at lw_m4 65 rfl
theorem q911 : (Jvm.Cond.instanceMethod ({ cls := "YearSkins$Reader", name := "newName", desc := "()Ljava/lang/String;" } : Jvm.MethodName)) ∈ lw_all := lw_g (lw_at lw_m4 66 rfl) rfl
theorem q912 : (Jvm.Cond.code ({ cls := "YearSkins$Reader", name := "newName", desc := "()Ljava/lang/String;" } : Jvm.MethodName) prog_8_method_11_code (2 : Nat) (Option.some (Jvm.ClassFile.FieldType.object "java/lang/String"))) ∈ lw_all := lw_g (lw_at lw_m4 67 rfl) rfl
theorem q913 : (Jvm.Cond.methodLink "YearSkins$Reader" (119 : Nat) ({ cls := "YearSkins$Reader", name := "mustName", desc := "()V" } : Jvm.MethodName)) ∈ lw_all := lw_g (lw_at lw_m4 68 rfl) rfl
theorem q914 : (Jvm.Cond.privateMethod ({ cls := "YearSkins$Reader", name := "mustName", desc := "()V" } : Jvm.MethodName)) ∈ lw_tbl := lw_at lw_m4 69 rfl
theorem q915 : (Jvm.Cond.instanceMethod ({ cls := "YearSkins$Reader", name := "mustName", desc := "()V" } : Jvm.MethodName)) ∈ lw_all := lw_g (lw_at lw_m4 70 rfl) rfl
theorem q916 : (Jvm.Cond.code ({ cls := "YearSkins$Reader", name := "mustName", desc := "()V" } : Jvm.MethodName) prog_8_method_10_code (3 : Nat) (Option.none : Option Jvm.ClassFile.FieldType)) ∈ lw_all := lw_g (lw_at lw_m4 71 rfl) rfl
theorem q917 : (Jvm.Cond.methodLink "YearSkins$Reader" (125 : Nat) ({ cls := "YearSkins$Land", name := "find", desc := "(Ljava/lang/String;)LYearSkins$Named;" } : Jvm.MethodName)) ∈ lw_all := lw_g (lw_at lw_m4 72 rfl) rfl
theorem q925 : (Jvm.Cond.methodLink "YearSkins$Reader" (284 : Nat) ({ cls := "YearSkins$Reader", name := "stoneOf", desc := "(Ljava/lang/String;I)LYearSkins$Stone;" } : Jvm.MethodName)) ∈ lw_all := lw_g (lw_at lw_m4 80 rfl) rfl
theorem q926 : (Jvm.Cond.privateMethod ({ cls := "YearSkins$Reader", name := "stoneOf", desc := "(Ljava/lang/String;I)LYearSkins$Stone;" } : Jvm.MethodName)) ∈ lw_tbl := lw_at lw_m4 81 rfl
theorem q927 : (Jvm.Cond.instanceMethod ({ cls := "YearSkins$Reader", name := "stoneOf", desc := "(Ljava/lang/String;I)LYearSkins$Stone;" } : Jvm.MethodName)) ∈ lw_all := lw_g (lw_at lw_m4 82 rfl) rfl
theorem q928 : (Jvm.Cond.code ({ cls := "YearSkins$Reader", name := "stoneOf", desc := "(Ljava/lang/String;I)LYearSkins$Stone;" } : Jvm.MethodName) prog_8_method_27_code (3 : Nat) (Option.some (Jvm.ClassFile.FieldType.object "YearSkins$Stone"))) ∈ lw_all := lw_g (lw_at lw_m4 83 rfl) rfl
theorem q929 : (Jvm.Cond.stringRef "YearSkins$Reader" (263 : Nat) "hard") ∈ lw_tbl := lw_at lw_m4 84 rfl
theorem q930 : (Jvm.Cond.classLink "YearSkins$Reader" (265 : Nat) "YearSkins$Hard") ∈ lw_all := lw_g (lw_at lw_m4 85 rfl) rfl
theorem q932 : (Jvm.Cond.methodLink "YearSkins$Reader" (267 : Nat) ({ cls := "YearSkins$Hard", name := "<init>", desc := "(Ljava/lang/String;I)V" } : Jvm.MethodName)) ∈ lw_all := lw_g (lw_at lw_m4 87 rfl) rfl
theorem q943 : (Jvm.Cond.fieldLink "YearSkins$Reader" (290 : Nat) "YearSkins$Stone" "costs" "I") ∈ lw_all := lw_g (lw_at lw_m4 98 rfl) rfl
theorem q946 : (Jvm.Cond.fieldLink "YearSkins$Reader" (294 : Nat) "YearSkins$Stone" "warm" "I") ∈ lw_all := lw_g (lw_at lw_m4 101 rfl) rfl
theorem q949 : (Jvm.Cond.fieldLink "YearSkins$Reader" (298 : Nat) "YearSkins$Stone" "rots" "I") ∈ lw_all := lw_g (lw_at lw_m4 104 rfl) rfl
theorem q953 : (Jvm.Cond.fieldLink "YearSkins$Reader" (302 : Nat) "YearSkins$Stone" "strong" "I") ∈ lw_all := lw_g (lw_at lw_m4 108 rfl) rfl
theorem q960 : (Jvm.Cond.fieldLink "YearSkins$Reader" (343 : Nat) "YearSkins$Site" "number" "I") ∈ lw_all := lw_g (lw_at lw_m4 115 rfl) rfl
theorem q962 : (Jvm.Cond.fieldLink "YearSkins$Reader" (402 : Nat) "YearSkins$Wall" "number" "I") ∈ lw_all := lw_g (lw_at lw_m4 117 rfl) rfl
theorem q977 : (Jvm.Cond.stringRef "YearSkins$Reader" (270 : Nat) "soft") ∈ lw_tbl := lw_at lw_m4 132 rfl
theorem q978 : (Jvm.Cond.classLink "YearSkins$Reader" (272 : Nat) "YearSkins$Soft") ∈ lw_all := lw_g (lw_at lw_m4 133 rfl) rfl
theorem q980 : (Jvm.Cond.methodLink "YearSkins$Reader" (274 : Nat) ({ cls := "YearSkins$Soft", name := "<init>", desc := "(Ljava/lang/String;I)V" } : Jvm.MethodName)) ∈ lw_all := lw_g (lw_at lw_m4 135 rfl) rfl
theorem q991 : (Jvm.Cond.stringRef "YearSkins$Reader" (275 : Nat) "wood") ∈ lw_tbl := lw_at lw_m4 146 rfl
theorem q992 : (Jvm.Cond.classLink "YearSkins$Reader" (277 : Nat) "YearSkins$Wood") ∈ lw_all := lw_g (lw_at lw_m4 147 rfl) rfl
theorem q994 : (Jvm.Cond.methodLink "YearSkins$Reader" (279 : Nat) ({ cls := "YearSkins$Wood", name := "<init>", desc := "(Ljava/lang/String;I)V" } : Jvm.MethodName)) ∈ lw_all := lw_g (lw_at lw_m4 149 rfl) rfl
theorem q1005 : (Jvm.Cond.stringRef "YearSkins$Reader" (288 : Nat) "costs") ∈ lw_tbl := lw_at lw_m4 160 rfl
theorem q1006 : (Jvm.Cond.stringRef "YearSkins$Reader" (292 : Nat) "warm") ∈ lw_tbl := lw_at lw_m4 161 rfl
theorem q1007 : (Jvm.Cond.stringRef "YearSkins$Reader" (296 : Nat) "rots") ∈ lw_tbl := lw_at lw_m4 162 rfl
theorem q1008 : (Jvm.Cond.stringRef "YearSkins$Reader" (300 : Nat) "strong") ∈ lw_tbl := lw_at lw_m4 163 rfl
theorem q1009 : (Jvm.Cond.methodLink "YearSkins$Reader" (191 : Nat) ({ cls := "YearSkins$Reader", name := "house", desc := "()V" } : Jvm.MethodName)) ∈ lw_all := lw_g (lw_at lw_m4 164 rfl) rfl
theorem q1010 : (Jvm.Cond.privateMethod ({ cls := "YearSkins$Reader", name := "house", desc := "()V" } : Jvm.MethodName)) ∈ lw_tbl := lw_at lw_m4 165 rfl
theorem q1011 : (Jvm.Cond.instanceMethod ({ cls := "YearSkins$Reader", name := "house", desc := "()V" } : Jvm.MethodName)) ∈ lw_all := lw_g (lw_at lw_m4 166 rfl) rfl
theorem q1012 : (Jvm.Cond.code ({ cls := "YearSkins$Reader", name := "house", desc := "()V" } : Jvm.MethodName) prog_8_method_29_code (4 : Nat) (Option.none : Option Jvm.ClassFile.FieldType)) ∈ lw_all := lw_g (lw_at lw_m4 167 rfl) rfl
theorem q1013 : (Jvm.Cond.classLink "YearSkins$Reader" (137 : Nat) "YearSkins$Site") ∈ lw_all := lw_g (lw_at lw_m4 168 rfl) rfl
theorem q1015 : (Jvm.Cond.methodLink "YearSkins$Reader" (308 : Nat) ({ cls := "YearSkins$Site", name := "<init>", desc := "(Ljava/lang/String;I)V" } : Jvm.MethodName)) ∈ lw_all := lw_g (lw_at lw_m4 170 rfl) rfl
theorem q1022 : (Jvm.Cond.fieldLink "YearSkins$Reader" (310 : Nat) "YearSkins$Site" "x" "I") ∈ lw_all := lw_g (lw_at lw_m4 177 rfl) rfl
theorem q1026 : (Jvm.Cond.fieldLink "YearSkins$Reader" (313 : Nat) "YearSkins$Site" "y" "I") ∈ lw_all := lw_g (lw_at lw_m4 181 rfl) rfl
theorem q1029 : (Jvm.Cond.fieldLink "YearSkins$Reader" (324 : Nat) "YearSkins$Site" "stone" "LYearSkins$Stone;") ∈ lw_all := lw_g (lw_at lw_m4 184 rfl) rfl
theorem q1039 : (Jvm.Cond.stringRef "YearSkins$Reader" (309 : Nat) "at") ∈ lw_tbl := lw_at lw_m4 194 rfl
theorem q1040 : (Jvm.Cond.methodLink "YearSkins$Reader" (316 : Nat) ({ cls := "YearSkins$Village", name := "whose", desc := "(II)I" } : Jvm.MethodName)) ∈ lw_all := lw_g (lw_at lw_m4 195 rfl) rfl
theorem q1058 : (Jvm.Cond.stringRef "YearSkins$Reader" (319 : Nat) "of") ∈ lw_tbl := lw_at lw_m4 213 rfl
theorem q1059 : (Jvm.Cond.methodLink "YearSkins$Reader" (321 : Nat) ({ cls := "YearSkins$Reader", name := "stone", desc := "()LYearSkins$Stone;" } : Jvm.MethodName)) ∈ lw_all := lw_g (lw_at lw_m4 214 rfl) rfl
theorem q1060 : (Jvm.Cond.privateMethod ({ cls := "YearSkins$Reader", name := "stone", desc := "()LYearSkins$Stone;" } : Jvm.MethodName)) ∈ lw_tbl := lw_at lw_m4 215 rfl
theorem q1061 : (Jvm.Cond.instanceMethod ({ cls := "YearSkins$Reader", name := "stone", desc := "()LYearSkins$Stone;" } : Jvm.MethodName)) ∈ lw_all := lw_g (lw_at lw_m4 216 rfl) rfl
theorem q1062 : (Jvm.Cond.code ({ cls := "YearSkins$Reader", name := "stone", desc := "()LYearSkins$Stone;" } : Jvm.MethodName) prog_8_method_13_code (2 : Nat) (Option.some (Jvm.ClassFile.FieldType.object "YearSkins$Stone"))) ∈ lw_all := lw_g (lw_at lw_m4 217 rfl) rfl
theorem q1063 : (Jvm.Cond.methodLink "YearSkins$Reader" (131 : Nat) ({ cls := "YearSkins$Reader", name := "found", desc := "()LYearSkins$Named;" } : Jvm.MethodName)) ∈ lw_all := lw_g (lw_at lw_m4 218 rfl) rfl
theorem q1064 : (Jvm.Cond.privateMethod ({ cls := "YearSkins$Reader", name := "found", desc := "()LYearSkins$Named;" } : Jvm.MethodName)) ∈ lw_tbl := lw_at lw_m4 219 rfl
theorem q1065 : (Jvm.Cond.instanceMethod ({ cls := "YearSkins$Reader", name := "found", desc := "()LYearSkins$Named;" } : Jvm.MethodName)) ∈ lw_all := lw_g (lw_at lw_m4 220 rfl) rfl
theorem q1066 : (Jvm.Cond.code ({ cls := "YearSkins$Reader", name := "found", desc := "()LYearSkins$Named;" } : Jvm.MethodName) prog_8_method_12_code (1 : Nat) (Option.some (Jvm.ClassFile.FieldType.object "YearSkins$Named"))) ∈ lw_all := lw_g (lw_at lw_m4 221 rfl) rfl
theorem q1067 : (Jvm.Cond.classLink "YearSkins$Reader" (135 : Nat) "YearSkins$Stone") ∈ lw_all := lw_g (lw_at lw_m4 222 rfl) rfl
theorem q1068 : (Jvm.Cond.stringRef "YearSkins$Reader" (327 : Nat) "family") ∈ lw_tbl := lw_at lw_m4 223 rfl
theorem q1069 : (Jvm.Cond.stringRef "YearSkins$Reader" (329 : Nat) "gold") ∈ lw_tbl := lw_at lw_m4 224 rfl
theorem q1070 : (Jvm.Cond.methodLink "YearSkins$Reader" (335 : Nat) ({ cls := "YearSkins$Village", name := "add", desc := "(LYearSkins$Site;II)V" } : Jvm.MethodName)) ∈ lw_all := lw_g (lw_at lw_m4 225 rfl) rfl
theorem q1078 : (Jvm.Cond.methodLink "YearSkins$Reader" (193 : Nat) ({ cls := "YearSkins$Reader", name := "skin", desc := "()V" } : Jvm.MethodName)) ∈ lw_all := lw_g (lw_at lw_m4 233 rfl) rfl
theorem q1079 : (Jvm.Cond.privateMethod ({ cls := "YearSkins$Reader", name := "skin", desc := "()V" } : Jvm.MethodName)) ∈ lw_tbl := lw_at lw_m4 234 rfl
theorem q1080 : (Jvm.Cond.instanceMethod ({ cls := "YearSkins$Reader", name := "skin", desc := "()V" } : Jvm.MethodName)) ∈ lw_all := lw_g (lw_at lw_m4 235 rfl) rfl
theorem q1081 : (Jvm.Cond.code ({ cls := "YearSkins$Reader", name := "skin", desc := "()V" } : Jvm.MethodName) prog_8_method_30_code (6 : Nat) (Option.none : Option Jvm.ClassFile.FieldType)) ∈ lw_all := lw_g (lw_at lw_m4 236 rfl) rfl
theorem q1082 : (Jvm.Cond.methodLink "YearSkins$Reader" (339 : Nat) ({ cls := "YearSkins$Reader", name := "siteHere", desc := "()LYearSkins$Site;" } : Jvm.MethodName)) ∈ lw_all := lw_g (lw_at lw_m4 237 rfl) rfl
theorem q1083 : (Jvm.Cond.privateMethod ({ cls := "YearSkins$Reader", name := "siteHere", desc := "()LYearSkins$Site;" } : Jvm.MethodName)) ∈ lw_tbl := lw_at lw_m4 238 rfl
theorem q1084 : (Jvm.Cond.instanceMethod ({ cls := "YearSkins$Reader", name := "siteHere", desc := "()LYearSkins$Site;" } : Jvm.MethodName)) ∈ lw_all := lw_g (lw_at lw_m4 239 rfl) rfl
theorem q1085 : (Jvm.Cond.code ({ cls := "YearSkins$Reader", name := "siteHere", desc := "()LYearSkins$Site;" } : Jvm.MethodName) prog_8_method_14_code (2 : Nat) (Option.some (Jvm.ClassFile.FieldType.object "YearSkins$Site"))) ∈ lw_all := lw_g (lw_at lw_m5 0 rfl) rfl
theorem q1086 : (Jvm.Cond.methodLink "YearSkins$Reader" (345 : Nat) ({ cls := "YearSkins$Village", name := "house", desc := "(I)LYearSkins$House;" } : Jvm.MethodName)) ∈ lw_all := lw_g (lw_at lw_m5 1 rfl) rfl
theorem q1090 : (Jvm.Cond.methodLink "YearSkins$Reader" (353 : Nat) ({ cls := "YearSkins$Village", name := "fits", desc := "(I)Z" } : Jvm.MethodName)) ∈ lw_all := lw_g (lw_at lw_m5 5 rfl) rfl
theorem q1118 : (Jvm.Cond.stringRef "YearSkins$Reader" (356 : Nat) "north") ∈ lw_tbl := lw_at lw_m5 33 rfl
theorem q1119 : (Jvm.Cond.stringRef "YearSkins$Reader" (358 : Nat) "east") ∈ lw_tbl := lw_at lw_m5 34 rfl
theorem q1120 : (Jvm.Cond.stringRef "YearSkins$Reader" (360 : Nat) "south") ∈ lw_tbl := lw_at lw_m5 35 rfl
theorem q1121 : (Jvm.Cond.stringRef "YearSkins$Reader" (362 : Nat) "west") ∈ lw_tbl := lw_at lw_m5 36 rfl
theorem q1122 : (Jvm.Cond.stringRef "YearSkins$Reader" (364 : Nat) "lock") ∈ lw_tbl := lw_at lw_m5 37 rfl
theorem q1123 : (Jvm.Cond.methodLink "YearSkins$Reader" (366 : Nat) ({ cls := "YearSkins$House", name := "build", desc := "(LYearSkins$Stone;IIII)V" } : Jvm.MethodName)) ∈ lw_all := lw_g (lw_at lw_m5 38 rfl) rfl
theorem q1131 : (Jvm.Cond.methodLink "YearSkins$Reader" (195 : Nat) ({ cls := "YearSkins$Reader", name := "heir", desc := "()V" } : Jvm.MethodName)) ∈ lw_all := lw_g (lw_at lw_m5 46 rfl) rfl
theorem q1132 : (Jvm.Cond.privateMethod ({ cls := "YearSkins$Reader", name := "heir", desc := "()V" } : Jvm.MethodName)) ∈ lw_tbl := lw_at lw_m5 47 rfl
theorem q1133 : (Jvm.Cond.instanceMethod ({ cls := "YearSkins$Reader", name := "heir", desc := "()V" } : Jvm.MethodName)) ∈ lw_all := lw_g (lw_at lw_m5 48 rfl) rfl
theorem q1134 : (Jvm.Cond.code ({ cls := "YearSkins$Reader", name := "heir", desc := "()V" } : Jvm.MethodName) prog_8_method_31_code (4 : Nat) (Option.none : Option Jvm.ClassFile.FieldType)) ∈ lw_all := lw_g (lw_at lw_m5 49 rfl) rfl
theorem q1135 : (Jvm.Cond.classLink "YearSkins$Reader" (373 : Nat) "YearSkins$Heir") ∈ lw_all := lw_g (lw_at lw_m5 50 rfl) rfl
theorem q1137 : (Jvm.Cond.methodLink "YearSkins$Reader" (375 : Nat) ({ cls := "YearSkins$Heir", name := "<init>", desc := "(Ljava/lang/String;II)V" } : Jvm.MethodName)) ∈ lw_all := lw_g (lw_at lw_m5 52 rfl) rfl
theorem q1144 : (Jvm.Cond.fieldLink "YearSkins$Reader" (378 : Nat) "YearSkins$Heir" "begins" "I") ∈ lw_all := lw_g (lw_at lw_m5 59 rfl) rfl
theorem q1152 : (Jvm.Cond.methodLink "YearSkins$Reader" (197 : Nat) ({ cls := "YearSkins$Reader", name := "wall", desc := "()V" } : Jvm.MethodName)) ∈ lw_all := lw_g (lw_at lw_m5 67 rfl) rfl
theorem q1153 : (Jvm.Cond.privateMethod ({ cls := "YearSkins$Reader", name := "wall", desc := "()V" } : Jvm.MethodName)) ∈ lw_tbl := lw_at lw_m5 68 rfl
theorem q1154 : (Jvm.Cond.instanceMethod ({ cls := "YearSkins$Reader", name := "wall", desc := "()V" } : Jvm.MethodName)) ∈ lw_all := lw_g (lw_at lw_m5 69 rfl) rfl
theorem q1155 : (Jvm.Cond.code ({ cls := "YearSkins$Reader", name := "wall", desc := "()V" } : Jvm.MethodName) prog_8_method_32_code (1 : Nat) (Option.none : Option Jvm.ClassFile.FieldType)) ∈ lw_all := lw_g (lw_at lw_m5 70 rfl) rfl
theorem q1156 : (Jvm.Cond.classLink "YearSkins$Reader" (139 : Nat) "YearSkins$Wall") ∈ lw_all := lw_g (lw_at lw_m5 71 rfl) rfl
theorem q1158 : (Jvm.Cond.methodLink "YearSkins$Reader" (394 : Nat) ({ cls := "YearSkins$Wall", name := "<init>", desc := "(Ljava/lang/String;I)V" } : Jvm.MethodName)) ∈ lw_all := lw_g (lw_at lw_m5 73 rfl) rfl
theorem q1164 : (Jvm.Cond.fieldLink "YearSkins$Reader" (411 : Nat) "YearSkins$Wall" "coin" "I") ∈ lw_all := lw_g (lw_at lw_m5 79 rfl) rfl
theorem q1167 : (Jvm.Cond.fieldLink "YearSkins$Reader" (413 : Nat) "YearSkins$Wall" "smell" "I") ∈ lw_all := lw_g (lw_at lw_m5 82 rfl) rfl
theorem q1175 : (Jvm.Cond.methodLink "YearSkins$Reader" (199 : Nat) ({ cls := "YearSkins$Reader", name := "older", desc := "()V" } : Jvm.MethodName)) ∈ lw_all := lw_g (lw_at lw_m5 90 rfl) rfl
theorem q1176 : (Jvm.Cond.privateMethod ({ cls := "YearSkins$Reader", name := "older", desc := "()V" } : Jvm.MethodName)) ∈ lw_tbl := lw_at lw_m5 91 rfl
theorem q1177 : (Jvm.Cond.instanceMethod ({ cls := "YearSkins$Reader", name := "older", desc := "()V" } : Jvm.MethodName)) ∈ lw_all := lw_g (lw_at lw_m5 92 rfl) rfl
theorem q1178 : (Jvm.Cond.code ({ cls := "YearSkins$Reader", name := "older", desc := "()V" } : Jvm.MethodName) prog_8_method_33_code (3 : Nat) (Option.none : Option Jvm.ClassFile.FieldType)) ∈ lw_all := lw_g (lw_at lw_m5 93 rfl) rfl
theorem q1179 : (Jvm.Cond.methodLink "YearSkins$Reader" (398 : Nat) ({ cls := "YearSkins$Reader", name := "wallHere", desc := "()LYearSkins$Wall;" } : Jvm.MethodName)) ∈ lw_all := lw_g (lw_at lw_m5 94 rfl) rfl
theorem q1180 : (Jvm.Cond.privateMethod ({ cls := "YearSkins$Reader", name := "wallHere", desc := "()LYearSkins$Wall;" } : Jvm.MethodName)) ∈ lw_tbl := lw_at lw_m5 95 rfl
theorem q1181 : (Jvm.Cond.instanceMethod ({ cls := "YearSkins$Reader", name := "wallHere", desc := "()LYearSkins$Wall;" } : Jvm.MethodName)) ∈ lw_all := lw_g (lw_at lw_m5 96 rfl) rfl
theorem q1182 : (Jvm.Cond.code ({ cls := "YearSkins$Reader", name := "wallHere", desc := "()LYearSkins$Wall;" } : Jvm.MethodName) prog_8_method_15_code (2 : Nat) (Option.some (Jvm.ClassFile.FieldType.object "YearSkins$Wall"))) ∈ lw_all := lw_g (lw_at lw_m5 97 rfl) rfl
theorem q1183 : (Jvm.Cond.methodLink "YearSkins$Reader" (403 : Nat) ({ cls := "YearSkins$Land", name := "areTold", desc := "(II)Z" } : Jvm.MethodName)) ∈ lw_all := lw_g (lw_at lw_m5 98 rfl) rfl
theorem q1187 : (Jvm.Cond.methodLink "YearSkins$Reader" (201 : Nat) ({ cls := "YearSkins$Reader", name := "coin", desc := "()V" } : Jvm.MethodName)) ∈ lw_all := lw_g (lw_at lw_m5 102 rfl) rfl
theorem q1188 : (Jvm.Cond.privateMethod ({ cls := "YearSkins$Reader", name := "coin", desc := "()V" } : Jvm.MethodName)) ∈ lw_tbl := lw_at lw_m5 103 rfl
theorem q1189 : (Jvm.Cond.instanceMethod ({ cls := "YearSkins$Reader", name := "coin", desc := "()V" } : Jvm.MethodName)) ∈ lw_all := lw_g (lw_at lw_m5 104 rfl) rfl
theorem q1190 : (Jvm.Cond.code ({ cls := "YearSkins$Reader", name := "coin", desc := "()V" } : Jvm.MethodName) prog_8_method_34_code (2 : Nat) (Option.none : Option Jvm.ClassFile.FieldType)) ∈ lw_all := lw_g (lw_at lw_m5 105 rfl) rfl
theorem q1191 : (Jvm.Cond.methodLink "YearSkins$Reader" (203 : Nat) ({ cls := "YearSkins$Reader", name := "smell", desc := "()V" } : Jvm.MethodName)) ∈ lw_all := lw_g (lw_at lw_m5 106 rfl) rfl
theorem q1192 : (Jvm.Cond.privateMethod ({ cls := "YearSkins$Reader", name := "smell", desc := "()V" } : Jvm.MethodName)) ∈ lw_tbl := lw_at lw_m5 107 rfl
theorem q1193 : (Jvm.Cond.instanceMethod ({ cls := "YearSkins$Reader", name := "smell", desc := "()V" } : Jvm.MethodName)) ∈ lw_all := lw_g (lw_at lw_m5 108 rfl) rfl
theorem q1194 : (Jvm.Cond.code ({ cls := "YearSkins$Reader", name := "smell", desc := "()V" } : Jvm.MethodName) prog_8_method_35_code (2 : Nat) (Option.none : Option Jvm.ClassFile.FieldType)) ∈ lw_all := lw_g (lw_at lw_m5 109 rfl) rfl
theorem q1196 : (Jvm.Cond.instanceMethod ({ cls := "YearSkins$Reader", name := "village", desc := "()LYearSkins$Village;" } : Jvm.MethodName)) ∈ lw_all := lw_g (lw_at lw_m5 111 rfl) rfl
theorem q1197 : (Jvm.Cond.selects "YearSkins$Reader" ({ cls := "YearSkins$Reader", name := "village", desc := "()LYearSkins$Village;" } : Jvm.MethodName) ({ cls := "YearSkins$Reader", name := "village", desc := "()LYearSkins$Village;" } : Jvm.MethodName)) ∈ lw_all := lw_g (lw_at lw_m5 112 rfl) rfl
theorem q1198 : (Jvm.Cond.code ({ cls := "YearSkins$Reader", name := "village", desc := "()LYearSkins$Village;" } : Jvm.MethodName) prog_8_method_2_code (1 : Nat) (Option.some (Jvm.ClassFile.FieldType.object "YearSkins$Village"))) ∈ lw_all := lw_g (lw_at lw_m5 113 rfl) rfl
theorem q2640 : (Jvm.Cond.castable "YearSkins$Reader" "java/lang/Object") ∈ lw_tbl := lw_at lw_m11 115 rfl
theorem in_X2 : ∀ w ∈ wsX20, w ∈ lw_all := lw_in wsX20 [390, 392, 394, 396, 398, 400, 402, 404, 406, 408, 410, 412] (by decide +kernel) (by decide +kernel)
