/-! YearSkins -/
set_option maxRecDepth 100000
def RX1 : String := "YearSkins"
def TX1 : u_T := fun k => match k with
  | 0 => ("YearSkins", "tape", "[B", true)
  | 1 => ("YearSkins", "taped", "I", false)
  | 2 => ("YearSkins", "reader", "LYearSkins$Reader;", true)
  | 3 => ("YearSkins", "land", "LYearSkins$Land;", false)
  | 4 => ("YearSkins", "trouble", "I", false)
  | 5 => ("YearSkins", "fault", "I", false)
  | 6 => ("YearSkins", "where", "I", false)
  | 7 => ("YearSkins", "markMany", "I", false)
  | 8 => ("YearSkins", "undoMany", "I", false)
  | 9 => ("YearSkins", "village", "LYearSkins$Village;", true)
  | 10 => ("YearSkins", "was", "LYearSkins$Village;", true)
  | 11 => ("YearSkins", "trial", "LYearSkins$Village;", true)
  | 12 => ("YearSkins", "through", "LYearSkins$Through;", true)
  | 13 => ("YearSkins", "orders", "LYearSkins$Orders;", true)
  | 14 => ("YearSkins", "undone", "[LYearSkins$Village;", true)
  | 15 => ("YearSkins", "marks", "[LYearSkins$Village;", true)
  | 16 => ("YearSkins", "firstMost", "I", false)
  | _ => ("YearSkins", "firstOrder", "[I", true)
def tyX1 : Nat → FieldType := fun k => match k with
  | 0 => .array .byte
  | 1 => .int
  | 2 => .object "YearSkins$Reader"
  | 3 => .object "YearSkins$Land"
  | 4 => .int
  | 5 => .int
  | 6 => .int
  | 7 => .int
  | 8 => .int
  | 9 => .object "YearSkins$Village"
  | 10 => .object "YearSkins$Village"
  | 11 => .object "YearSkins$Village"
  | 12 => .object "YearSkins$Through"
  | 13 => .object "YearSkins$Orders"
  | 14 => .array (.object "YearSkins$Village")
  | 15 => .array (.object "YearSkins$Village")
  | 16 => .int
  | _ => .array .int
abbrev wsX10 : List Cond := u_ws RX1 TX1 18
set_option maxRecDepth 100000 in
theorem nmX1 : ∀ a, a < 18 → ∀ b, b < 18 → a ≠ b → (TX1 a).2.1 ≠ (TX1 b).2.1 := by decide +kernel
set_option maxRecDepth 100000 in
theorem tyX1_ok : ∀ k, k < 18 → parseFieldDescriptor (TX1 k).2.2.1 = some (tyX1 k) := by decide +kernel
abbrev cX1_init : ByteArray := prog_1_method_3_code
def yX1_init : MethodName := ⟨RX1, "<init>", "()V"⟩
def dkwX1_init_7 : List UInt8 := [167, 255, 235, 177]
abbrev dktX1_init_7 : List UInt8 := dkwX1_init_7 ++ []
def dkwX1_init_6 : List UInt8 := [3, 60, 27, 6, 162, 0, 22, 42, 180, 0, 57, 27, 187, 0, 26, 89, 183, 0, 28, 83, 132, 1, 1]
abbrev dktX1_init_6 : List UInt8 := dkwX1_init_6 ++ dktX1_init_7
def dkwX1_init_5 : List UInt8 := [16, 10, 162, 0, 22, 42, 180, 0, 53, 27, 187, 0, 26, 89, 183, 0, 28, 83, 132, 1, 1, 167, 255, 234]
abbrev dktX1_init_5 : List UInt8 := dkwX1_init_5 ++ dktX1_init_6
def dkwX1_init_4 : List UInt8 := [189, 0, 26, 181, 0, 53, 42, 6, 189, 0, 26, 181, 0, 57, 42, 7, 188, 10, 181, 0, 60, 3, 60, 27]
abbrev dktX1_init_4 : List UInt8 := dkwX1_init_4 ++ dktX1_init_5
def dkwX1_init_3 : List UInt8 := [187, 0, 39, 89, 183, 0, 41, 181, 0, 42, 42, 187, 0, 46, 89, 183, 0, 48, 181, 0, 49, 42, 16, 10]
abbrev dktX1_init_3 : List UInt8 := dkwX1_init_3 ++ dktX1_init_4
def dkwX1_init_2 : List UInt8 := [187, 0, 26, 89, 183, 0, 28, 181, 0, 33, 42, 187, 0, 26, 89, 183, 0, 28, 181, 0, 36, 42]
abbrev dktX1_init_2 : List UInt8 := dkwX1_init_2 ++ dktX1_init_3
def dkwX1_init_1 : List UInt8 := [183, 0, 15, 181, 0, 18, 42, 2, 181, 0, 22, 42, 187, 0, 26, 89, 183, 0, 28, 181, 0, 29, 42]
abbrev dktX1_init_1 : List UInt8 := dkwX1_init_1 ++ dktX1_init_2
def dkwX1_init_0 : List UInt8 := [42, 183, 0, 1, 42, 17, 3, 232, 188, 8, 181, 0, 9, 42, 187, 0, 13, 89, 42, 180, 0, 9]
abbrev dktX1_init_0 : List UInt8 := dkwX1_init_0 ++ dktX1_init_1
theorem dksX1_init_0 : cX1_init.data.toList.drop 0 = dktX1_init_0 := by decide +kernel
theorem dksX1_init_1 : cX1_init.data.toList.drop 22 = dktX1_init_1 := dk_seg dksX1_init_0 22 rfl rfl
theorem dksX1_init_2 : cX1_init.data.toList.drop 45 = dktX1_init_2 := dk_seg dksX1_init_1 23 rfl rfl
theorem dksX1_init_3 : cX1_init.data.toList.drop 67 = dktX1_init_3 := dk_seg dksX1_init_2 22 rfl rfl
theorem dksX1_init_4 : cX1_init.data.toList.drop 91 = dktX1_init_4 := dk_seg dksX1_init_3 24 rfl rfl
theorem dksX1_init_5 : cX1_init.data.toList.drop 115 = dktX1_init_5 := dk_seg dksX1_init_4 24 rfl rfl
theorem dksX1_init_6 : cX1_init.data.toList.drop 139 = dktX1_init_6 := dk_seg dksX1_init_5 24 rfl rfl
theorem dksX1_init_7 : cX1_init.data.toList.drop 162 = dktX1_init_7 := dk_seg dksX1_init_6 23 rfl rfl
theorem dX1_init_0 : decode cX1_init 0 = .ok (.aload_n 0, 1) := dk_42 (dk_at dksX1_init_0 0 rfl rfl)
theorem dX1_init_1 : decode cX1_init 1 = .ok (.invokespecial 1, 3) := dk_183 0 1 (dk_at dksX1_init_0 1 rfl rfl)
theorem dX1_init_4 : decode cX1_init 4 = .ok (.aload_n 0, 1) := dk_42 (dk_at dksX1_init_0 4 rfl rfl)
theorem dX1_init_5 : decode cX1_init 5 = .ok (.sipush 1000, 3) := dk_17 3 232 (dk_at dksX1_init_0 5 rfl rfl)
theorem dX1_init_8 : decode cX1_init 8 = .ok (.newarray .byte, 2) := dk_188_8 (dk_at dksX1_init_0 8 rfl rfl)
theorem dX1_init_10 : decode cX1_init 10 = .ok (.putfield 9, 3) := dk_181 0 9 (dk_at dksX1_init_0 10 rfl rfl)
theorem dX1_init_13 : decode cX1_init 13 = .ok (.aload_n 0, 1) := dk_42 (dk_at dksX1_init_0 13 rfl rfl)
theorem dX1_init_14 : decode cX1_init 14 = .ok (.new 13, 3) := dk_187 0 13 (dk_at dksX1_init_0 14 rfl rfl)
theorem dX1_init_17 : decode cX1_init 17 = .ok (.dup, 1) := dk_89 (dk_at dksX1_init_0 17 rfl rfl)
theorem dX1_init_18 : decode cX1_init 18 = .ok (.aload_n 0, 1) := dk_42 (dk_at dksX1_init_0 18 rfl rfl)
theorem dX1_init_19 : decode cX1_init 19 = .ok (.getfield 9, 3) := dk_180 0 9 (dk_at dksX1_init_0 19 rfl rfl)
theorem dX1_init_22 : decode cX1_init 22 = .ok (.invokespecial 15, 3) := dk_183 0 15 (dk_at dksX1_init_1 0 rfl rfl)
theorem dX1_init_25 : decode cX1_init 25 = .ok (.putfield 18, 3) := dk_181 0 18 (dk_at dksX1_init_1 3 rfl rfl)
theorem dX1_init_28 : decode cX1_init 28 = .ok (.aload_n 0, 1) := dk_42 (dk_at dksX1_init_1 6 rfl rfl)
theorem dX1_init_29 : decode cX1_init 29 = .ok (.iconst (-1), 1) := dk_2 (dk_at dksX1_init_1 7 rfl rfl)
theorem dX1_init_30 : decode cX1_init 30 = .ok (.putfield 22, 3) := dk_181 0 22 (dk_at dksX1_init_1 8 rfl rfl)
theorem dX1_init_33 : decode cX1_init 33 = .ok (.aload_n 0, 1) := dk_42 (dk_at dksX1_init_1 11 rfl rfl)
theorem dX1_init_34 : decode cX1_init 34 = .ok (.new 26, 3) := dk_187 0 26 (dk_at dksX1_init_1 12 rfl rfl)
theorem dX1_init_37 : decode cX1_init 37 = .ok (.dup, 1) := dk_89 (dk_at dksX1_init_1 15 rfl rfl)
theorem dX1_init_38 : decode cX1_init 38 = .ok (.invokespecial 28, 3) := dk_183 0 28 (dk_at dksX1_init_1 16 rfl rfl)
theorem dX1_init_41 : decode cX1_init 41 = .ok (.putfield 29, 3) := dk_181 0 29 (dk_at dksX1_init_1 19 rfl rfl)
theorem dX1_init_44 : decode cX1_init 44 = .ok (.aload_n 0, 1) := dk_42 (dk_at dksX1_init_1 22 rfl rfl)
theorem dX1_init_45 : decode cX1_init 45 = .ok (.new 26, 3) := dk_187 0 26 (dk_at dksX1_init_2 0 rfl rfl)
theorem dX1_init_48 : decode cX1_init 48 = .ok (.dup, 1) := dk_89 (dk_at dksX1_init_2 3 rfl rfl)
theorem dX1_init_49 : decode cX1_init 49 = .ok (.invokespecial 28, 3) := dk_183 0 28 (dk_at dksX1_init_2 4 rfl rfl)
theorem dX1_init_52 : decode cX1_init 52 = .ok (.putfield 33, 3) := dk_181 0 33 (dk_at dksX1_init_2 7 rfl rfl)
theorem dX1_init_55 : decode cX1_init 55 = .ok (.aload_n 0, 1) := dk_42 (dk_at dksX1_init_2 10 rfl rfl)
theorem dX1_init_56 : decode cX1_init 56 = .ok (.new 26, 3) := dk_187 0 26 (dk_at dksX1_init_2 11 rfl rfl)
theorem dX1_init_59 : decode cX1_init 59 = .ok (.dup, 1) := dk_89 (dk_at dksX1_init_2 14 rfl rfl)
theorem dX1_init_60 : decode cX1_init 60 = .ok (.invokespecial 28, 3) := dk_183 0 28 (dk_at dksX1_init_2 15 rfl rfl)
theorem dX1_init_63 : decode cX1_init 63 = .ok (.putfield 36, 3) := dk_181 0 36 (dk_at dksX1_init_2 18 rfl rfl)
theorem dX1_init_66 : decode cX1_init 66 = .ok (.aload_n 0, 1) := dk_42 (dk_at dksX1_init_2 21 rfl rfl)
theorem dX1_init_67 : decode cX1_init 67 = .ok (.new 39, 3) := dk_187 0 39 (dk_at dksX1_init_3 0 rfl rfl)
theorem dX1_init_70 : decode cX1_init 70 = .ok (.dup, 1) := dk_89 (dk_at dksX1_init_3 3 rfl rfl)
theorem dX1_init_71 : decode cX1_init 71 = .ok (.invokespecial 41, 3) := dk_183 0 41 (dk_at dksX1_init_3 4 rfl rfl)
theorem dX1_init_74 : decode cX1_init 74 = .ok (.putfield 42, 3) := dk_181 0 42 (dk_at dksX1_init_3 7 rfl rfl)
theorem dX1_init_77 : decode cX1_init 77 = .ok (.aload_n 0, 1) := dk_42 (dk_at dksX1_init_3 10 rfl rfl)
theorem dX1_init_78 : decode cX1_init 78 = .ok (.new 46, 3) := dk_187 0 46 (dk_at dksX1_init_3 11 rfl rfl)
theorem dX1_init_81 : decode cX1_init 81 = .ok (.dup, 1) := dk_89 (dk_at dksX1_init_3 14 rfl rfl)
theorem dX1_init_82 : decode cX1_init 82 = .ok (.invokespecial 48, 3) := dk_183 0 48 (dk_at dksX1_init_3 15 rfl rfl)
theorem dX1_init_85 : decode cX1_init 85 = .ok (.putfield 49, 3) := dk_181 0 49 (dk_at dksX1_init_3 18 rfl rfl)
theorem dX1_init_88 : decode cX1_init 88 = .ok (.aload_n 0, 1) := dk_42 (dk_at dksX1_init_3 21 rfl rfl)
theorem dX1_init_89 : decode cX1_init 89 = .ok (.bipush 10, 2) := dk_16 10 (dk_at dksX1_init_3 22 rfl rfl)
theorem dX1_init_91 : decode cX1_init 91 = .ok (.anewarray 26, 3) := dk_189 0 26 (dk_at dksX1_init_4 0 rfl rfl)
theorem dX1_init_94 : decode cX1_init 94 = .ok (.putfield 53, 3) := dk_181 0 53 (dk_at dksX1_init_4 3 rfl rfl)
theorem dX1_init_97 : decode cX1_init 97 = .ok (.aload_n 0, 1) := dk_42 (dk_at dksX1_init_4 6 rfl rfl)
theorem dX1_init_98 : decode cX1_init 98 = .ok (.iconst 3, 1) := dk_6 (dk_at dksX1_init_4 7 rfl rfl)
theorem dX1_init_99 : decode cX1_init 99 = .ok (.anewarray 26, 3) := dk_189 0 26 (dk_at dksX1_init_4 8 rfl rfl)
theorem dX1_init_102 : decode cX1_init 102 = .ok (.putfield 57, 3) := dk_181 0 57 (dk_at dksX1_init_4 11 rfl rfl)
theorem dX1_init_105 : decode cX1_init 105 = .ok (.aload_n 0, 1) := dk_42 (dk_at dksX1_init_4 14 rfl rfl)
theorem dX1_init_106 : decode cX1_init 106 = .ok (.iconst 4, 1) := dk_7 (dk_at dksX1_init_4 15 rfl rfl)
theorem dX1_init_107 : decode cX1_init 107 = .ok (.newarray .int, 2) := dk_188_10 (dk_at dksX1_init_4 16 rfl rfl)
theorem dX1_init_109 : decode cX1_init 109 = .ok (.putfield 60, 3) := dk_181 0 60 (dk_at dksX1_init_4 18 rfl rfl)
theorem dX1_init_112 : decode cX1_init 112 = .ok (.iconst 0, 1) := dk_3 (dk_at dksX1_init_4 21 rfl rfl)
theorem dX1_init_113 : decode cX1_init 113 = .ok (.istore_n 1, 1) := dk_60 (dk_at dksX1_init_4 22 rfl rfl)
theorem dX1_init_114 : decode cX1_init 114 = .ok (.iload_n 1, 1) := dk_27 (dk_at dksX1_init_4 23 rfl rfl)
theorem dX1_init_115 : decode cX1_init 115 = .ok (.bipush 10, 2) := dk_16 10 (dk_at dksX1_init_5 0 rfl rfl)
theorem dX1_init_117 : decode cX1_init 117 = .ok (.if_icmp .ge 22, 3) := dk_162 0 22 (dk_at dksX1_init_5 2 rfl rfl)
theorem dX1_init_120 : decode cX1_init 120 = .ok (.aload_n 0, 1) := dk_42 (dk_at dksX1_init_5 5 rfl rfl)
theorem dX1_init_121 : decode cX1_init 121 = .ok (.getfield 53, 3) := dk_180 0 53 (dk_at dksX1_init_5 6 rfl rfl)
theorem dX1_init_124 : decode cX1_init 124 = .ok (.iload_n 1, 1) := dk_27 (dk_at dksX1_init_5 9 rfl rfl)
theorem dX1_init_125 : decode cX1_init 125 = .ok (.new 26, 3) := dk_187 0 26 (dk_at dksX1_init_5 10 rfl rfl)
theorem dX1_init_128 : decode cX1_init 128 = .ok (.dup, 1) := dk_89 (dk_at dksX1_init_5 13 rfl rfl)
theorem dX1_init_129 : decode cX1_init 129 = .ok (.invokespecial 28, 3) := dk_183 0 28 (dk_at dksX1_init_5 14 rfl rfl)
theorem dX1_init_132 : decode cX1_init 132 = .ok (.aastore, 1) := dk_83 (dk_at dksX1_init_5 17 rfl rfl)
theorem dX1_init_133 : decode cX1_init 133 = .ok (.iinc 1 1, 3) := dk_132 1 1 (dk_at dksX1_init_5 18 rfl rfl)
theorem dX1_init_136 : decode cX1_init 136 = .ok (.goto (-22), 3) := dk_167 255 234 (dk_at dksX1_init_5 21 rfl rfl)
theorem dX1_init_139 : decode cX1_init 139 = .ok (.iconst 0, 1) := dk_3 (dk_at dksX1_init_6 0 rfl rfl)
theorem dX1_init_140 : decode cX1_init 140 = .ok (.istore_n 1, 1) := dk_60 (dk_at dksX1_init_6 1 rfl rfl)
theorem dX1_init_141 : decode cX1_init 141 = .ok (.iload_n 1, 1) := dk_27 (dk_at dksX1_init_6 2 rfl rfl)
theorem dX1_init_142 : decode cX1_init 142 = .ok (.iconst 3, 1) := dk_6 (dk_at dksX1_init_6 3 rfl rfl)
theorem dX1_init_143 : decode cX1_init 143 = .ok (.if_icmp .ge 22, 3) := dk_162 0 22 (dk_at dksX1_init_6 4 rfl rfl)
theorem dX1_init_146 : decode cX1_init 146 = .ok (.aload_n 0, 1) := dk_42 (dk_at dksX1_init_6 7 rfl rfl)
theorem dX1_init_147 : decode cX1_init 147 = .ok (.getfield 57, 3) := dk_180 0 57 (dk_at dksX1_init_6 8 rfl rfl)
theorem dX1_init_150 : decode cX1_init 150 = .ok (.iload_n 1, 1) := dk_27 (dk_at dksX1_init_6 11 rfl rfl)
theorem dX1_init_151 : decode cX1_init 151 = .ok (.new 26, 3) := dk_187 0 26 (dk_at dksX1_init_6 12 rfl rfl)
theorem dX1_init_154 : decode cX1_init 154 = .ok (.dup, 1) := dk_89 (dk_at dksX1_init_6 15 rfl rfl)
theorem dX1_init_155 : decode cX1_init 155 = .ok (.invokespecial 28, 3) := dk_183 0 28 (dk_at dksX1_init_6 16 rfl rfl)
theorem dX1_init_158 : decode cX1_init 158 = .ok (.aastore, 1) := dk_83 (dk_at dksX1_init_6 19 rfl rfl)
theorem dX1_init_159 : decode cX1_init 159 = .ok (.iinc 1 1, 3) := dk_132 1 1 (dk_at dksX1_init_6 20 rfl rfl)
theorem dX1_init_162 : decode cX1_init 162 = .ok (.goto (-21), 3) := dk_167 255 235 (dk_at dksX1_init_7 0 rfl rfl)
theorem dX1_init_165 : decode cX1_init 165 = .ok (.return_, 1) := dk_177 (dk_at dksX1_init_7 3 rfl rfl)
abbrev cX1_feed : ByteArray := prog_1_method_7_code
def yX1_feed : MethodName := ⟨RX1, "feed", "(IIIII)I"⟩
def dkwX1_feed_2 : List UInt8 := [172]
abbrev dktX1_feed_2 : List UInt8 := dkwX1_feed_2 ++ []
def dkwX1_feed_1 : List UInt8 := [182, 0, 73, 42, 29, 182, 0, 73, 42, 21, 4, 182, 0, 73, 42, 21, 5, 182, 0, 73, 42, 180, 0, 70]
abbrev dktX1_feed_1 : List UInt8 := dkwX1_feed_1 ++ dktX1_feed_2
def dkwX1_feed_0 : List UInt8 := [42, 180, 0, 70, 16, 20, 96, 17, 3, 232, 164, 0, 5, 2, 172, 42, 27, 182, 0, 73, 42, 28]
abbrev dktX1_feed_0 : List UInt8 := dkwX1_feed_0 ++ dktX1_feed_1
theorem dksX1_feed_0 : cX1_feed.data.toList.drop 0 = dktX1_feed_0 := by decide +kernel
theorem dksX1_feed_1 : cX1_feed.data.toList.drop 22 = dktX1_feed_1 := dk_seg dksX1_feed_0 22 rfl rfl
theorem dksX1_feed_2 : cX1_feed.data.toList.drop 46 = dktX1_feed_2 := dk_seg dksX1_feed_1 24 rfl rfl
theorem dX1_feed_0 : decode cX1_feed 0 = .ok (.aload_n 0, 1) := dk_42 (dk_at dksX1_feed_0 0 rfl rfl)
theorem dX1_feed_1 : decode cX1_feed 1 = .ok (.getfield 70, 3) := dk_180 0 70 (dk_at dksX1_feed_0 1 rfl rfl)
theorem dX1_feed_4 : decode cX1_feed 4 = .ok (.bipush 20, 2) := dk_16 20 (dk_at dksX1_feed_0 4 rfl rfl)
theorem dX1_feed_6 : decode cX1_feed 6 = .ok (.iadd, 1) := dk_96 (dk_at dksX1_feed_0 6 rfl rfl)
theorem dX1_feed_7 : decode cX1_feed 7 = .ok (.sipush 1000, 3) := dk_17 3 232 (dk_at dksX1_feed_0 7 rfl rfl)
theorem dX1_feed_10 : decode cX1_feed 10 = .ok (.if_icmp .le 5, 3) := dk_164 0 5 (dk_at dksX1_feed_0 10 rfl rfl)
theorem dX1_feed_13 : decode cX1_feed 13 = .ok (.iconst (-1), 1) := dk_2 (dk_at dksX1_feed_0 13 rfl rfl)
theorem dX1_feed_14 : decode cX1_feed 14 = .ok (.ireturn, 1) := dk_172 (dk_at dksX1_feed_0 14 rfl rfl)
theorem dX1_feed_15 : decode cX1_feed 15 = .ok (.aload_n 0, 1) := dk_42 (dk_at dksX1_feed_0 15 rfl rfl)
theorem dX1_feed_16 : decode cX1_feed 16 = .ok (.iload_n 1, 1) := dk_27 (dk_at dksX1_feed_0 16 rfl rfl)
theorem dX1_feed_17 : decode cX1_feed 17 = .ok (.invokevirtual 73, 3) := dk_182 0 73 (dk_at dksX1_feed_0 17 rfl rfl)
theorem dX1_feed_20 : decode cX1_feed 20 = .ok (.aload_n 0, 1) := dk_42 (dk_at dksX1_feed_0 20 rfl rfl)
theorem dX1_feed_21 : decode cX1_feed 21 = .ok (.iload_n 2, 1) := dk_28 (dk_at dksX1_feed_0 21 rfl rfl)
theorem dX1_feed_22 : decode cX1_feed 22 = .ok (.invokevirtual 73, 3) := dk_182 0 73 (dk_at dksX1_feed_1 0 rfl rfl)
theorem dX1_feed_25 : decode cX1_feed 25 = .ok (.aload_n 0, 1) := dk_42 (dk_at dksX1_feed_1 3 rfl rfl)
theorem dX1_feed_26 : decode cX1_feed 26 = .ok (.iload_n 3, 1) := dk_29 (dk_at dksX1_feed_1 4 rfl rfl)
theorem dX1_feed_27 : decode cX1_feed 27 = .ok (.invokevirtual 73, 3) := dk_182 0 73 (dk_at dksX1_feed_1 5 rfl rfl)
theorem dX1_feed_30 : decode cX1_feed 30 = .ok (.aload_n 0, 1) := dk_42 (dk_at dksX1_feed_1 8 rfl rfl)
theorem dX1_feed_31 : decode cX1_feed 31 = .ok (.iload 4, 2) := dk_21 4 (dk_at dksX1_feed_1 9 rfl rfl)
theorem dX1_feed_33 : decode cX1_feed 33 = .ok (.invokevirtual 73, 3) := dk_182 0 73 (dk_at dksX1_feed_1 11 rfl rfl)
theorem dX1_feed_36 : decode cX1_feed 36 = .ok (.aload_n 0, 1) := dk_42 (dk_at dksX1_feed_1 14 rfl rfl)
theorem dX1_feed_37 : decode cX1_feed 37 = .ok (.iload 5, 2) := dk_21 5 (dk_at dksX1_feed_1 15 rfl rfl)
theorem dX1_feed_39 : decode cX1_feed 39 = .ok (.invokevirtual 73, 3) := dk_182 0 73 (dk_at dksX1_feed_1 17 rfl rfl)
theorem dX1_feed_42 : decode cX1_feed 42 = .ok (.aload_n 0, 1) := dk_42 (dk_at dksX1_feed_1 20 rfl rfl)
theorem dX1_feed_43 : decode cX1_feed 43 = .ok (.getfield 70, 3) := dk_180 0 70 (dk_at dksX1_feed_1 21 rfl rfl)
theorem dX1_feed_46 : decode cX1_feed 46 = .ok (.ireturn, 1) := dk_172 (dk_at dksX1_feed_2 0 rfl rfl)
abbrev cX1_bytes : ByteArray := prog_1_method_8_code
def yX1_bytes : MethodName := ⟨RX1, "bytes", "(I)V"⟩
def dkwX1_bytes_1 : List UInt8 := [180, 0, 70, 4, 96, 181, 0, 70, 132, 2, 248, 167, 255, 226, 177]
abbrev dktX1_bytes_1 : List UInt8 := dkwX1_bytes_1 ++ []
def dkwX1_bytes_0 : List UInt8 := [16, 24, 61, 28, 155, 0, 32, 42, 180, 0, 9, 42, 180, 0, 70, 27, 28, 122, 145, 84, 42, 89]
abbrev dktX1_bytes_0 : List UInt8 := dkwX1_bytes_0 ++ dktX1_bytes_1
theorem dksX1_bytes_0 : cX1_bytes.data.toList.drop 0 = dktX1_bytes_0 := by decide +kernel
theorem dksX1_bytes_1 : cX1_bytes.data.toList.drop 22 = dktX1_bytes_1 := dk_seg dksX1_bytes_0 22 rfl rfl
theorem dX1_bytes_0 : decode cX1_bytes 0 = .ok (.bipush 24, 2) := dk_16 24 (dk_at dksX1_bytes_0 0 rfl rfl)
theorem dX1_bytes_2 : decode cX1_bytes 2 = .ok (.istore_n 2, 1) := dk_61 (dk_at dksX1_bytes_0 2 rfl rfl)
theorem dX1_bytes_3 : decode cX1_bytes 3 = .ok (.iload_n 2, 1) := dk_28 (dk_at dksX1_bytes_0 3 rfl rfl)
theorem dX1_bytes_4 : decode cX1_bytes 4 = .ok (.ifCond .lt 32, 3) := dk_155 0 32 (dk_at dksX1_bytes_0 4 rfl rfl)
theorem dX1_bytes_7 : decode cX1_bytes 7 = .ok (.aload_n 0, 1) := dk_42 (dk_at dksX1_bytes_0 7 rfl rfl)
theorem dX1_bytes_8 : decode cX1_bytes 8 = .ok (.getfield 9, 3) := dk_180 0 9 (dk_at dksX1_bytes_0 8 rfl rfl)
theorem dX1_bytes_11 : decode cX1_bytes 11 = .ok (.aload_n 0, 1) := dk_42 (dk_at dksX1_bytes_0 11 rfl rfl)
theorem dX1_bytes_12 : decode cX1_bytes 12 = .ok (.getfield 70, 3) := dk_180 0 70 (dk_at dksX1_bytes_0 12 rfl rfl)
theorem dX1_bytes_15 : decode cX1_bytes 15 = .ok (.iload_n 1, 1) := dk_27 (dk_at dksX1_bytes_0 15 rfl rfl)
theorem dX1_bytes_16 : decode cX1_bytes 16 = .ok (.iload_n 2, 1) := dk_28 (dk_at dksX1_bytes_0 16 rfl rfl)
theorem dX1_bytes_17 : decode cX1_bytes 17 = .ok (.ishr, 1) := dk_122 (dk_at dksX1_bytes_0 17 rfl rfl)
theorem dX1_bytes_18 : decode cX1_bytes 18 = .ok (.i2b, 1) := dk_145 (dk_at dksX1_bytes_0 18 rfl rfl)
theorem dX1_bytes_19 : decode cX1_bytes 19 = .ok (.bastore, 1) := dk_84 (dk_at dksX1_bytes_0 19 rfl rfl)
theorem dX1_bytes_20 : decode cX1_bytes 20 = .ok (.aload_n 0, 1) := dk_42 (dk_at dksX1_bytes_0 20 rfl rfl)
theorem dX1_bytes_21 : decode cX1_bytes 21 = .ok (.dup, 1) := dk_89 (dk_at dksX1_bytes_0 21 rfl rfl)
theorem dX1_bytes_22 : decode cX1_bytes 22 = .ok (.getfield 70, 3) := dk_180 0 70 (dk_at dksX1_bytes_1 0 rfl rfl)
theorem dX1_bytes_25 : decode cX1_bytes 25 = .ok (.iconst 1, 1) := dk_4 (dk_at dksX1_bytes_1 3 rfl rfl)
theorem dX1_bytes_26 : decode cX1_bytes 26 = .ok (.iadd, 1) := dk_96 (dk_at dksX1_bytes_1 4 rfl rfl)
theorem dX1_bytes_27 : decode cX1_bytes 27 = .ok (.putfield 70, 3) := dk_181 0 70 (dk_at dksX1_bytes_1 5 rfl rfl)
theorem dX1_bytes_30 : decode cX1_bytes 30 = .ok (.iinc 2 (-8), 3) := dk_132 2 248 (dk_at dksX1_bytes_1 8 rfl rfl)
theorem dX1_bytes_33 : decode cX1_bytes 33 = .ok (.goto (-30), 3) := dk_167 255 226 (dk_at dksX1_bytes_1 11 rfl rfl)
theorem dX1_bytes_36 : decode cX1_bytes 36 = .ok (.return_, 1) := dk_177 (dk_at dksX1_bytes_1 14 rfl rfl)
abbrev cX1_land : ByteArray := prog_1_method_9_code
def yX1_land : MethodName := ⟨RX1, "land", "(I)I"⟩
def dkwX1_land_4 : List UInt8 := [180, 0, 29, 180, 0, 115, 172]
abbrev dktX1_land_4 : List UInt8 := dkwX1_land_4 ++ []
def dkwX1_land_3 : List UInt8 := [180, 0, 29, 42, 180, 0, 18, 182, 0, 102, 182, 0, 105, 42, 3, 181, 0, 109, 42, 3, 181, 0, 112, 42]
abbrev dktX1_land_3 : List UInt8 := dkwX1_land_3 ++ dktX1_land_4
def dkwX1_land_2 : List UInt8 := [42, 44, 180, 0, 98, 181, 0, 85, 42, 44, 180, 0, 99, 181, 0, 22, 42, 7, 182, 0, 81, 172, 42]
abbrev dktX1_land_2 : List UInt8 := dkwX1_land_2 ++ dktX1_land_3
def dkwX1_land_1 : List UInt8 := [181, 0, 70, 42, 3, 181, 0, 85, 42, 42, 180, 0, 18, 27, 182, 0, 88, 181, 0, 92, 167, 0, 26, 77]
abbrev dktX1_land_1 : List UInt8 := dkwX1_land_1 ++ dktX1_land_2
def dkwX1_land_0 : List UInt8 := [42, 182, 0, 67, 27, 3, 42, 180, 0, 70, 184, 0, 77, 154, 0, 9, 42, 5, 182, 0, 81, 172, 42, 3]
abbrev dktX1_land_0 : List UInt8 := dkwX1_land_0 ++ dktX1_land_1
theorem dksX1_land_0 : cX1_land.data.toList.drop 0 = dktX1_land_0 := by decide +kernel
theorem dksX1_land_1 : cX1_land.data.toList.drop 24 = dktX1_land_1 := dk_seg dksX1_land_0 24 rfl rfl
theorem dksX1_land_2 : cX1_land.data.toList.drop 48 = dktX1_land_2 := dk_seg dksX1_land_1 24 rfl rfl
theorem dksX1_land_3 : cX1_land.data.toList.drop 71 = dktX1_land_3 := dk_seg dksX1_land_2 23 rfl rfl
theorem dksX1_land_4 : cX1_land.data.toList.drop 95 = dktX1_land_4 := dk_seg dksX1_land_3 24 rfl rfl
theorem dX1_land_0 : decode cX1_land 0 = .ok (.aload_n 0, 1) := dk_42 (dk_at dksX1_land_0 0 rfl rfl)
theorem dX1_land_1 : decode cX1_land 1 = .ok (.invokevirtual 67, 3) := dk_182 0 67 (dk_at dksX1_land_0 1 rfl rfl)
theorem dX1_land_4 : decode cX1_land 4 = .ok (.iload_n 1, 1) := dk_27 (dk_at dksX1_land_0 4 rfl rfl)
theorem dX1_land_5 : decode cX1_land 5 = .ok (.iconst 0, 1) := dk_3 (dk_at dksX1_land_0 5 rfl rfl)
theorem dX1_land_6 : decode cX1_land 6 = .ok (.aload_n 0, 1) := dk_42 (dk_at dksX1_land_0 6 rfl rfl)
theorem dX1_land_7 : decode cX1_land 7 = .ok (.getfield 70, 3) := dk_180 0 70 (dk_at dksX1_land_0 7 rfl rfl)
theorem dX1_land_10 : decode cX1_land 10 = .ok (.invokestatic 77, 3) := dk_184 0 77 (dk_at dksX1_land_0 10 rfl rfl)
theorem dX1_land_13 : decode cX1_land 13 = .ok (.ifCond .ne 9, 3) := dk_154 0 9 (dk_at dksX1_land_0 13 rfl rfl)
theorem dX1_land_16 : decode cX1_land 16 = .ok (.aload_n 0, 1) := dk_42 (dk_at dksX1_land_0 16 rfl rfl)
theorem dX1_land_17 : decode cX1_land 17 = .ok (.iconst 2, 1) := dk_5 (dk_at dksX1_land_0 17 rfl rfl)
theorem dX1_land_18 : decode cX1_land 18 = .ok (.invokevirtual 81, 3) := dk_182 0 81 (dk_at dksX1_land_0 18 rfl rfl)
theorem dX1_land_21 : decode cX1_land 21 = .ok (.ireturn, 1) := dk_172 (dk_at dksX1_land_0 21 rfl rfl)
theorem dX1_land_22 : decode cX1_land 22 = .ok (.aload_n 0, 1) := dk_42 (dk_at dksX1_land_0 22 rfl rfl)
theorem dX1_land_23 : decode cX1_land 23 = .ok (.iconst 0, 1) := dk_3 (dk_at dksX1_land_0 23 rfl rfl)
theorem dX1_land_24 : decode cX1_land 24 = .ok (.putfield 70, 3) := dk_181 0 70 (dk_at dksX1_land_1 0 rfl rfl)
theorem dX1_land_27 : decode cX1_land 27 = .ok (.aload_n 0, 1) := dk_42 (dk_at dksX1_land_1 3 rfl rfl)
theorem dX1_land_28 : decode cX1_land 28 = .ok (.iconst 0, 1) := dk_3 (dk_at dksX1_land_1 4 rfl rfl)
theorem dX1_land_29 : decode cX1_land 29 = .ok (.putfield 85, 3) := dk_181 0 85 (dk_at dksX1_land_1 5 rfl rfl)
theorem dX1_land_32 : decode cX1_land 32 = .ok (.aload_n 0, 1) := dk_42 (dk_at dksX1_land_1 8 rfl rfl)
theorem dX1_land_33 : decode cX1_land 33 = .ok (.aload_n 0, 1) := dk_42 (dk_at dksX1_land_1 9 rfl rfl)
theorem dX1_land_34 : decode cX1_land 34 = .ok (.getfield 18, 3) := dk_180 0 18 (dk_at dksX1_land_1 10 rfl rfl)
theorem dX1_land_37 : decode cX1_land 37 = .ok (.iload_n 1, 1) := dk_27 (dk_at dksX1_land_1 13 rfl rfl)
theorem dX1_land_38 : decode cX1_land 38 = .ok (.invokevirtual 88, 3) := dk_182 0 88 (dk_at dksX1_land_1 14 rfl rfl)
theorem dX1_land_41 : decode cX1_land 41 = .ok (.putfield 92, 3) := dk_181 0 92 (dk_at dksX1_land_1 17 rfl rfl)
theorem dX1_land_44 : decode cX1_land 44 = .ok (.goto 26, 3) := dk_167 0 26 (dk_at dksX1_land_1 20 rfl rfl)
theorem dX1_land_47 : decode cX1_land 47 = .ok (.astore_n 2, 1) := dk_77 (dk_at dksX1_land_1 23 rfl rfl)
theorem dX1_land_48 : decode cX1_land 48 = .ok (.aload_n 0, 1) := dk_42 (dk_at dksX1_land_2 0 rfl rfl)
theorem dX1_land_49 : decode cX1_land 49 = .ok (.aload_n 2, 1) := dk_44 (dk_at dksX1_land_2 1 rfl rfl)
theorem dX1_land_50 : decode cX1_land 50 = .ok (.getfield 98, 3) := dk_180 0 98 (dk_at dksX1_land_2 2 rfl rfl)
theorem dX1_land_53 : decode cX1_land 53 = .ok (.putfield 85, 3) := dk_181 0 85 (dk_at dksX1_land_2 5 rfl rfl)
theorem dX1_land_56 : decode cX1_land 56 = .ok (.aload_n 0, 1) := dk_42 (dk_at dksX1_land_2 8 rfl rfl)
theorem dX1_land_57 : decode cX1_land 57 = .ok (.aload_n 2, 1) := dk_44 (dk_at dksX1_land_2 9 rfl rfl)
theorem dX1_land_58 : decode cX1_land 58 = .ok (.getfield 99, 3) := dk_180 0 99 (dk_at dksX1_land_2 10 rfl rfl)
theorem dX1_land_61 : decode cX1_land 61 = .ok (.putfield 22, 3) := dk_181 0 22 (dk_at dksX1_land_2 13 rfl rfl)
theorem dX1_land_64 : decode cX1_land 64 = .ok (.aload_n 0, 1) := dk_42 (dk_at dksX1_land_2 16 rfl rfl)
theorem dX1_land_65 : decode cX1_land 65 = .ok (.iconst 4, 1) := dk_7 (dk_at dksX1_land_2 17 rfl rfl)
theorem dX1_land_66 : decode cX1_land 66 = .ok (.invokevirtual 81, 3) := dk_182 0 81 (dk_at dksX1_land_2 18 rfl rfl)
theorem dX1_land_69 : decode cX1_land 69 = .ok (.ireturn, 1) := dk_172 (dk_at dksX1_land_2 21 rfl rfl)
theorem dX1_land_70 : decode cX1_land 70 = .ok (.aload_n 0, 1) := dk_42 (dk_at dksX1_land_2 22 rfl rfl)
theorem dX1_land_71 : decode cX1_land 71 = .ok (.getfield 29, 3) := dk_180 0 29 (dk_at dksX1_land_3 0 rfl rfl)
theorem dX1_land_74 : decode cX1_land 74 = .ok (.aload_n 0, 1) := dk_42 (dk_at dksX1_land_3 3 rfl rfl)
theorem dX1_land_75 : decode cX1_land 75 = .ok (.getfield 18, 3) := dk_180 0 18 (dk_at dksX1_land_3 4 rfl rfl)
theorem dX1_land_78 : decode cX1_land 78 = .ok (.invokevirtual 102, 3) := dk_182 0 102 (dk_at dksX1_land_3 7 rfl rfl)
theorem dX1_land_81 : decode cX1_land 81 = .ok (.invokevirtual 105, 3) := dk_182 0 105 (dk_at dksX1_land_3 10 rfl rfl)
theorem dX1_land_84 : decode cX1_land 84 = .ok (.aload_n 0, 1) := dk_42 (dk_at dksX1_land_3 13 rfl rfl)
theorem dX1_land_85 : decode cX1_land 85 = .ok (.iconst 0, 1) := dk_3 (dk_at dksX1_land_3 14 rfl rfl)
theorem dX1_land_86 : decode cX1_land 86 = .ok (.putfield 109, 3) := dk_181 0 109 (dk_at dksX1_land_3 15 rfl rfl)
theorem dX1_land_89 : decode cX1_land 89 = .ok (.aload_n 0, 1) := dk_42 (dk_at dksX1_land_3 18 rfl rfl)
theorem dX1_land_90 : decode cX1_land 90 = .ok (.iconst 0, 1) := dk_3 (dk_at dksX1_land_3 19 rfl rfl)
theorem dX1_land_91 : decode cX1_land 91 = .ok (.putfield 112, 3) := dk_181 0 112 (dk_at dksX1_land_3 20 rfl rfl)
theorem dX1_land_94 : decode cX1_land 94 = .ok (.aload_n 0, 1) := dk_42 (dk_at dksX1_land_3 23 rfl rfl)
theorem dX1_land_95 : decode cX1_land 95 = .ok (.getfield 29, 3) := dk_180 0 29 (dk_at dksX1_land_4 0 rfl rfl)
theorem dX1_land_98 : decode cX1_land 98 = .ok (.getfield 115, 3) := dk_180 0 115 (dk_at dksX1_land_4 3 rfl rfl)
theorem dX1_land_101 : decode cX1_land 101 = .ok (.ireturn, 1) := dk_172 (dk_at dksX1_land_4 6 rfl rfl)
abbrev cX1_anew : ByteArray := prog_1_method_4_code
def yX1_anew : MethodName := ⟨RX1, "anew", "()V"⟩
def dkwX1_anew_0 : List UInt8 := [42, 3, 181, 0, 64, 42, 2, 181, 0, 22, 177]
abbrev dktX1_anew_0 : List UInt8 := dkwX1_anew_0 ++ []
theorem dksX1_anew_0 : cX1_anew.data.toList.drop 0 = dktX1_anew_0 := by decide +kernel
theorem dX1_anew_0 : decode cX1_anew 0 = .ok (.aload_n 0, 1) := dk_42 (dk_at dksX1_anew_0 0 rfl rfl)
theorem dX1_anew_1 : decode cX1_anew 1 = .ok (.iconst 0, 1) := dk_3 (dk_at dksX1_anew_0 1 rfl rfl)
theorem dX1_anew_2 : decode cX1_anew 2 = .ok (.putfield 64, 3) := dk_181 0 64 (dk_at dksX1_anew_0 2 rfl rfl)
theorem dX1_anew_5 : decode cX1_anew 5 = .ok (.aload_n 0, 1) := dk_42 (dk_at dksX1_anew_0 5 rfl rfl)
theorem dX1_anew_6 : decode cX1_anew 6 = .ok (.iconst (-1), 1) := dk_2 (dk_at dksX1_anew_0 6 rfl rfl)
theorem dX1_anew_7 : decode cX1_anew 7 = .ok (.putfield 22, 3) := dk_181 0 22 (dk_at dksX1_anew_0 7 rfl rfl)
theorem dX1_anew_10 : decode cX1_anew 10 = .ok (.return_, 1) := dk_177 (dk_at dksX1_anew_0 10 rfl rfl)
abbrev cX1_within : ByteArray := prog_1_method_1_code
def yX1_within : MethodName := ⟨RX1, "within", "(III)Z"⟩
def dkwX1_within_0 : List UInt8 := [26, 27, 161, 0, 12, 26, 28, 163, 0, 7, 4, 167, 0, 4, 3, 172]
abbrev dktX1_within_0 : List UInt8 := dkwX1_within_0 ++ []
theorem dksX1_within_0 : cX1_within.data.toList.drop 0 = dktX1_within_0 := by decide +kernel
theorem dX1_within_0 : decode cX1_within 0 = .ok (.iload_n 0, 1) := dk_26 (dk_at dksX1_within_0 0 rfl rfl)
theorem dX1_within_1 : decode cX1_within 1 = .ok (.iload_n 1, 1) := dk_27 (dk_at dksX1_within_0 1 rfl rfl)
theorem dX1_within_2 : decode cX1_within 2 = .ok (.if_icmp .lt 12, 3) := dk_161 0 12 (dk_at dksX1_within_0 2 rfl rfl)
theorem dX1_within_5 : decode cX1_within 5 = .ok (.iload_n 0, 1) := dk_26 (dk_at dksX1_within_0 5 rfl rfl)
theorem dX1_within_6 : decode cX1_within 6 = .ok (.iload_n 2, 1) := dk_28 (dk_at dksX1_within_0 6 rfl rfl)
theorem dX1_within_7 : decode cX1_within 7 = .ok (.if_icmp .gt 7, 3) := dk_163 0 7 (dk_at dksX1_within_0 7 rfl rfl)
theorem dX1_within_10 : decode cX1_within 10 = .ok (.iconst 1, 1) := dk_4 (dk_at dksX1_within_0 10 rfl rfl)
theorem dX1_within_11 : decode cX1_within 11 = .ok (.goto 4, 3) := dk_167 0 4 (dk_at dksX1_within_0 11 rfl rfl)
theorem dX1_within_14 : decode cX1_within 14 = .ok (.iconst 0, 1) := dk_3 (dk_at dksX1_within_0 14 rfl rfl)
theorem dX1_within_15 : decode cX1_within 15 = .ok (.ireturn, 1) := dk_172 (dk_at dksX1_within_0 15 rfl rfl)
abbrev cX1_no : ByteArray := prog_1_method_5_code
def yX1_no : MethodName := ⟨RX1, "no", "(I)I"⟩
def dkwX1_no_0 : List UInt8 := [42, 27, 181, 0, 64, 2, 172]
abbrev dktX1_no_0 : List UInt8 := dkwX1_no_0 ++ []
theorem dksX1_no_0 : cX1_no.data.toList.drop 0 = dktX1_no_0 := by decide +kernel
theorem dX1_no_0 : decode cX1_no 0 = .ok (.aload_n 0, 1) := dk_42 (dk_at dksX1_no_0 0 rfl rfl)
theorem dX1_no_1 : decode cX1_no 1 = .ok (.iload_n 1, 1) := dk_27 (dk_at dksX1_no_0 1 rfl rfl)
theorem dX1_no_2 : decode cX1_no 2 = .ok (.putfield 64, 3) := dk_181 0 64 (dk_at dksX1_no_0 2 rfl rfl)
theorem dX1_no_5 : decode cX1_no 5 = .ok (.iconst (-1), 1) := dk_2 (dk_at dksX1_no_0 5 rfl rfl)
theorem dX1_no_6 : decode cX1_no 6 = .ok (.ireturn, 1) := dk_172 (dk_at dksX1_no_0 6 rfl rfl)
abbrev cX1_fault : ByteArray := prog_1_method_10_code
def yX1_fault : MethodName := ⟨RX1, "fault", "()I"⟩
theorem dX1_fault_0 : decode cX1_fault 0 = .ok (.aload_n 0, 1) := by decide +kernel
theorem dX1_fault_1 : decode cX1_fault 1 = .ok (.getfield 85, 3) := by decide +kernel
theorem dX1_fault_4 : decode cX1_fault 4 = .ok (.ireturn, 1) := by decide +kernel
abbrev cX1_where : ByteArray := prog_1_method_11_code
def yX1_where : MethodName := ⟨RX1, "where", "()I"⟩
def dkwX1_where_0 : List UInt8 := [42, 180, 0, 64, 7, 160, 0, 10, 42, 180, 0, 22, 167, 0, 4, 2, 172]
abbrev dktX1_where_0 : List UInt8 := dkwX1_where_0 ++ []
theorem dksX1_where_0 : cX1_where.data.toList.drop 0 = dktX1_where_0 := by decide +kernel
theorem dX1_where_0 : decode cX1_where 0 = .ok (.aload_n 0, 1) := dk_42 (dk_at dksX1_where_0 0 rfl rfl)
theorem dX1_where_1 : decode cX1_where 1 = .ok (.getfield 64, 3) := dk_180 0 64 (dk_at dksX1_where_0 1 rfl rfl)
theorem dX1_where_4 : decode cX1_where 4 = .ok (.iconst 4, 1) := dk_7 (dk_at dksX1_where_0 4 rfl rfl)
theorem dX1_where_5 : decode cX1_where 5 = .ok (.if_icmp .ne 10, 3) := dk_160 0 10 (dk_at dksX1_where_0 5 rfl rfl)
theorem dX1_where_8 : decode cX1_where 8 = .ok (.aload_n 0, 1) := dk_42 (dk_at dksX1_where_0 8 rfl rfl)
theorem dX1_where_9 : decode cX1_where 9 = .ok (.getfield 22, 3) := dk_180 0 22 (dk_at dksX1_where_0 9 rfl rfl)
theorem dX1_where_12 : decode cX1_where 12 = .ok (.goto 4, 3) := dk_167 0 4 (dk_at dksX1_where_0 12 rfl rfl)
theorem dX1_where_15 : decode cX1_where 15 = .ok (.iconst (-1), 1) := dk_2 (dk_at dksX1_where_0 15 rfl rfl)
theorem dX1_where_16 : decode cX1_where 16 = .ok (.ireturn, 1) := dk_172 (dk_at dksX1_where_0 16 rfl rfl)
abbrev cX1_whose : ByteArray := prog_1_method_18_code
def yX1_whose : MethodName := ⟨RX1, "whose", "(II)I"⟩
def dkwX1_whose_1 : List UInt8 := [180, 0, 29, 27, 28, 182, 0, 147, 167, 0, 8, 42, 4, 182, 0, 81, 172]
abbrev dktX1_whose_1 : List UInt8 := dkwX1_whose_1 ++ []
def dkwX1_whose_0 : List UInt8 := [42, 182, 0, 67, 42, 180, 0, 92, 198, 0, 27, 42, 180, 0, 92, 27, 28, 182, 0, 144, 153, 0, 15, 42]
abbrev dktX1_whose_0 : List UInt8 := dkwX1_whose_0 ++ dktX1_whose_1
theorem dksX1_whose_0 : cX1_whose.data.toList.drop 0 = dktX1_whose_0 := by decide +kernel
theorem dksX1_whose_1 : cX1_whose.data.toList.drop 24 = dktX1_whose_1 := dk_seg dksX1_whose_0 24 rfl rfl
theorem dX1_whose_0 : decode cX1_whose 0 = .ok (.aload_n 0, 1) := dk_42 (dk_at dksX1_whose_0 0 rfl rfl)
theorem dX1_whose_1 : decode cX1_whose 1 = .ok (.invokevirtual 67, 3) := dk_182 0 67 (dk_at dksX1_whose_0 1 rfl rfl)
theorem dX1_whose_4 : decode cX1_whose 4 = .ok (.aload_n 0, 1) := dk_42 (dk_at dksX1_whose_0 4 rfl rfl)
theorem dX1_whose_5 : decode cX1_whose 5 = .ok (.getfield 92, 3) := dk_180 0 92 (dk_at dksX1_whose_0 5 rfl rfl)
theorem dX1_whose_8 : decode cX1_whose 8 = .ok (.ifnull 27, 3) := dk_198 0 27 (dk_at dksX1_whose_0 8 rfl rfl)
theorem dX1_whose_11 : decode cX1_whose 11 = .ok (.aload_n 0, 1) := dk_42 (dk_at dksX1_whose_0 11 rfl rfl)
theorem dX1_whose_12 : decode cX1_whose 12 = .ok (.getfield 92, 3) := dk_180 0 92 (dk_at dksX1_whose_0 12 rfl rfl)
theorem dX1_whose_15 : decode cX1_whose 15 = .ok (.iload_n 1, 1) := dk_27 (dk_at dksX1_whose_0 15 rfl rfl)
theorem dX1_whose_16 : decode cX1_whose 16 = .ok (.iload_n 2, 1) := dk_28 (dk_at dksX1_whose_0 16 rfl rfl)
theorem dX1_whose_17 : decode cX1_whose 17 = .ok (.invokevirtual 144, 3) := dk_182 0 144 (dk_at dksX1_whose_0 17 rfl rfl)
theorem dX1_whose_20 : decode cX1_whose 20 = .ok (.ifCond .eq 15, 3) := dk_153 0 15 (dk_at dksX1_whose_0 20 rfl rfl)
theorem dX1_whose_23 : decode cX1_whose 23 = .ok (.aload_n 0, 1) := dk_42 (dk_at dksX1_whose_0 23 rfl rfl)
theorem dX1_whose_24 : decode cX1_whose 24 = .ok (.getfield 29, 3) := dk_180 0 29 (dk_at dksX1_whose_1 0 rfl rfl)
theorem dX1_whose_27 : decode cX1_whose 27 = .ok (.iload_n 1, 1) := dk_27 (dk_at dksX1_whose_1 3 rfl rfl)
theorem dX1_whose_28 : decode cX1_whose 28 = .ok (.iload_n 2, 1) := dk_28 (dk_at dksX1_whose_1 4 rfl rfl)
theorem dX1_whose_29 : decode cX1_whose 29 = .ok (.invokevirtual 147, 3) := dk_182 0 147 (dk_at dksX1_whose_1 5 rfl rfl)
theorem dX1_whose_32 : decode cX1_whose 32 = .ok (.goto 8, 3) := dk_167 0 8 (dk_at dksX1_whose_1 8 rfl rfl)
theorem dX1_whose_35 : decode cX1_whose 35 = .ok (.aload_n 0, 1) := dk_42 (dk_at dksX1_whose_1 11 rfl rfl)
theorem dX1_whose_36 : decode cX1_whose 36 = .ok (.iconst 1, 1) := dk_4 (dk_at dksX1_whose_1 12 rfl rfl)
theorem dX1_whose_37 : decode cX1_whose 37 = .ok (.invokevirtual 81, 3) := dk_182 0 81 (dk_at dksX1_whose_1 13 rfl rfl)
theorem dX1_whose_40 : decode cX1_whose 40 = .ok (.ireturn, 1) := dk_172 (dk_at dksX1_whose_1 16 rfl rfl)
abbrev cX1_shared : ByteArray := prog_1_method_20_code
def yX1_shared : MethodName := ⟨RX1, "shared", "()I"⟩
def dkwX1_shared_1 : List UInt8 := [172]
abbrev dktX1_shared_1 : List UInt8 := dkwX1_shared_1 ++ []
def dkwX1_shared_0 : List UInt8 := [42, 182, 0, 67, 42, 180, 0, 92, 199, 0, 11, 42, 4, 182, 0, 81, 167, 0, 8, 42, 5, 182, 0, 160]
abbrev dktX1_shared_0 : List UInt8 := dkwX1_shared_0 ++ dktX1_shared_1
theorem dksX1_shared_0 : cX1_shared.data.toList.drop 0 = dktX1_shared_0 := by decide +kernel
theorem dksX1_shared_1 : cX1_shared.data.toList.drop 24 = dktX1_shared_1 := dk_seg dksX1_shared_0 24 rfl rfl
theorem dX1_shared_0 : decode cX1_shared 0 = .ok (.aload_n 0, 1) := dk_42 (dk_at dksX1_shared_0 0 rfl rfl)
theorem dX1_shared_1 : decode cX1_shared 1 = .ok (.invokevirtual 67, 3) := dk_182 0 67 (dk_at dksX1_shared_0 1 rfl rfl)
theorem dX1_shared_4 : decode cX1_shared 4 = .ok (.aload_n 0, 1) := dk_42 (dk_at dksX1_shared_0 4 rfl rfl)
theorem dX1_shared_5 : decode cX1_shared 5 = .ok (.getfield 92, 3) := dk_180 0 92 (dk_at dksX1_shared_0 5 rfl rfl)
theorem dX1_shared_8 : decode cX1_shared 8 = .ok (.ifnonnull 11, 3) := dk_199 0 11 (dk_at dksX1_shared_0 8 rfl rfl)
theorem dX1_shared_11 : decode cX1_shared 11 = .ok (.aload_n 0, 1) := dk_42 (dk_at dksX1_shared_0 11 rfl rfl)
theorem dX1_shared_12 : decode cX1_shared 12 = .ok (.iconst 1, 1) := dk_4 (dk_at dksX1_shared_0 12 rfl rfl)
theorem dX1_shared_13 : decode cX1_shared 13 = .ok (.invokevirtual 81, 3) := dk_182 0 81 (dk_at dksX1_shared_0 13 rfl rfl)
theorem dX1_shared_16 : decode cX1_shared 16 = .ok (.goto 8, 3) := dk_167 0 8 (dk_at dksX1_shared_0 16 rfl rfl)
theorem dX1_shared_19 : decode cX1_shared 19 = .ok (.aload_n 0, 1) := dk_42 (dk_at dksX1_shared_0 19 rfl rfl)
theorem dX1_shared_20 : decode cX1_shared 20 = .ok (.iconst 2, 1) := dk_5 (dk_at dksX1_shared_0 20 rfl rfl)
theorem dX1_shared_21 : decode cX1_shared 21 = .ok (.invokevirtual 160, 3) := dk_182 0 160 (dk_at dksX1_shared_0 21 rfl rfl)
theorem dX1_shared_24 : decode cX1_shared 24 = .ok (.ireturn, 1) := dk_172 (dk_at dksX1_shared_1 0 rfl rfl)
abbrev cX1_cellsOf : ByteArray := prog_1_method_19_code
def yX1_cellsOf : MethodName := ⟨RX1, "cellsOf", "(I)I"⟩
def dkwX1_cellsOf_4 : List UInt8 := [167, 255, 181, 132, 3, 1, 167, 255, 161, 28, 172]
abbrev dktX1_cellsOf_4 : List UInt8 := dkwX1_cellsOf_4 ++ []
def dkwX1_cellsOf_3 : List UInt8 := [167, 0, 18, 21, 5, 21, 5, 4, 100, 126, 153, 0, 7, 4, 167, 0, 4, 3, 96, 61, 132, 4, 1]
abbrev dktX1_cellsOf_3 : List UInt8 := dkwX1_cellsOf_3 ++ dktX1_cellsOf_4
def dkwX1_cellsOf_2 : List UInt8 := [21, 5, 154, 0, 20, 42, 180, 0, 92, 21, 4, 29, 182, 0, 157, 154, 0, 7, 4, 167, 0, 22, 3]
abbrev dktX1_cellsOf_2 : List UInt8 := dkwX1_cellsOf_2 ++ dktX1_cellsOf_3
def dkwX1_cellsOf_1 : List UInt8 := [180, 0, 154, 162, 0, 69, 42, 180, 0, 29, 21, 4, 29, 182, 0, 147, 54, 5, 28, 27, 154, 0, 29]
abbrev dktX1_cellsOf_1 : List UInt8 := dkwX1_cellsOf_1 ++ dktX1_cellsOf_2
def dkwX1_cellsOf_0 : List UInt8 := [3, 61, 3, 62, 29, 42, 180, 0, 92, 180, 0, 151, 162, 0, 90, 3, 54, 4, 21, 4, 42, 180, 0, 92]
abbrev dktX1_cellsOf_0 : List UInt8 := dkwX1_cellsOf_0 ++ dktX1_cellsOf_1
theorem dksX1_cellsOf_0 : cX1_cellsOf.data.toList.drop 0 = dktX1_cellsOf_0 := by decide +kernel
theorem dksX1_cellsOf_1 : cX1_cellsOf.data.toList.drop 24 = dktX1_cellsOf_1 := dk_seg dksX1_cellsOf_0 24 rfl rfl
theorem dksX1_cellsOf_2 : cX1_cellsOf.data.toList.drop 47 = dktX1_cellsOf_2 := dk_seg dksX1_cellsOf_1 23 rfl rfl
theorem dksX1_cellsOf_3 : cX1_cellsOf.data.toList.drop 70 = dktX1_cellsOf_3 := dk_seg dksX1_cellsOf_2 23 rfl rfl
theorem dksX1_cellsOf_4 : cX1_cellsOf.data.toList.drop 93 = dktX1_cellsOf_4 := dk_seg dksX1_cellsOf_3 23 rfl rfl
theorem dX1_cellsOf_0 : decode cX1_cellsOf 0 = .ok (.iconst 0, 1) := dk_3 (dk_at dksX1_cellsOf_0 0 rfl rfl)
theorem dX1_cellsOf_1 : decode cX1_cellsOf 1 = .ok (.istore_n 2, 1) := dk_61 (dk_at dksX1_cellsOf_0 1 rfl rfl)
theorem dX1_cellsOf_2 : decode cX1_cellsOf 2 = .ok (.iconst 0, 1) := dk_3 (dk_at dksX1_cellsOf_0 2 rfl rfl)
theorem dX1_cellsOf_3 : decode cX1_cellsOf 3 = .ok (.istore_n 3, 1) := dk_62 (dk_at dksX1_cellsOf_0 3 rfl rfl)
theorem dX1_cellsOf_4 : decode cX1_cellsOf 4 = .ok (.iload_n 3, 1) := dk_29 (dk_at dksX1_cellsOf_0 4 rfl rfl)
theorem dX1_cellsOf_5 : decode cX1_cellsOf 5 = .ok (.aload_n 0, 1) := dk_42 (dk_at dksX1_cellsOf_0 5 rfl rfl)
theorem dX1_cellsOf_6 : decode cX1_cellsOf 6 = .ok (.getfield 92, 3) := dk_180 0 92 (dk_at dksX1_cellsOf_0 6 rfl rfl)
theorem dX1_cellsOf_9 : decode cX1_cellsOf 9 = .ok (.getfield 151, 3) := dk_180 0 151 (dk_at dksX1_cellsOf_0 9 rfl rfl)
theorem dX1_cellsOf_12 : decode cX1_cellsOf 12 = .ok (.if_icmp .ge 90, 3) := dk_162 0 90 (dk_at dksX1_cellsOf_0 12 rfl rfl)
theorem dX1_cellsOf_15 : decode cX1_cellsOf 15 = .ok (.iconst 0, 1) := dk_3 (dk_at dksX1_cellsOf_0 15 rfl rfl)
theorem dX1_cellsOf_16 : decode cX1_cellsOf 16 = .ok (.istore 4, 2) := dk_54 4 (dk_at dksX1_cellsOf_0 16 rfl rfl)
theorem dX1_cellsOf_18 : decode cX1_cellsOf 18 = .ok (.iload 4, 2) := dk_21 4 (dk_at dksX1_cellsOf_0 18 rfl rfl)
theorem dX1_cellsOf_20 : decode cX1_cellsOf 20 = .ok (.aload_n 0, 1) := dk_42 (dk_at dksX1_cellsOf_0 20 rfl rfl)
theorem dX1_cellsOf_21 : decode cX1_cellsOf 21 = .ok (.getfield 92, 3) := dk_180 0 92 (dk_at dksX1_cellsOf_0 21 rfl rfl)
theorem dX1_cellsOf_24 : decode cX1_cellsOf 24 = .ok (.getfield 154, 3) := dk_180 0 154 (dk_at dksX1_cellsOf_1 0 rfl rfl)
theorem dX1_cellsOf_27 : decode cX1_cellsOf 27 = .ok (.if_icmp .ge 69, 3) := dk_162 0 69 (dk_at dksX1_cellsOf_1 3 rfl rfl)
theorem dX1_cellsOf_30 : decode cX1_cellsOf 30 = .ok (.aload_n 0, 1) := dk_42 (dk_at dksX1_cellsOf_1 6 rfl rfl)
theorem dX1_cellsOf_31 : decode cX1_cellsOf 31 = .ok (.getfield 29, 3) := dk_180 0 29 (dk_at dksX1_cellsOf_1 7 rfl rfl)
theorem dX1_cellsOf_34 : decode cX1_cellsOf 34 = .ok (.iload 4, 2) := dk_21 4 (dk_at dksX1_cellsOf_1 10 rfl rfl)
theorem dX1_cellsOf_36 : decode cX1_cellsOf 36 = .ok (.iload_n 3, 1) := dk_29 (dk_at dksX1_cellsOf_1 12 rfl rfl)
theorem dX1_cellsOf_37 : decode cX1_cellsOf 37 = .ok (.invokevirtual 147, 3) := dk_182 0 147 (dk_at dksX1_cellsOf_1 13 rfl rfl)
theorem dX1_cellsOf_40 : decode cX1_cellsOf 40 = .ok (.istore 5, 2) := dk_54 5 (dk_at dksX1_cellsOf_1 16 rfl rfl)
theorem dX1_cellsOf_42 : decode cX1_cellsOf 42 = .ok (.iload_n 2, 1) := dk_28 (dk_at dksX1_cellsOf_1 18 rfl rfl)
theorem dX1_cellsOf_43 : decode cX1_cellsOf 43 = .ok (.iload_n 1, 1) := dk_27 (dk_at dksX1_cellsOf_1 19 rfl rfl)
theorem dX1_cellsOf_44 : decode cX1_cellsOf 44 = .ok (.ifCond .ne 29, 3) := dk_154 0 29 (dk_at dksX1_cellsOf_1 20 rfl rfl)
theorem dX1_cellsOf_47 : decode cX1_cellsOf 47 = .ok (.iload 5, 2) := dk_21 5 (dk_at dksX1_cellsOf_2 0 rfl rfl)
theorem dX1_cellsOf_49 : decode cX1_cellsOf 49 = .ok (.ifCond .ne 20, 3) := dk_154 0 20 (dk_at dksX1_cellsOf_2 2 rfl rfl)
theorem dX1_cellsOf_52 : decode cX1_cellsOf 52 = .ok (.aload_n 0, 1) := dk_42 (dk_at dksX1_cellsOf_2 5 rfl rfl)
theorem dX1_cellsOf_53 : decode cX1_cellsOf 53 = .ok (.getfield 92, 3) := dk_180 0 92 (dk_at dksX1_cellsOf_2 6 rfl rfl)
theorem dX1_cellsOf_56 : decode cX1_cellsOf 56 = .ok (.iload 4, 2) := dk_21 4 (dk_at dksX1_cellsOf_2 9 rfl rfl)
theorem dX1_cellsOf_58 : decode cX1_cellsOf 58 = .ok (.iload_n 3, 1) := dk_29 (dk_at dksX1_cellsOf_2 11 rfl rfl)
theorem dX1_cellsOf_59 : decode cX1_cellsOf 59 = .ok (.invokevirtual 157, 3) := dk_182 0 157 (dk_at dksX1_cellsOf_2 12 rfl rfl)
theorem dX1_cellsOf_62 : decode cX1_cellsOf 62 = .ok (.ifCond .ne 7, 3) := dk_154 0 7 (dk_at dksX1_cellsOf_2 15 rfl rfl)
theorem dX1_cellsOf_65 : decode cX1_cellsOf 65 = .ok (.iconst 1, 1) := dk_4 (dk_at dksX1_cellsOf_2 18 rfl rfl)
theorem dX1_cellsOf_66 : decode cX1_cellsOf 66 = .ok (.goto 22, 3) := dk_167 0 22 (dk_at dksX1_cellsOf_2 19 rfl rfl)
theorem dX1_cellsOf_69 : decode cX1_cellsOf 69 = .ok (.iconst 0, 1) := dk_3 (dk_at dksX1_cellsOf_2 22 rfl rfl)
theorem dX1_cellsOf_70 : decode cX1_cellsOf 70 = .ok (.goto 18, 3) := dk_167 0 18 (dk_at dksX1_cellsOf_3 0 rfl rfl)
theorem dX1_cellsOf_73 : decode cX1_cellsOf 73 = .ok (.iload 5, 2) := dk_21 5 (dk_at dksX1_cellsOf_3 3 rfl rfl)
theorem dX1_cellsOf_75 : decode cX1_cellsOf 75 = .ok (.iload 5, 2) := dk_21 5 (dk_at dksX1_cellsOf_3 5 rfl rfl)
theorem dX1_cellsOf_77 : decode cX1_cellsOf 77 = .ok (.iconst 1, 1) := dk_4 (dk_at dksX1_cellsOf_3 7 rfl rfl)
theorem dX1_cellsOf_78 : decode cX1_cellsOf 78 = .ok (.isub, 1) := dk_100 (dk_at dksX1_cellsOf_3 8 rfl rfl)
theorem dX1_cellsOf_79 : decode cX1_cellsOf 79 = .ok (.iand, 1) := dk_126 (dk_at dksX1_cellsOf_3 9 rfl rfl)
theorem dX1_cellsOf_80 : decode cX1_cellsOf 80 = .ok (.ifCond .eq 7, 3) := dk_153 0 7 (dk_at dksX1_cellsOf_3 10 rfl rfl)
theorem dX1_cellsOf_83 : decode cX1_cellsOf 83 = .ok (.iconst 1, 1) := dk_4 (dk_at dksX1_cellsOf_3 13 rfl rfl)
theorem dX1_cellsOf_84 : decode cX1_cellsOf 84 = .ok (.goto 4, 3) := dk_167 0 4 (dk_at dksX1_cellsOf_3 14 rfl rfl)
theorem dX1_cellsOf_87 : decode cX1_cellsOf 87 = .ok (.iconst 0, 1) := dk_3 (dk_at dksX1_cellsOf_3 17 rfl rfl)
theorem dX1_cellsOf_88 : decode cX1_cellsOf 88 = .ok (.iadd, 1) := dk_96 (dk_at dksX1_cellsOf_3 18 rfl rfl)
theorem dX1_cellsOf_89 : decode cX1_cellsOf 89 = .ok (.istore_n 2, 1) := dk_61 (dk_at dksX1_cellsOf_3 19 rfl rfl)
theorem dX1_cellsOf_90 : decode cX1_cellsOf 90 = .ok (.iinc 4 1, 3) := dk_132 4 1 (dk_at dksX1_cellsOf_3 20 rfl rfl)
theorem dX1_cellsOf_93 : decode cX1_cellsOf 93 = .ok (.goto (-75), 3) := dk_167 255 181 (dk_at dksX1_cellsOf_4 0 rfl rfl)
theorem dX1_cellsOf_96 : decode cX1_cellsOf 96 = .ok (.iinc 3 1, 3) := dk_132 3 1 (dk_at dksX1_cellsOf_4 3 rfl rfl)
theorem dX1_cellsOf_99 : decode cX1_cellsOf 99 = .ok (.goto (-95), 3) := dk_167 255 161 (dk_at dksX1_cellsOf_4 6 rfl rfl)
theorem dX1_cellsOf_102 : decode cX1_cellsOf 102 = .ok (.iload_n 2, 1) := dk_28 (dk_at dksX1_cellsOf_4 9 rfl rfl)
theorem dX1_cellsOf_103 : decode cX1_cellsOf 103 = .ok (.ireturn, 1) := dk_172 (dk_at dksX1_cellsOf_4 10 rfl rfl)
abbrev cX1_free : ByteArray := prog_1_method_21_code
def yX1_free : MethodName := ⟨RX1, "free", "()I"⟩
def dkwX1_free_1 : List UInt8 := [172]
abbrev dktX1_free_1 : List UInt8 := dkwX1_free_1 ++ []
def dkwX1_free_0 : List UInt8 := [42, 182, 0, 67, 42, 180, 0, 92, 199, 0, 11, 42, 4, 182, 0, 81, 167, 0, 8, 42, 3, 182, 0, 160]
abbrev dktX1_free_0 : List UInt8 := dkwX1_free_0 ++ dktX1_free_1
theorem dksX1_free_0 : cX1_free.data.toList.drop 0 = dktX1_free_0 := by decide +kernel
theorem dksX1_free_1 : cX1_free.data.toList.drop 24 = dktX1_free_1 := dk_seg dksX1_free_0 24 rfl rfl
theorem dX1_free_0 : decode cX1_free 0 = .ok (.aload_n 0, 1) := dk_42 (dk_at dksX1_free_0 0 rfl rfl)
theorem dX1_free_1 : decode cX1_free 1 = .ok (.invokevirtual 67, 3) := dk_182 0 67 (dk_at dksX1_free_0 1 rfl rfl)
theorem dX1_free_4 : decode cX1_free 4 = .ok (.aload_n 0, 1) := dk_42 (dk_at dksX1_free_0 4 rfl rfl)
theorem dX1_free_5 : decode cX1_free 5 = .ok (.getfield 92, 3) := dk_180 0 92 (dk_at dksX1_free_0 5 rfl rfl)
theorem dX1_free_8 : decode cX1_free 8 = .ok (.ifnonnull 11, 3) := dk_199 0 11 (dk_at dksX1_free_0 8 rfl rfl)
theorem dX1_free_11 : decode cX1_free 11 = .ok (.aload_n 0, 1) := dk_42 (dk_at dksX1_free_0 11 rfl rfl)
theorem dX1_free_12 : decode cX1_free 12 = .ok (.iconst 1, 1) := dk_4 (dk_at dksX1_free_0 12 rfl rfl)
theorem dX1_free_13 : decode cX1_free 13 = .ok (.invokevirtual 81, 3) := dk_182 0 81 (dk_at dksX1_free_0 13 rfl rfl)
theorem dX1_free_16 : decode cX1_free 16 = .ok (.goto 8, 3) := dk_167 0 8 (dk_at dksX1_free_0 16 rfl rfl)
theorem dX1_free_19 : decode cX1_free 19 = .ok (.aload_n 0, 1) := dk_42 (dk_at dksX1_free_0 19 rfl rfl)
theorem dX1_free_20 : decode cX1_free 20 = .ok (.iconst 0, 1) := dk_3 (dk_at dksX1_free_0 20 rfl rfl)
theorem dX1_free_21 : decode cX1_free 21 = .ok (.invokevirtual 160, 3) := dk_182 0 160 (dk_at dksX1_free_0 21 rfl rfl)
theorem dX1_free_24 : decode cX1_free 24 = .ok (.ireturn, 1) := dk_172 (dk_at dksX1_free_1 0 rfl rfl)
abbrev cX1_house : ByteArray := prog_1_method_22_code
def yX1_house : MethodName := ⟨RX1, "house", "(II)I"⟩
def dkwX1_house_6 : List UInt8 := [182, 0, 193, 153, 0, 7, 4, 167, 0, 4, 3, 172, 42, 4, 182, 0, 81, 172]
abbrev dktX1_house_6 : List UInt8 := dkwX1_house_6 ++ []
def dkwX1_house_5 : List UInt8 := [180, 0, 185, 172, 42, 180, 0, 29, 27, 182, 0, 190, 153, 0, 7, 4, 167, 0, 4, 3, 172, 45]
abbrev dktX1_house_5 : List UInt8 := dkwX1_house_5 ++ dktX1_house_6
def dkwX1_house_4 : List UInt8 := [45, 180, 0, 126, 172, 45, 180, 0, 175, 172, 45, 180, 0, 178, 172, 45, 180, 0, 163, 180, 0, 181]
abbrev dktX1_house_4 : List UInt8 := dkwX1_house_4 ++ dktX1_house_5
def dkwX1_house_3 : List UInt8 := [42, 180, 0, 92, 180, 0, 154, 45, 180, 0, 163, 180, 0, 167, 104, 45, 180, 0, 163, 180, 0, 172, 96, 172]
abbrev dktX1_house_3 : List UInt8 := dkwX1_house_3 ++ dktX1_house_4
def dkwX1_house_2 : List UInt8 := [170, 0, 0, 0, 0, 0, 0, 124, 0, 0, 0, 0, 0, 0, 0, 6, 0, 0, 0, 44, 0, 0, 0, 68, 0, 0, 0, 73, 0, 0, 0, 78, 0, 0, 0, 83, 0, 0, 0, 94, 0, 0, 0, 111]
abbrev dktX1_house_2 : List UInt8 := dkwX1_house_2 ++ dktX1_house_3
def dkwX1_house_1 : List UInt8 := [182, 0, 122, 78, 28]
abbrev dktX1_house_1 : List UInt8 := dkwX1_house_1 ++ dktX1_house_2
def dkwX1_house_0 : List UInt8 := [42, 182, 0, 67, 42, 27, 182, 0, 118, 154, 0, 9, 42, 4, 182, 0, 81, 172, 42, 180, 0, 29, 27]
abbrev dktX1_house_0 : List UInt8 := dkwX1_house_0 ++ dktX1_house_1
theorem dksX1_house_0 : cX1_house.data.toList.drop 0 = dktX1_house_0 := by decide +kernel
theorem dksX1_house_1 : cX1_house.data.toList.drop 23 = dktX1_house_1 := dk_seg dksX1_house_0 23 rfl rfl
theorem dksX1_house_2 : cX1_house.data.toList.drop 28 = dktX1_house_2 := dk_seg dksX1_house_1 5 rfl rfl
theorem dksX1_house_3 : cX1_house.data.toList.drop 72 = dktX1_house_3 := dk_seg dksX1_house_2 44 rfl rfl
theorem dksX1_house_4 : cX1_house.data.toList.drop 96 = dktX1_house_4 := dk_seg dksX1_house_3 24 rfl rfl
theorem dksX1_house_5 : cX1_house.data.toList.drop 118 = dktX1_house_5 := dk_seg dksX1_house_4 22 rfl rfl
theorem dksX1_house_6 : cX1_house.data.toList.drop 140 = dktX1_house_6 := dk_seg dksX1_house_5 22 rfl rfl
theorem dX1_house_0 : decode cX1_house 0 = .ok (.aload_n 0, 1) := dk_42 (dk_at dksX1_house_0 0 rfl rfl)
theorem dX1_house_1 : decode cX1_house 1 = .ok (.invokevirtual 67, 3) := dk_182 0 67 (dk_at dksX1_house_0 1 rfl rfl)
theorem dX1_house_4 : decode cX1_house 4 = .ok (.aload_n 0, 1) := dk_42 (dk_at dksX1_house_0 4 rfl rfl)
theorem dX1_house_5 : decode cX1_house 5 = .ok (.iload_n 1, 1) := dk_27 (dk_at dksX1_house_0 5 rfl rfl)
theorem dX1_house_6 : decode cX1_house 6 = .ok (.invokevirtual 118, 3) := dk_182 0 118 (dk_at dksX1_house_0 6 rfl rfl)
theorem dX1_house_9 : decode cX1_house 9 = .ok (.ifCond .ne 9, 3) := dk_154 0 9 (dk_at dksX1_house_0 9 rfl rfl)
theorem dX1_house_12 : decode cX1_house 12 = .ok (.aload_n 0, 1) := dk_42 (dk_at dksX1_house_0 12 rfl rfl)
theorem dX1_house_13 : decode cX1_house 13 = .ok (.iconst 1, 1) := dk_4 (dk_at dksX1_house_0 13 rfl rfl)
theorem dX1_house_14 : decode cX1_house 14 = .ok (.invokevirtual 81, 3) := dk_182 0 81 (dk_at dksX1_house_0 14 rfl rfl)
theorem dX1_house_17 : decode cX1_house 17 = .ok (.ireturn, 1) := dk_172 (dk_at dksX1_house_0 17 rfl rfl)
theorem dX1_house_18 : decode cX1_house 18 = .ok (.aload_n 0, 1) := dk_42 (dk_at dksX1_house_0 18 rfl rfl)
theorem dX1_house_19 : decode cX1_house 19 = .ok (.getfield 29, 3) := dk_180 0 29 (dk_at dksX1_house_0 19 rfl rfl)
theorem dX1_house_22 : decode cX1_house 22 = .ok (.iload_n 1, 1) := dk_27 (dk_at dksX1_house_0 22 rfl rfl)
theorem dX1_house_23 : decode cX1_house 23 = .ok (.invokevirtual 122, 3) := dk_182 0 122 (dk_at dksX1_house_1 0 rfl rfl)
theorem dX1_house_26 : decode cX1_house 26 = .ok (.astore_n 3, 1) := dk_78 (dk_at dksX1_house_1 3 rfl rfl)
theorem dX1_house_27 : decode cX1_house 27 = .ok (.iload_n 2, 1) := dk_28 (dk_at dksX1_house_1 4 rfl rfl)
theorem dX1_house_28 : decode cX1_house 28 = .ok (.tableswitch 124 0 6 #[44, 68, 73, 78, 83, 94, 111], 44) := by decide +kernel
theorem dX1_house_72 : decode cX1_house 72 = .ok (.aload_n 0, 1) := dk_42 (dk_at dksX1_house_3 0 rfl rfl)
theorem dX1_house_73 : decode cX1_house 73 = .ok (.getfield 92, 3) := dk_180 0 92 (dk_at dksX1_house_3 1 rfl rfl)
theorem dX1_house_76 : decode cX1_house 76 = .ok (.getfield 154, 3) := dk_180 0 154 (dk_at dksX1_house_3 4 rfl rfl)
theorem dX1_house_79 : decode cX1_house 79 = .ok (.aload_n 3, 1) := dk_45 (dk_at dksX1_house_3 7 rfl rfl)
theorem dX1_house_80 : decode cX1_house 80 = .ok (.getfield 163, 3) := dk_180 0 163 (dk_at dksX1_house_3 8 rfl rfl)
theorem dX1_house_83 : decode cX1_house 83 = .ok (.getfield 167, 3) := dk_180 0 167 (dk_at dksX1_house_3 11 rfl rfl)
theorem dX1_house_86 : decode cX1_house 86 = .ok (.imul, 1) := dk_104 (dk_at dksX1_house_3 14 rfl rfl)
theorem dX1_house_87 : decode cX1_house 87 = .ok (.aload_n 3, 1) := dk_45 (dk_at dksX1_house_3 15 rfl rfl)
theorem dX1_house_88 : decode cX1_house 88 = .ok (.getfield 163, 3) := dk_180 0 163 (dk_at dksX1_house_3 16 rfl rfl)
theorem dX1_house_91 : decode cX1_house 91 = .ok (.getfield 172, 3) := dk_180 0 172 (dk_at dksX1_house_3 19 rfl rfl)
theorem dX1_house_94 : decode cX1_house 94 = .ok (.iadd, 1) := dk_96 (dk_at dksX1_house_3 22 rfl rfl)
theorem dX1_house_95 : decode cX1_house 95 = .ok (.ireturn, 1) := dk_172 (dk_at dksX1_house_3 23 rfl rfl)
theorem dX1_house_96 : decode cX1_house 96 = .ok (.aload_n 3, 1) := dk_45 (dk_at dksX1_house_4 0 rfl rfl)
theorem dX1_house_97 : decode cX1_house 97 = .ok (.getfield 126, 3) := dk_180 0 126 (dk_at dksX1_house_4 1 rfl rfl)
theorem dX1_house_100 : decode cX1_house 100 = .ok (.ireturn, 1) := dk_172 (dk_at dksX1_house_4 4 rfl rfl)
theorem dX1_house_101 : decode cX1_house 101 = .ok (.aload_n 3, 1) := dk_45 (dk_at dksX1_house_4 5 rfl rfl)
theorem dX1_house_102 : decode cX1_house 102 = .ok (.getfield 175, 3) := dk_180 0 175 (dk_at dksX1_house_4 6 rfl rfl)
theorem dX1_house_105 : decode cX1_house 105 = .ok (.ireturn, 1) := dk_172 (dk_at dksX1_house_4 9 rfl rfl)
theorem dX1_house_106 : decode cX1_house 106 = .ok (.aload_n 3, 1) := dk_45 (dk_at dksX1_house_4 10 rfl rfl)
theorem dX1_house_107 : decode cX1_house 107 = .ok (.getfield 178, 3) := dk_180 0 178 (dk_at dksX1_house_4 11 rfl rfl)
theorem dX1_house_110 : decode cX1_house 110 = .ok (.ireturn, 1) := dk_172 (dk_at dksX1_house_4 14 rfl rfl)
theorem dX1_house_111 : decode cX1_house 111 = .ok (.aload_n 3, 1) := dk_45 (dk_at dksX1_house_4 15 rfl rfl)
theorem dX1_house_112 : decode cX1_house 112 = .ok (.getfield 163, 3) := dk_180 0 163 (dk_at dksX1_house_4 16 rfl rfl)
theorem dX1_house_115 : decode cX1_house 115 = .ok (.getfield 181, 3) := dk_180 0 181 (dk_at dksX1_house_4 19 rfl rfl)
theorem dX1_house_118 : decode cX1_house 118 = .ok (.getfield 185, 3) := dk_180 0 185 (dk_at dksX1_house_5 0 rfl rfl)
theorem dX1_house_121 : decode cX1_house 121 = .ok (.ireturn, 1) := dk_172 (dk_at dksX1_house_5 3 rfl rfl)
theorem dX1_house_122 : decode cX1_house 122 = .ok (.aload_n 0, 1) := dk_42 (dk_at dksX1_house_5 4 rfl rfl)
theorem dX1_house_123 : decode cX1_house 123 = .ok (.getfield 29, 3) := dk_180 0 29 (dk_at dksX1_house_5 5 rfl rfl)
theorem dX1_house_126 : decode cX1_house 126 = .ok (.iload_n 1, 1) := dk_27 (dk_at dksX1_house_5 8 rfl rfl)
theorem dX1_house_127 : decode cX1_house 127 = .ok (.invokevirtual 190, 3) := dk_182 0 190 (dk_at dksX1_house_5 9 rfl rfl)
theorem dX1_house_130 : decode cX1_house 130 = .ok (.ifCond .eq 7, 3) := dk_153 0 7 (dk_at dksX1_house_5 12 rfl rfl)
theorem dX1_house_133 : decode cX1_house 133 = .ok (.iconst 1, 1) := dk_4 (dk_at dksX1_house_5 15 rfl rfl)
theorem dX1_house_134 : decode cX1_house 134 = .ok (.goto 4, 3) := dk_167 0 4 (dk_at dksX1_house_5 16 rfl rfl)
theorem dX1_house_137 : decode cX1_house 137 = .ok (.iconst 0, 1) := dk_3 (dk_at dksX1_house_5 19 rfl rfl)
theorem dX1_house_138 : decode cX1_house 138 = .ok (.ireturn, 1) := dk_172 (dk_at dksX1_house_5 20 rfl rfl)
theorem dX1_house_139 : decode cX1_house 139 = .ok (.aload_n 3, 1) := dk_45 (dk_at dksX1_house_5 21 rfl rfl)
theorem dX1_house_140 : decode cX1_house 140 = .ok (.invokevirtual 193, 3) := dk_182 0 193 (dk_at dksX1_house_6 0 rfl rfl)
theorem dX1_house_143 : decode cX1_house 143 = .ok (.ifCond .eq 7, 3) := dk_153 0 7 (dk_at dksX1_house_6 3 rfl rfl)
theorem dX1_house_146 : decode cX1_house 146 = .ok (.iconst 1, 1) := dk_4 (dk_at dksX1_house_6 6 rfl rfl)
theorem dX1_house_147 : decode cX1_house 147 = .ok (.goto 4, 3) := dk_167 0 4 (dk_at dksX1_house_6 7 rfl rfl)
theorem dX1_house_150 : decode cX1_house 150 = .ok (.iconst 0, 1) := dk_3 (dk_at dksX1_house_6 10 rfl rfl)
theorem dX1_house_151 : decode cX1_house 151 = .ok (.ireturn, 1) := dk_172 (dk_at dksX1_house_6 11 rfl rfl)
theorem dX1_house_152 : decode cX1_house 152 = .ok (.aload_n 0, 1) := dk_42 (dk_at dksX1_house_6 12 rfl rfl)
theorem dX1_house_153 : decode cX1_house 153 = .ok (.iconst 1, 1) := dk_4 (dk_at dksX1_house_6 13 rfl rfl)
theorem dX1_house_154 : decode cX1_house 154 = .ok (.invokevirtual 81, 3) := dk_182 0 81 (dk_at dksX1_house_6 14 rfl rfl)
theorem dX1_house_157 : decode cX1_house 157 = .ok (.ireturn, 1) := dk_172 (dk_at dksX1_house_6 17 rfl rfl)
abbrev cX1_isHouse : ByteArray := prog_1_method_12_code
def yX1_isHouse : MethodName := ⟨RX1, "isHouse", "(I)Z"⟩
def dkwX1_isHouse_1 : List UInt8 := [4, 167, 0, 4, 3, 172]
abbrev dktX1_isHouse_1 : List UInt8 := dkwX1_isHouse_1 ++ []
def dkwX1_isHouse_0 : List UInt8 := [42, 180, 0, 92, 198, 0, 24, 27, 3, 42, 180, 0, 29, 180, 0, 115, 4, 100, 184, 0, 77, 153, 0, 7]
abbrev dktX1_isHouse_0 : List UInt8 := dkwX1_isHouse_0 ++ dktX1_isHouse_1
theorem dksX1_isHouse_0 : cX1_isHouse.data.toList.drop 0 = dktX1_isHouse_0 := by decide +kernel
theorem dksX1_isHouse_1 : cX1_isHouse.data.toList.drop 24 = dktX1_isHouse_1 := dk_seg dksX1_isHouse_0 24 rfl rfl
theorem dX1_isHouse_0 : decode cX1_isHouse 0 = .ok (.aload_n 0, 1) := dk_42 (dk_at dksX1_isHouse_0 0 rfl rfl)
theorem dX1_isHouse_1 : decode cX1_isHouse 1 = .ok (.getfield 92, 3) := dk_180 0 92 (dk_at dksX1_isHouse_0 1 rfl rfl)
theorem dX1_isHouse_4 : decode cX1_isHouse 4 = .ok (.ifnull 24, 3) := dk_198 0 24 (dk_at dksX1_isHouse_0 4 rfl rfl)
theorem dX1_isHouse_7 : decode cX1_isHouse 7 = .ok (.iload_n 1, 1) := dk_27 (dk_at dksX1_isHouse_0 7 rfl rfl)
theorem dX1_isHouse_8 : decode cX1_isHouse 8 = .ok (.iconst 0, 1) := dk_3 (dk_at dksX1_isHouse_0 8 rfl rfl)
theorem dX1_isHouse_9 : decode cX1_isHouse 9 = .ok (.aload_n 0, 1) := dk_42 (dk_at dksX1_isHouse_0 9 rfl rfl)
theorem dX1_isHouse_10 : decode cX1_isHouse 10 = .ok (.getfield 29, 3) := dk_180 0 29 (dk_at dksX1_isHouse_0 10 rfl rfl)
theorem dX1_isHouse_13 : decode cX1_isHouse 13 = .ok (.getfield 115, 3) := dk_180 0 115 (dk_at dksX1_isHouse_0 13 rfl rfl)
theorem dX1_isHouse_16 : decode cX1_isHouse 16 = .ok (.iconst 1, 1) := dk_4 (dk_at dksX1_isHouse_0 16 rfl rfl)
theorem dX1_isHouse_17 : decode cX1_isHouse 17 = .ok (.isub, 1) := dk_100 (dk_at dksX1_isHouse_0 17 rfl rfl)
theorem dX1_isHouse_18 : decode cX1_isHouse 18 = .ok (.invokestatic 77, 3) := dk_184 0 77 (dk_at dksX1_isHouse_0 18 rfl rfl)
theorem dX1_isHouse_21 : decode cX1_isHouse 21 = .ok (.ifCond .eq 7, 3) := dk_153 0 7 (dk_at dksX1_isHouse_0 21 rfl rfl)
theorem dX1_isHouse_24 : decode cX1_isHouse 24 = .ok (.iconst 1, 1) := dk_4 (dk_at dksX1_isHouse_1 0 rfl rfl)
theorem dX1_isHouse_25 : decode cX1_isHouse 25 = .ok (.goto 4, 3) := dk_167 0 4 (dk_at dksX1_isHouse_1 1 rfl rfl)
theorem dX1_isHouse_28 : decode cX1_isHouse 28 = .ok (.iconst 0, 1) := dk_3 (dk_at dksX1_isHouse_1 4 rfl rfl)
theorem dX1_isHouse_29 : decode cX1_isHouse 29 = .ok (.ireturn, 1) := dk_172 (dk_at dksX1_isHouse_1 5 rfl rfl)
abbrev cX1_skin : ByteArray := prog_1_method_23_code
def yX1_skin : MethodName := ⟨RX1, "skin", "(III)I"⟩
def dkwX1_skin_6 : List UInt8 := [182, 0, 81, 172]
abbrev dktX1_skin_6 : List UInt8 := dkwX1_skin_6 ++ []
def dkwX1_skin_5 : List UInt8 := [25, 4, 180, 0, 223, 153, 0, 7, 4, 167, 0, 4, 3, 172, 25, 4, 180, 0, 226, 172, 42, 4]
abbrev dktX1_skin_5 : List UInt8 := dkwX1_skin_5 ++ dktX1_skin_6
def dkwX1_skin_4 : List UInt8 := [180, 0, 213, 172, 25, 4, 180, 0, 216, 172, 25, 4, 180, 0, 219, 153, 0, 7, 4, 167, 0, 4, 3, 172]
abbrev dktX1_skin_4 : List UInt8 := dkwX1_skin_4 ++ dktX1_skin_5
def dkwX1_skin_3 : List UInt8 := [25, 4, 180, 0, 204, 180, 0, 185, 172, 25, 4, 180, 0, 207, 172, 25, 4, 180, 0, 210, 172, 25, 4]
abbrev dktX1_skin_3 : List UInt8 := dkwX1_skin_3 ++ dktX1_skin_4
def dkwX1_skin_2 : List UInt8 := [170, 0, 0, 0, 0, 113, 0, 0, 0, 0, 0, 0, 0, 7, 0, 0, 0, 46, 0, 0, 0, 55, 0, 0, 0, 61, 0, 0, 0, 67, 0, 0, 0, 73, 0, 0, 0, 79, 0, 0, 0, 93, 0, 0, 0, 107]
abbrev dktX1_skin_2 : List UInt8 := dkwX1_skin_2 ++ dktX1_skin_3
def dkwX1_skin_1 : List UInt8 := [182, 0, 122, 28, 182, 0, 200, 58, 4, 29]
abbrev dktX1_skin_1 : List UInt8 := dkwX1_skin_1 ++ dktX1_skin_2
def dkwX1_skin_0 : List UInt8 := [42, 182, 0, 67, 42, 27, 28, 182, 0, 197, 154, 0, 9, 42, 4, 182, 0, 81, 172, 42, 180, 0, 29, 27]
abbrev dktX1_skin_0 : List UInt8 := dkwX1_skin_0 ++ dktX1_skin_1
theorem dksX1_skin_0 : cX1_skin.data.toList.drop 0 = dktX1_skin_0 := by decide +kernel
theorem dksX1_skin_1 : cX1_skin.data.toList.drop 24 = dktX1_skin_1 := dk_seg dksX1_skin_0 24 rfl rfl
theorem dksX1_skin_2 : cX1_skin.data.toList.drop 34 = dktX1_skin_2 := dk_seg dksX1_skin_1 10 rfl rfl
theorem dksX1_skin_3 : cX1_skin.data.toList.drop 80 = dktX1_skin_3 := dk_seg dksX1_skin_2 46 rfl rfl
theorem dksX1_skin_4 : cX1_skin.data.toList.drop 103 = dktX1_skin_4 := dk_seg dksX1_skin_3 23 rfl rfl
theorem dksX1_skin_5 : cX1_skin.data.toList.drop 127 = dktX1_skin_5 := dk_seg dksX1_skin_4 24 rfl rfl
theorem dksX1_skin_6 : cX1_skin.data.toList.drop 149 = dktX1_skin_6 := dk_seg dksX1_skin_5 22 rfl rfl
theorem dX1_skin_0 : decode cX1_skin 0 = .ok (.aload_n 0, 1) := dk_42 (dk_at dksX1_skin_0 0 rfl rfl)
theorem dX1_skin_1 : decode cX1_skin 1 = .ok (.invokevirtual 67, 3) := dk_182 0 67 (dk_at dksX1_skin_0 1 rfl rfl)
theorem dX1_skin_4 : decode cX1_skin 4 = .ok (.aload_n 0, 1) := dk_42 (dk_at dksX1_skin_0 4 rfl rfl)
theorem dX1_skin_5 : decode cX1_skin 5 = .ok (.iload_n 1, 1) := dk_27 (dk_at dksX1_skin_0 5 rfl rfl)
theorem dX1_skin_6 : decode cX1_skin 6 = .ok (.iload_n 2, 1) := dk_28 (dk_at dksX1_skin_0 6 rfl rfl)
theorem dX1_skin_7 : decode cX1_skin 7 = .ok (.invokevirtual 197, 3) := dk_182 0 197 (dk_at dksX1_skin_0 7 rfl rfl)
theorem dX1_skin_10 : decode cX1_skin 10 = .ok (.ifCond .ne 9, 3) := dk_154 0 9 (dk_at dksX1_skin_0 10 rfl rfl)
theorem dX1_skin_13 : decode cX1_skin 13 = .ok (.aload_n 0, 1) := dk_42 (dk_at dksX1_skin_0 13 rfl rfl)
theorem dX1_skin_14 : decode cX1_skin 14 = .ok (.iconst 1, 1) := dk_4 (dk_at dksX1_skin_0 14 rfl rfl)
theorem dX1_skin_15 : decode cX1_skin 15 = .ok (.invokevirtual 81, 3) := dk_182 0 81 (dk_at dksX1_skin_0 15 rfl rfl)
theorem dX1_skin_18 : decode cX1_skin 18 = .ok (.ireturn, 1) := dk_172 (dk_at dksX1_skin_0 18 rfl rfl)
theorem dX1_skin_19 : decode cX1_skin 19 = .ok (.aload_n 0, 1) := dk_42 (dk_at dksX1_skin_0 19 rfl rfl)
theorem dX1_skin_20 : decode cX1_skin 20 = .ok (.getfield 29, 3) := dk_180 0 29 (dk_at dksX1_skin_0 20 rfl rfl)
theorem dX1_skin_23 : decode cX1_skin 23 = .ok (.iload_n 1, 1) := dk_27 (dk_at dksX1_skin_0 23 rfl rfl)
theorem dX1_skin_24 : decode cX1_skin 24 = .ok (.invokevirtual 122, 3) := dk_182 0 122 (dk_at dksX1_skin_1 0 rfl rfl)
theorem dX1_skin_27 : decode cX1_skin 27 = .ok (.iload_n 2, 1) := dk_28 (dk_at dksX1_skin_1 3 rfl rfl)
theorem dX1_skin_28 : decode cX1_skin 28 = .ok (.invokevirtual 200, 3) := dk_182 0 200 (dk_at dksX1_skin_1 4 rfl rfl)
theorem dX1_skin_31 : decode cX1_skin 31 = .ok (.astore 4, 2) := dk_58 4 (dk_at dksX1_skin_1 7 rfl rfl)
theorem dX1_skin_33 : decode cX1_skin 33 = .ok (.iload_n 3, 1) := dk_29 (dk_at dksX1_skin_1 9 rfl rfl)
theorem dX1_skin_34 : decode cX1_skin 34 = .ok (.tableswitch 113 0 7 #[46, 55, 61, 67, 73, 79, 93, 107], 46) := by decide +kernel
theorem dX1_skin_80 : decode cX1_skin 80 = .ok (.aload 4, 2) := dk_25 4 (dk_at dksX1_skin_3 0 rfl rfl)
theorem dX1_skin_82 : decode cX1_skin 82 = .ok (.getfield 204, 3) := dk_180 0 204 (dk_at dksX1_skin_3 2 rfl rfl)
theorem dX1_skin_85 : decode cX1_skin 85 = .ok (.getfield 185, 3) := dk_180 0 185 (dk_at dksX1_skin_3 5 rfl rfl)
theorem dX1_skin_88 : decode cX1_skin 88 = .ok (.ireturn, 1) := dk_172 (dk_at dksX1_skin_3 8 rfl rfl)
theorem dX1_skin_89 : decode cX1_skin 89 = .ok (.aload 4, 2) := dk_25 4 (dk_at dksX1_skin_3 9 rfl rfl)
theorem dX1_skin_91 : decode cX1_skin 91 = .ok (.getfield 207, 3) := dk_180 0 207 (dk_at dksX1_skin_3 11 rfl rfl)
theorem dX1_skin_94 : decode cX1_skin 94 = .ok (.ireturn, 1) := dk_172 (dk_at dksX1_skin_3 14 rfl rfl)
theorem dX1_skin_95 : decode cX1_skin 95 = .ok (.aload 4, 2) := dk_25 4 (dk_at dksX1_skin_3 15 rfl rfl)
theorem dX1_skin_97 : decode cX1_skin 97 = .ok (.getfield 210, 3) := dk_180 0 210 (dk_at dksX1_skin_3 17 rfl rfl)
theorem dX1_skin_100 : decode cX1_skin 100 = .ok (.ireturn, 1) := dk_172 (dk_at dksX1_skin_3 20 rfl rfl)
theorem dX1_skin_101 : decode cX1_skin 101 = .ok (.aload 4, 2) := dk_25 4 (dk_at dksX1_skin_3 21 rfl rfl)
theorem dX1_skin_103 : decode cX1_skin 103 = .ok (.getfield 213, 3) := dk_180 0 213 (dk_at dksX1_skin_4 0 rfl rfl)
theorem dX1_skin_106 : decode cX1_skin 106 = .ok (.ireturn, 1) := dk_172 (dk_at dksX1_skin_4 3 rfl rfl)
theorem dX1_skin_107 : decode cX1_skin 107 = .ok (.aload 4, 2) := dk_25 4 (dk_at dksX1_skin_4 4 rfl rfl)
theorem dX1_skin_109 : decode cX1_skin 109 = .ok (.getfield 216, 3) := dk_180 0 216 (dk_at dksX1_skin_4 6 rfl rfl)
theorem dX1_skin_112 : decode cX1_skin 112 = .ok (.ireturn, 1) := dk_172 (dk_at dksX1_skin_4 9 rfl rfl)
theorem dX1_skin_113 : decode cX1_skin 113 = .ok (.aload 4, 2) := dk_25 4 (dk_at dksX1_skin_4 10 rfl rfl)
theorem dX1_skin_115 : decode cX1_skin 115 = .ok (.getfield 219, 3) := dk_180 0 219 (dk_at dksX1_skin_4 12 rfl rfl)
theorem dX1_skin_118 : decode cX1_skin 118 = .ok (.ifCond .eq 7, 3) := dk_153 0 7 (dk_at dksX1_skin_4 15 rfl rfl)
theorem dX1_skin_121 : decode cX1_skin 121 = .ok (.iconst 1, 1) := dk_4 (dk_at dksX1_skin_4 18 rfl rfl)
theorem dX1_skin_122 : decode cX1_skin 122 = .ok (.goto 4, 3) := dk_167 0 4 (dk_at dksX1_skin_4 19 rfl rfl)
theorem dX1_skin_125 : decode cX1_skin 125 = .ok (.iconst 0, 1) := dk_3 (dk_at dksX1_skin_4 22 rfl rfl)
theorem dX1_skin_126 : decode cX1_skin 126 = .ok (.ireturn, 1) := dk_172 (dk_at dksX1_skin_4 23 rfl rfl)
theorem dX1_skin_127 : decode cX1_skin 127 = .ok (.aload 4, 2) := dk_25 4 (dk_at dksX1_skin_5 0 rfl rfl)
theorem dX1_skin_129 : decode cX1_skin 129 = .ok (.getfield 223, 3) := dk_180 0 223 (dk_at dksX1_skin_5 2 rfl rfl)
theorem dX1_skin_132 : decode cX1_skin 132 = .ok (.ifCond .eq 7, 3) := dk_153 0 7 (dk_at dksX1_skin_5 5 rfl rfl)
theorem dX1_skin_135 : decode cX1_skin 135 = .ok (.iconst 1, 1) := dk_4 (dk_at dksX1_skin_5 8 rfl rfl)
theorem dX1_skin_136 : decode cX1_skin 136 = .ok (.goto 4, 3) := dk_167 0 4 (dk_at dksX1_skin_5 9 rfl rfl)
theorem dX1_skin_139 : decode cX1_skin 139 = .ok (.iconst 0, 1) := dk_3 (dk_at dksX1_skin_5 12 rfl rfl)
theorem dX1_skin_140 : decode cX1_skin 140 = .ok (.ireturn, 1) := dk_172 (dk_at dksX1_skin_5 13 rfl rfl)
theorem dX1_skin_141 : decode cX1_skin 141 = .ok (.aload 4, 2) := dk_25 4 (dk_at dksX1_skin_5 14 rfl rfl)
theorem dX1_skin_143 : decode cX1_skin 143 = .ok (.getfield 226, 3) := dk_180 0 226 (dk_at dksX1_skin_5 16 rfl rfl)
theorem dX1_skin_146 : decode cX1_skin 146 = .ok (.ireturn, 1) := dk_172 (dk_at dksX1_skin_5 19 rfl rfl)
theorem dX1_skin_147 : decode cX1_skin 147 = .ok (.aload_n 0, 1) := dk_42 (dk_at dksX1_skin_5 20 rfl rfl)
theorem dX1_skin_148 : decode cX1_skin 148 = .ok (.iconst 1, 1) := dk_4 (dk_at dksX1_skin_5 21 rfl rfl)
theorem dX1_skin_149 : decode cX1_skin 149 = .ok (.invokevirtual 81, 3) := dk_182 0 81 (dk_at dksX1_skin_6 0 rfl rfl)
theorem dX1_skin_152 : decode cX1_skin 152 = .ok (.ireturn, 1) := dk_172 (dk_at dksX1_skin_6 3 rfl rfl)
abbrev cX1_isSkin : ByteArray := prog_1_method_14_code
def yX1_isSkin : MethodName := ⟨RX1, "isSkin", "(II)Z"⟩
def dkwX1_isSkin_0 : List UInt8 := [42, 27, 28, 182, 0, 129, 153, 0, 11, 28, 158, 0, 7, 4, 167, 0, 4, 3, 172]
abbrev dktX1_isSkin_0 : List UInt8 := dkwX1_isSkin_0 ++ []
theorem dksX1_isSkin_0 : cX1_isSkin.data.toList.drop 0 = dktX1_isSkin_0 := by decide +kernel
theorem dX1_isSkin_0 : decode cX1_isSkin 0 = .ok (.aload_n 0, 1) := dk_42 (dk_at dksX1_isSkin_0 0 rfl rfl)
theorem dX1_isSkin_1 : decode cX1_isSkin 1 = .ok (.iload_n 1, 1) := dk_27 (dk_at dksX1_isSkin_0 1 rfl rfl)
theorem dX1_isSkin_2 : decode cX1_isSkin 2 = .ok (.iload_n 2, 1) := dk_28 (dk_at dksX1_isSkin_0 2 rfl rfl)
theorem dX1_isSkin_3 : decode cX1_isSkin 3 = .ok (.invokevirtual 129, 3) := dk_182 0 129 (dk_at dksX1_isSkin_0 3 rfl rfl)
theorem dX1_isSkin_6 : decode cX1_isSkin 6 = .ok (.ifCond .eq 11, 3) := dk_153 0 11 (dk_at dksX1_isSkin_0 6 rfl rfl)
theorem dX1_isSkin_9 : decode cX1_isSkin 9 = .ok (.iload_n 2, 1) := dk_28 (dk_at dksX1_isSkin_0 9 rfl rfl)
theorem dX1_isSkin_10 : decode cX1_isSkin 10 = .ok (.ifCond .le 7, 3) := dk_158 0 7 (dk_at dksX1_isSkin_0 10 rfl rfl)
theorem dX1_isSkin_13 : decode cX1_isSkin 13 = .ok (.iconst 1, 1) := dk_4 (dk_at dksX1_isSkin_0 13 rfl rfl)
theorem dX1_isSkin_14 : decode cX1_isSkin 14 = .ok (.goto 4, 3) := dk_167 0 4 (dk_at dksX1_isSkin_0 14 rfl rfl)
theorem dX1_isSkin_17 : decode cX1_isSkin 17 = .ok (.iconst 0, 1) := dk_3 (dk_at dksX1_isSkin_0 17 rfl rfl)
theorem dX1_isSkin_18 : decode cX1_isSkin 18 = .ok (.ireturn, 1) := dk_172 (dk_at dksX1_isSkin_0 18 rfl rfl)
abbrev cX1_isDepth : ByteArray := prog_1_method_13_code
def yX1_isDepth : MethodName := ⟨RX1, "isDepth", "(II)Z"⟩
def dkwX1_isDepth_1 : List UInt8 := [153, 0, 7, 4, 167, 0, 4, 3, 172]
abbrev dktX1_isDepth_1 : List UInt8 := dkwX1_isDepth_1 ++ []
def dkwX1_isDepth_0 : List UInt8 := [42, 27, 182, 0, 118, 153, 0, 26, 28, 3, 42, 180, 0, 29, 27, 182, 0, 122, 180, 0, 126, 184, 0, 77]
abbrev dktX1_isDepth_0 : List UInt8 := dkwX1_isDepth_0 ++ dktX1_isDepth_1
theorem dksX1_isDepth_0 : cX1_isDepth.data.toList.drop 0 = dktX1_isDepth_0 := by decide +kernel
theorem dksX1_isDepth_1 : cX1_isDepth.data.toList.drop 24 = dktX1_isDepth_1 := dk_seg dksX1_isDepth_0 24 rfl rfl
theorem dX1_isDepth_0 : decode cX1_isDepth 0 = .ok (.aload_n 0, 1) := dk_42 (dk_at dksX1_isDepth_0 0 rfl rfl)
theorem dX1_isDepth_1 : decode cX1_isDepth 1 = .ok (.iload_n 1, 1) := dk_27 (dk_at dksX1_isDepth_0 1 rfl rfl)
theorem dX1_isDepth_2 : decode cX1_isDepth 2 = .ok (.invokevirtual 118, 3) := dk_182 0 118 (dk_at dksX1_isDepth_0 2 rfl rfl)
theorem dX1_isDepth_5 : decode cX1_isDepth 5 = .ok (.ifCond .eq 26, 3) := dk_153 0 26 (dk_at dksX1_isDepth_0 5 rfl rfl)
theorem dX1_isDepth_8 : decode cX1_isDepth 8 = .ok (.iload_n 2, 1) := dk_28 (dk_at dksX1_isDepth_0 8 rfl rfl)
theorem dX1_isDepth_9 : decode cX1_isDepth 9 = .ok (.iconst 0, 1) := dk_3 (dk_at dksX1_isDepth_0 9 rfl rfl)
theorem dX1_isDepth_10 : decode cX1_isDepth 10 = .ok (.aload_n 0, 1) := dk_42 (dk_at dksX1_isDepth_0 10 rfl rfl)
theorem dX1_isDepth_11 : decode cX1_isDepth 11 = .ok (.getfield 29, 3) := dk_180 0 29 (dk_at dksX1_isDepth_0 11 rfl rfl)
theorem dX1_isDepth_14 : decode cX1_isDepth 14 = .ok (.iload_n 1, 1) := dk_27 (dk_at dksX1_isDepth_0 14 rfl rfl)
theorem dX1_isDepth_15 : decode cX1_isDepth 15 = .ok (.invokevirtual 122, 3) := dk_182 0 122 (dk_at dksX1_isDepth_0 15 rfl rfl)
theorem dX1_isDepth_18 : decode cX1_isDepth 18 = .ok (.getfield 126, 3) := dk_180 0 126 (dk_at dksX1_isDepth_0 18 rfl rfl)
theorem dX1_isDepth_21 : decode cX1_isDepth 21 = .ok (.invokestatic 77, 3) := dk_184 0 77 (dk_at dksX1_isDepth_0 21 rfl rfl)
theorem dX1_isDepth_24 : decode cX1_isDepth 24 = .ok (.ifCond .eq 7, 3) := dk_153 0 7 (dk_at dksX1_isDepth_1 0 rfl rfl)
theorem dX1_isDepth_27 : decode cX1_isDepth 27 = .ok (.iconst 1, 1) := dk_4 (dk_at dksX1_isDepth_1 3 rfl rfl)
theorem dX1_isDepth_28 : decode cX1_isDepth 28 = .ok (.goto 4, 3) := dk_167 0 4 (dk_at dksX1_isDepth_1 4 rfl rfl)
theorem dX1_isDepth_31 : decode cX1_isDepth 31 = .ok (.iconst 0, 1) := dk_3 (dk_at dksX1_isDepth_1 7 rfl rfl)
theorem dX1_isDepth_32 : decode cX1_isDepth 32 = .ok (.ireturn, 1) := dk_172 (dk_at dksX1_isDepth_1 8 rfl rfl)
abbrev cX1_warm : ByteArray := prog_1_method_24_code
def yX1_warm : MethodName := ⟨RX1, "warm", "(II)I"⟩
def dkwX1_warm_1 : List UInt8 := [182, 0, 229, 167, 0, 8, 42, 4, 182, 0, 81, 172]
abbrev dktX1_warm_1 : List UInt8 := dkwX1_warm_1 ++ []
def dkwX1_warm_0 : List UInt8 := [42, 182, 0, 67, 42, 27, 28, 182, 0, 129, 153, 0, 18, 42, 180, 0, 29, 27, 182, 0, 122, 28]
abbrev dktX1_warm_0 : List UInt8 := dkwX1_warm_0 ++ dktX1_warm_1
theorem dksX1_warm_0 : cX1_warm.data.toList.drop 0 = dktX1_warm_0 := by decide +kernel
theorem dksX1_warm_1 : cX1_warm.data.toList.drop 22 = dktX1_warm_1 := dk_seg dksX1_warm_0 22 rfl rfl
theorem dX1_warm_0 : decode cX1_warm 0 = .ok (.aload_n 0, 1) := dk_42 (dk_at dksX1_warm_0 0 rfl rfl)
theorem dX1_warm_1 : decode cX1_warm 1 = .ok (.invokevirtual 67, 3) := dk_182 0 67 (dk_at dksX1_warm_0 1 rfl rfl)
theorem dX1_warm_4 : decode cX1_warm 4 = .ok (.aload_n 0, 1) := dk_42 (dk_at dksX1_warm_0 4 rfl rfl)
theorem dX1_warm_5 : decode cX1_warm 5 = .ok (.iload_n 1, 1) := dk_27 (dk_at dksX1_warm_0 5 rfl rfl)
theorem dX1_warm_6 : decode cX1_warm 6 = .ok (.iload_n 2, 1) := dk_28 (dk_at dksX1_warm_0 6 rfl rfl)
theorem dX1_warm_7 : decode cX1_warm 7 = .ok (.invokevirtual 129, 3) := dk_182 0 129 (dk_at dksX1_warm_0 7 rfl rfl)
theorem dX1_warm_10 : decode cX1_warm 10 = .ok (.ifCond .eq 18, 3) := dk_153 0 18 (dk_at dksX1_warm_0 10 rfl rfl)
theorem dX1_warm_13 : decode cX1_warm 13 = .ok (.aload_n 0, 1) := dk_42 (dk_at dksX1_warm_0 13 rfl rfl)
theorem dX1_warm_14 : decode cX1_warm 14 = .ok (.getfield 29, 3) := dk_180 0 29 (dk_at dksX1_warm_0 14 rfl rfl)
theorem dX1_warm_17 : decode cX1_warm 17 = .ok (.iload_n 1, 1) := dk_27 (dk_at dksX1_warm_0 17 rfl rfl)
theorem dX1_warm_18 : decode cX1_warm 18 = .ok (.invokevirtual 122, 3) := dk_182 0 122 (dk_at dksX1_warm_0 18 rfl rfl)
theorem dX1_warm_21 : decode cX1_warm 21 = .ok (.iload_n 2, 1) := dk_28 (dk_at dksX1_warm_0 21 rfl rfl)
theorem dX1_warm_22 : decode cX1_warm 22 = .ok (.invokevirtual 229, 3) := dk_182 0 229 (dk_at dksX1_warm_1 0 rfl rfl)
theorem dX1_warm_25 : decode cX1_warm 25 = .ok (.goto 8, 3) := dk_167 0 8 (dk_at dksX1_warm_1 3 rfl rfl)
theorem dX1_warm_28 : decode cX1_warm 28 = .ok (.aload_n 0, 1) := dk_42 (dk_at dksX1_warm_1 6 rfl rfl)
theorem dX1_warm_29 : decode cX1_warm 29 = .ok (.iconst 1, 1) := dk_4 (dk_at dksX1_warm_1 7 rfl rfl)
theorem dX1_warm_30 : decode cX1_warm 30 = .ok (.invokevirtual 81, 3) := dk_182 0 81 (dk_at dksX1_warm_1 8 rfl rfl)
theorem dX1_warm_33 : decode cX1_warm 33 = .ok (.ireturn, 1) := dk_172 (dk_at dksX1_warm_1 11 rfl rfl)
abbrev cX1_light : ByteArray := prog_1_method_25_code
def yX1_light : MethodName := ⟨RX1, "light", "(II)I"⟩
def dkwX1_light_1 : List UInt8 := [182, 0, 122, 180, 0, 126, 28, 100, 104, 100, 184, 0, 232, 167, 0, 8, 42, 4, 182, 0, 81, 172]
abbrev dktX1_light_1 : List UInt8 := dkwX1_light_1 ++ []
def dkwX1_light_0 : List UInt8 := [42, 182, 0, 67, 42, 27, 28, 182, 0, 129, 153, 0, 28, 3, 16, 9, 6, 42, 180, 0, 29, 27]
abbrev dktX1_light_0 : List UInt8 := dkwX1_light_0 ++ dktX1_light_1
theorem dksX1_light_0 : cX1_light.data.toList.drop 0 = dktX1_light_0 := by decide +kernel
theorem dksX1_light_1 : cX1_light.data.toList.drop 22 = dktX1_light_1 := dk_seg dksX1_light_0 22 rfl rfl
theorem dX1_light_0 : decode cX1_light 0 = .ok (.aload_n 0, 1) := dk_42 (dk_at dksX1_light_0 0 rfl rfl)
theorem dX1_light_1 : decode cX1_light 1 = .ok (.invokevirtual 67, 3) := dk_182 0 67 (dk_at dksX1_light_0 1 rfl rfl)
theorem dX1_light_4 : decode cX1_light 4 = .ok (.aload_n 0, 1) := dk_42 (dk_at dksX1_light_0 4 rfl rfl)
theorem dX1_light_5 : decode cX1_light 5 = .ok (.iload_n 1, 1) := dk_27 (dk_at dksX1_light_0 5 rfl rfl)
theorem dX1_light_6 : decode cX1_light 6 = .ok (.iload_n 2, 1) := dk_28 (dk_at dksX1_light_0 6 rfl rfl)
theorem dX1_light_7 : decode cX1_light 7 = .ok (.invokevirtual 129, 3) := dk_182 0 129 (dk_at dksX1_light_0 7 rfl rfl)
theorem dX1_light_10 : decode cX1_light 10 = .ok (.ifCond .eq 28, 3) := dk_153 0 28 (dk_at dksX1_light_0 10 rfl rfl)
theorem dX1_light_13 : decode cX1_light 13 = .ok (.iconst 0, 1) := dk_3 (dk_at dksX1_light_0 13 rfl rfl)
theorem dX1_light_14 : decode cX1_light 14 = .ok (.bipush 9, 2) := dk_16 9 (dk_at dksX1_light_0 14 rfl rfl)
theorem dX1_light_16 : decode cX1_light 16 = .ok (.iconst 3, 1) := dk_6 (dk_at dksX1_light_0 16 rfl rfl)
theorem dX1_light_17 : decode cX1_light 17 = .ok (.aload_n 0, 1) := dk_42 (dk_at dksX1_light_0 17 rfl rfl)
theorem dX1_light_18 : decode cX1_light 18 = .ok (.getfield 29, 3) := dk_180 0 29 (dk_at dksX1_light_0 18 rfl rfl)
theorem dX1_light_21 : decode cX1_light 21 = .ok (.iload_n 1, 1) := dk_27 (dk_at dksX1_light_0 21 rfl rfl)
theorem dX1_light_22 : decode cX1_light 22 = .ok (.invokevirtual 122, 3) := dk_182 0 122 (dk_at dksX1_light_1 0 rfl rfl)
theorem dX1_light_25 : decode cX1_light 25 = .ok (.getfield 126, 3) := dk_180 0 126 (dk_at dksX1_light_1 3 rfl rfl)
theorem dX1_light_28 : decode cX1_light 28 = .ok (.iload_n 2, 1) := dk_28 (dk_at dksX1_light_1 6 rfl rfl)
theorem dX1_light_29 : decode cX1_light 29 = .ok (.isub, 1) := dk_100 (dk_at dksX1_light_1 7 rfl rfl)
theorem dX1_light_30 : decode cX1_light 30 = .ok (.imul, 1) := dk_104 (dk_at dksX1_light_1 8 rfl rfl)
theorem dX1_light_31 : decode cX1_light 31 = .ok (.isub, 1) := dk_100 (dk_at dksX1_light_1 9 rfl rfl)
theorem dX1_light_32 : decode cX1_light 32 = .ok (.invokestatic 232, 3) := dk_184 0 232 (dk_at dksX1_light_1 10 rfl rfl)
theorem dX1_light_35 : decode cX1_light 35 = .ok (.goto 8, 3) := dk_167 0 8 (dk_at dksX1_light_1 13 rfl rfl)
theorem dX1_light_38 : decode cX1_light 38 = .ok (.aload_n 0, 1) := dk_42 (dk_at dksX1_light_1 16 rfl rfl)
theorem dX1_light_39 : decode cX1_light 39 = .ok (.iconst 1, 1) := dk_4 (dk_at dksX1_light_1 17 rfl rfl)
theorem dX1_light_40 : decode cX1_light 40 = .ok (.invokevirtual 81, 3) := dk_182 0 81 (dk_at dksX1_light_1 18 rfl rfl)
theorem dX1_light_43 : decode cX1_light 43 = .ok (.ireturn, 1) := dk_172 (dk_at dksX1_light_1 21 rfl rfl)
abbrev cX1_heir : ByteArray := prog_1_method_26_code
def yX1_heir : MethodName := ⟨RX1, "heir", "(II)I"⟩
def dkwX1_heir_3 : List UInt8 := [29, 182, 0, 122, 42, 180, 0, 29, 180, 0, 248, 27, 46, 182, 0, 229, 172]
abbrev dktX1_heir_3 : List UInt8 := dkwX1_heir_3 ++ []
def dkwX1_heir_2 : List UInt8 := [167, 0, 40, 28, 4, 160, 0, 15, 42, 180, 0, 29, 180, 0, 248, 27, 46, 167, 0, 23, 42, 180, 0, 29]
abbrev dktX1_heir_2 : List UInt8 := dkwX1_heir_2 ++ dktX1_heir_3
def dkwX1_heir_1 : List UInt8 := [182, 0, 81, 172, 42, 180, 0, 92, 180, 0, 240, 27, 50, 180, 0, 244, 62, 28, 154, 0, 7, 29]
abbrev dktX1_heir_1 : List UInt8 := dkwX1_heir_1 ++ dktX1_heir_2
def dkwX1_heir_0 : List UInt8 := [42, 182, 0, 67, 42, 27, 182, 0, 237, 153, 0, 12, 28, 3, 5, 184, 0, 77, 154, 0, 9, 42, 4]
abbrev dktX1_heir_0 : List UInt8 := dkwX1_heir_0 ++ dktX1_heir_1
theorem dksX1_heir_0 : cX1_heir.data.toList.drop 0 = dktX1_heir_0 := by decide +kernel
theorem dksX1_heir_1 : cX1_heir.data.toList.drop 23 = dktX1_heir_1 := dk_seg dksX1_heir_0 23 rfl rfl
theorem dksX1_heir_2 : cX1_heir.data.toList.drop 45 = dktX1_heir_2 := dk_seg dksX1_heir_1 22 rfl rfl
theorem dksX1_heir_3 : cX1_heir.data.toList.drop 69 = dktX1_heir_3 := dk_seg dksX1_heir_2 24 rfl rfl
theorem dX1_heir_0 : decode cX1_heir 0 = .ok (.aload_n 0, 1) := dk_42 (dk_at dksX1_heir_0 0 rfl rfl)
theorem dX1_heir_1 : decode cX1_heir 1 = .ok (.invokevirtual 67, 3) := dk_182 0 67 (dk_at dksX1_heir_0 1 rfl rfl)
theorem dX1_heir_4 : decode cX1_heir 4 = .ok (.aload_n 0, 1) := dk_42 (dk_at dksX1_heir_0 4 rfl rfl)
theorem dX1_heir_5 : decode cX1_heir 5 = .ok (.iload_n 1, 1) := dk_27 (dk_at dksX1_heir_0 5 rfl rfl)
theorem dX1_heir_6 : decode cX1_heir 6 = .ok (.invokevirtual 237, 3) := dk_182 0 237 (dk_at dksX1_heir_0 6 rfl rfl)
theorem dX1_heir_9 : decode cX1_heir 9 = .ok (.ifCond .eq 12, 3) := dk_153 0 12 (dk_at dksX1_heir_0 9 rfl rfl)
theorem dX1_heir_12 : decode cX1_heir 12 = .ok (.iload_n 2, 1) := dk_28 (dk_at dksX1_heir_0 12 rfl rfl)
theorem dX1_heir_13 : decode cX1_heir 13 = .ok (.iconst 0, 1) := dk_3 (dk_at dksX1_heir_0 13 rfl rfl)
theorem dX1_heir_14 : decode cX1_heir 14 = .ok (.iconst 2, 1) := dk_5 (dk_at dksX1_heir_0 14 rfl rfl)
theorem dX1_heir_15 : decode cX1_heir 15 = .ok (.invokestatic 77, 3) := dk_184 0 77 (dk_at dksX1_heir_0 15 rfl rfl)
theorem dX1_heir_18 : decode cX1_heir 18 = .ok (.ifCond .ne 9, 3) := dk_154 0 9 (dk_at dksX1_heir_0 18 rfl rfl)
theorem dX1_heir_21 : decode cX1_heir 21 = .ok (.aload_n 0, 1) := dk_42 (dk_at dksX1_heir_0 21 rfl rfl)
theorem dX1_heir_22 : decode cX1_heir 22 = .ok (.iconst 1, 1) := dk_4 (dk_at dksX1_heir_0 22 rfl rfl)
theorem dX1_heir_23 : decode cX1_heir 23 = .ok (.invokevirtual 81, 3) := dk_182 0 81 (dk_at dksX1_heir_1 0 rfl rfl)
theorem dX1_heir_26 : decode cX1_heir 26 = .ok (.ireturn, 1) := dk_172 (dk_at dksX1_heir_1 3 rfl rfl)
theorem dX1_heir_27 : decode cX1_heir 27 = .ok (.aload_n 0, 1) := dk_42 (dk_at dksX1_heir_1 4 rfl rfl)
theorem dX1_heir_28 : decode cX1_heir 28 = .ok (.getfield 92, 3) := dk_180 0 92 (dk_at dksX1_heir_1 5 rfl rfl)
theorem dX1_heir_31 : decode cX1_heir 31 = .ok (.getfield 240, 3) := dk_180 0 240 (dk_at dksX1_heir_1 8 rfl rfl)
theorem dX1_heir_34 : decode cX1_heir 34 = .ok (.iload_n 1, 1) := dk_27 (dk_at dksX1_heir_1 11 rfl rfl)
theorem dX1_heir_35 : decode cX1_heir 35 = .ok (.aaload, 1) := dk_50 (dk_at dksX1_heir_1 12 rfl rfl)
theorem dX1_heir_36 : decode cX1_heir 36 = .ok (.getfield 244, 3) := dk_180 0 244 (dk_at dksX1_heir_1 13 rfl rfl)
theorem dX1_heir_39 : decode cX1_heir 39 = .ok (.istore_n 3, 1) := dk_62 (dk_at dksX1_heir_1 16 rfl rfl)
theorem dX1_heir_40 : decode cX1_heir 40 = .ok (.iload_n 2, 1) := dk_28 (dk_at dksX1_heir_1 17 rfl rfl)
theorem dX1_heir_41 : decode cX1_heir 41 = .ok (.ifCond .ne 7, 3) := dk_154 0 7 (dk_at dksX1_heir_1 18 rfl rfl)
theorem dX1_heir_44 : decode cX1_heir 44 = .ok (.iload_n 3, 1) := dk_29 (dk_at dksX1_heir_1 21 rfl rfl)
theorem dX1_heir_45 : decode cX1_heir 45 = .ok (.goto 40, 3) := dk_167 0 40 (dk_at dksX1_heir_2 0 rfl rfl)
theorem dX1_heir_48 : decode cX1_heir 48 = .ok (.iload_n 2, 1) := dk_28 (dk_at dksX1_heir_2 3 rfl rfl)
theorem dX1_heir_49 : decode cX1_heir 49 = .ok (.iconst 1, 1) := dk_4 (dk_at dksX1_heir_2 4 rfl rfl)
theorem dX1_heir_50 : decode cX1_heir 50 = .ok (.if_icmp .ne 15, 3) := dk_160 0 15 (dk_at dksX1_heir_2 5 rfl rfl)
theorem dX1_heir_53 : decode cX1_heir 53 = .ok (.aload_n 0, 1) := dk_42 (dk_at dksX1_heir_2 8 rfl rfl)
theorem dX1_heir_54 : decode cX1_heir 54 = .ok (.getfield 29, 3) := dk_180 0 29 (dk_at dksX1_heir_2 9 rfl rfl)
theorem dX1_heir_57 : decode cX1_heir 57 = .ok (.getfield 248, 3) := dk_180 0 248 (dk_at dksX1_heir_2 12 rfl rfl)
theorem dX1_heir_60 : decode cX1_heir 60 = .ok (.iload_n 1, 1) := dk_27 (dk_at dksX1_heir_2 15 rfl rfl)
theorem dX1_heir_61 : decode cX1_heir 61 = .ok (.iaload, 1) := dk_46 (dk_at dksX1_heir_2 16 rfl rfl)
theorem dX1_heir_62 : decode cX1_heir 62 = .ok (.goto 23, 3) := dk_167 0 23 (dk_at dksX1_heir_2 17 rfl rfl)
theorem dX1_heir_65 : decode cX1_heir 65 = .ok (.aload_n 0, 1) := dk_42 (dk_at dksX1_heir_2 20 rfl rfl)
theorem dX1_heir_66 : decode cX1_heir 66 = .ok (.getfield 29, 3) := dk_180 0 29 (dk_at dksX1_heir_2 21 rfl rfl)
theorem dX1_heir_69 : decode cX1_heir 69 = .ok (.iload_n 3, 1) := dk_29 (dk_at dksX1_heir_3 0 rfl rfl)
theorem dX1_heir_70 : decode cX1_heir 70 = .ok (.invokevirtual 122, 3) := dk_182 0 122 (dk_at dksX1_heir_3 1 rfl rfl)
theorem dX1_heir_73 : decode cX1_heir 73 = .ok (.aload_n 0, 1) := dk_42 (dk_at dksX1_heir_3 4 rfl rfl)
theorem dX1_heir_74 : decode cX1_heir 74 = .ok (.getfield 29, 3) := dk_180 0 29 (dk_at dksX1_heir_3 5 rfl rfl)
theorem dX1_heir_77 : decode cX1_heir 77 = .ok (.getfield 248, 3) := dk_180 0 248 (dk_at dksX1_heir_3 8 rfl rfl)
theorem dX1_heir_80 : decode cX1_heir 80 = .ok (.iload_n 1, 1) := dk_27 (dk_at dksX1_heir_3 11 rfl rfl)
theorem dX1_heir_81 : decode cX1_heir 81 = .ok (.iaload, 1) := dk_46 (dk_at dksX1_heir_3 12 rfl rfl)
theorem dX1_heir_82 : decode cX1_heir 82 = .ok (.invokevirtual 229, 3) := dk_182 0 229 (dk_at dksX1_heir_3 13 rfl rfl)
theorem dX1_heir_85 : decode cX1_heir 85 = .ok (.ireturn, 1) := dk_172 (dk_at dksX1_heir_3 16 rfl rfl)
abbrev cX1_isHeir : ByteArray := prog_1_method_16_code
def yX1_isHeir : MethodName := ⟨RX1, "isHeir", "(I)Z"⟩
def dkwX1_isHeir_1 : List UInt8 := [4, 167, 0, 4, 3, 172]
abbrev dktX1_isHeir_1 : List UInt8 := dkwX1_isHeir_1 ++ []
def dkwX1_isHeir_0 : List UInt8 := [42, 180, 0, 92, 198, 0, 24, 27, 3, 42, 180, 0, 92, 180, 0, 138, 4, 100, 184, 0, 77, 153, 0, 7]
abbrev dktX1_isHeir_0 : List UInt8 := dkwX1_isHeir_0 ++ dktX1_isHeir_1
theorem dksX1_isHeir_0 : cX1_isHeir.data.toList.drop 0 = dktX1_isHeir_0 := by decide +kernel
theorem dksX1_isHeir_1 : cX1_isHeir.data.toList.drop 24 = dktX1_isHeir_1 := dk_seg dksX1_isHeir_0 24 rfl rfl
theorem dX1_isHeir_0 : decode cX1_isHeir 0 = .ok (.aload_n 0, 1) := dk_42 (dk_at dksX1_isHeir_0 0 rfl rfl)
theorem dX1_isHeir_1 : decode cX1_isHeir 1 = .ok (.getfield 92, 3) := dk_180 0 92 (dk_at dksX1_isHeir_0 1 rfl rfl)
theorem dX1_isHeir_4 : decode cX1_isHeir 4 = .ok (.ifnull 24, 3) := dk_198 0 24 (dk_at dksX1_isHeir_0 4 rfl rfl)
theorem dX1_isHeir_7 : decode cX1_isHeir 7 = .ok (.iload_n 1, 1) := dk_27 (dk_at dksX1_isHeir_0 7 rfl rfl)
theorem dX1_isHeir_8 : decode cX1_isHeir 8 = .ok (.iconst 0, 1) := dk_3 (dk_at dksX1_isHeir_0 8 rfl rfl)
theorem dX1_isHeir_9 : decode cX1_isHeir 9 = .ok (.aload_n 0, 1) := dk_42 (dk_at dksX1_isHeir_0 9 rfl rfl)
theorem dX1_isHeir_10 : decode cX1_isHeir 10 = .ok (.getfield 92, 3) := dk_180 0 92 (dk_at dksX1_isHeir_0 10 rfl rfl)
theorem dX1_isHeir_13 : decode cX1_isHeir 13 = .ok (.getfield 138, 3) := dk_180 0 138 (dk_at dksX1_isHeir_0 13 rfl rfl)
theorem dX1_isHeir_16 : decode cX1_isHeir 16 = .ok (.iconst 1, 1) := dk_4 (dk_at dksX1_isHeir_0 16 rfl rfl)
theorem dX1_isHeir_17 : decode cX1_isHeir 17 = .ok (.isub, 1) := dk_100 (dk_at dksX1_isHeir_0 17 rfl rfl)
theorem dX1_isHeir_18 : decode cX1_isHeir 18 = .ok (.invokestatic 77, 3) := dk_184 0 77 (dk_at dksX1_isHeir_0 18 rfl rfl)
theorem dX1_isHeir_21 : decode cX1_isHeir 21 = .ok (.ifCond .eq 7, 3) := dk_153 0 7 (dk_at dksX1_isHeir_0 21 rfl rfl)
theorem dX1_isHeir_24 : decode cX1_isHeir 24 = .ok (.iconst 1, 1) := dk_4 (dk_at dksX1_isHeir_1 0 rfl rfl)
theorem dX1_isHeir_25 : decode cX1_isHeir 25 = .ok (.goto 4, 3) := dk_167 0 4 (dk_at dksX1_isHeir_1 1 rfl rfl)
theorem dX1_isHeir_28 : decode cX1_isHeir 28 = .ok (.iconst 0, 1) := dk_3 (dk_at dksX1_isHeir_1 4 rfl rfl)
theorem dX1_isHeir_29 : decode cX1_isHeir 29 = .ok (.ireturn, 1) := dk_172 (dk_at dksX1_isHeir_1 5 rfl rfl)
abbrev cX1_fits : ByteArray := prog_1_method_27_code
def yX1_fits : MethodName := ⟨RX1, "fits", "(I)I"⟩
def dkwX1_fits_1 : List UInt8 := [167, 0, 12, 3, 167, 0, 8, 42, 4, 182, 0, 81, 172]
abbrev dktX1_fits_1 : List UInt8 := dkwX1_fits_1 ++ []
def dkwX1_fits_0 : List UInt8 := [42, 182, 0, 67, 42, 27, 182, 0, 118, 153, 0, 22, 42, 180, 0, 29, 27, 182, 0, 251, 153, 0, 7, 4]
abbrev dktX1_fits_0 : List UInt8 := dkwX1_fits_0 ++ dktX1_fits_1
theorem dksX1_fits_0 : cX1_fits.data.toList.drop 0 = dktX1_fits_0 := by decide +kernel
theorem dksX1_fits_1 : cX1_fits.data.toList.drop 24 = dktX1_fits_1 := dk_seg dksX1_fits_0 24 rfl rfl
theorem dX1_fits_0 : decode cX1_fits 0 = .ok (.aload_n 0, 1) := dk_42 (dk_at dksX1_fits_0 0 rfl rfl)
theorem dX1_fits_1 : decode cX1_fits 1 = .ok (.invokevirtual 67, 3) := dk_182 0 67 (dk_at dksX1_fits_0 1 rfl rfl)
theorem dX1_fits_4 : decode cX1_fits 4 = .ok (.aload_n 0, 1) := dk_42 (dk_at dksX1_fits_0 4 rfl rfl)
theorem dX1_fits_5 : decode cX1_fits 5 = .ok (.iload_n 1, 1) := dk_27 (dk_at dksX1_fits_0 5 rfl rfl)
theorem dX1_fits_6 : decode cX1_fits 6 = .ok (.invokevirtual 118, 3) := dk_182 0 118 (dk_at dksX1_fits_0 6 rfl rfl)
theorem dX1_fits_9 : decode cX1_fits 9 = .ok (.ifCond .eq 22, 3) := dk_153 0 22 (dk_at dksX1_fits_0 9 rfl rfl)
theorem dX1_fits_12 : decode cX1_fits 12 = .ok (.aload_n 0, 1) := dk_42 (dk_at dksX1_fits_0 12 rfl rfl)
theorem dX1_fits_13 : decode cX1_fits 13 = .ok (.getfield 29, 3) := dk_180 0 29 (dk_at dksX1_fits_0 13 rfl rfl)
theorem dX1_fits_16 : decode cX1_fits 16 = .ok (.iload_n 1, 1) := dk_27 (dk_at dksX1_fits_0 16 rfl rfl)
theorem dX1_fits_17 : decode cX1_fits 17 = .ok (.invokevirtual 251, 3) := dk_182 0 251 (dk_at dksX1_fits_0 17 rfl rfl)
theorem dX1_fits_20 : decode cX1_fits 20 = .ok (.ifCond .eq 7, 3) := dk_153 0 7 (dk_at dksX1_fits_0 20 rfl rfl)
theorem dX1_fits_23 : decode cX1_fits 23 = .ok (.iconst 1, 1) := dk_4 (dk_at dksX1_fits_0 23 rfl rfl)
theorem dX1_fits_24 : decode cX1_fits 24 = .ok (.goto 12, 3) := dk_167 0 12 (dk_at dksX1_fits_1 0 rfl rfl)
theorem dX1_fits_27 : decode cX1_fits 27 = .ok (.iconst 0, 1) := dk_3 (dk_at dksX1_fits_1 3 rfl rfl)
theorem dX1_fits_28 : decode cX1_fits 28 = .ok (.goto 8, 3) := dk_167 0 8 (dk_at dksX1_fits_1 4 rfl rfl)
theorem dX1_fits_31 : decode cX1_fits 31 = .ok (.aload_n 0, 1) := dk_42 (dk_at dksX1_fits_1 7 rfl rfl)
theorem dX1_fits_32 : decode cX1_fits 32 = .ok (.iconst 1, 1) := dk_4 (dk_at dksX1_fits_1 8 rfl rfl)
theorem dX1_fits_33 : decode cX1_fits 33 = .ok (.invokevirtual 81, 3) := dk_182 0 81 (dk_at dksX1_fits_1 9 rfl rfl)
theorem dX1_fits_36 : decode cX1_fits 36 = .ok (.ireturn, 1) := dk_172 (dk_at dksX1_fits_1 12 rfl rfl)
abbrev cX1_door : ByteArray := prog_1_method_28_code
def yX1_door : MethodName := ⟨RX1, "door", "(I)I"⟩
def dkwX1_door_2 : List UInt8 := [167, 0, 5, 16, 254, 172]
abbrev dktX1_door_2 : List UInt8 := dkwX1_door_2 ++ []
def dkwX1_door_1 : List UInt8 := [182, 0, 254, 153, 0, 24, 16, 100, 42, 180, 0, 29, 180, 1, 1, 104, 42, 180, 0, 29, 180, 1, 4, 96]
abbrev dktX1_door_1 : List UInt8 := dkwX1_door_1 ++ dktX1_door_2
def dkwX1_door_0 : List UInt8 := [42, 182, 0, 67, 42, 27, 182, 0, 118, 154, 0, 9, 42, 4, 182, 0, 81, 172, 42, 180, 0, 29, 27]
abbrev dktX1_door_0 : List UInt8 := dkwX1_door_0 ++ dktX1_door_1
theorem dksX1_door_0 : cX1_door.data.toList.drop 0 = dktX1_door_0 := by decide +kernel
theorem dksX1_door_1 : cX1_door.data.toList.drop 23 = dktX1_door_1 := dk_seg dksX1_door_0 23 rfl rfl
theorem dksX1_door_2 : cX1_door.data.toList.drop 47 = dktX1_door_2 := dk_seg dksX1_door_1 24 rfl rfl
theorem dX1_door_0 : decode cX1_door 0 = .ok (.aload_n 0, 1) := dk_42 (dk_at dksX1_door_0 0 rfl rfl)
theorem dX1_door_1 : decode cX1_door 1 = .ok (.invokevirtual 67, 3) := dk_182 0 67 (dk_at dksX1_door_0 1 rfl rfl)
theorem dX1_door_4 : decode cX1_door 4 = .ok (.aload_n 0, 1) := dk_42 (dk_at dksX1_door_0 4 rfl rfl)
theorem dX1_door_5 : decode cX1_door 5 = .ok (.iload_n 1, 1) := dk_27 (dk_at dksX1_door_0 5 rfl rfl)
theorem dX1_door_6 : decode cX1_door 6 = .ok (.invokevirtual 118, 3) := dk_182 0 118 (dk_at dksX1_door_0 6 rfl rfl)
theorem dX1_door_9 : decode cX1_door 9 = .ok (.ifCond .ne 9, 3) := dk_154 0 9 (dk_at dksX1_door_0 9 rfl rfl)
theorem dX1_door_12 : decode cX1_door 12 = .ok (.aload_n 0, 1) := dk_42 (dk_at dksX1_door_0 12 rfl rfl)
theorem dX1_door_13 : decode cX1_door 13 = .ok (.iconst 1, 1) := dk_4 (dk_at dksX1_door_0 13 rfl rfl)
theorem dX1_door_14 : decode cX1_door 14 = .ok (.invokevirtual 81, 3) := dk_182 0 81 (dk_at dksX1_door_0 14 rfl rfl)
theorem dX1_door_17 : decode cX1_door 17 = .ok (.ireturn, 1) := dk_172 (dk_at dksX1_door_0 17 rfl rfl)
theorem dX1_door_18 : decode cX1_door 18 = .ok (.aload_n 0, 1) := dk_42 (dk_at dksX1_door_0 18 rfl rfl)
theorem dX1_door_19 : decode cX1_door 19 = .ok (.getfield 29, 3) := dk_180 0 29 (dk_at dksX1_door_0 19 rfl rfl)
theorem dX1_door_22 : decode cX1_door 22 = .ok (.iload_n 1, 1) := dk_27 (dk_at dksX1_door_0 22 rfl rfl)
theorem dX1_door_23 : decode cX1_door 23 = .ok (.invokevirtual 254, 3) := dk_182 0 254 (dk_at dksX1_door_1 0 rfl rfl)
theorem dX1_door_26 : decode cX1_door 26 = .ok (.ifCond .eq 24, 3) := dk_153 0 24 (dk_at dksX1_door_1 3 rfl rfl)
theorem dX1_door_29 : decode cX1_door 29 = .ok (.bipush 100, 2) := dk_16 100 (dk_at dksX1_door_1 6 rfl rfl)
theorem dX1_door_31 : decode cX1_door 31 = .ok (.aload_n 0, 1) := dk_42 (dk_at dksX1_door_1 8 rfl rfl)
theorem dX1_door_32 : decode cX1_door 32 = .ok (.getfield 29, 3) := dk_180 0 29 (dk_at dksX1_door_1 9 rfl rfl)
theorem dX1_door_35 : decode cX1_door 35 = .ok (.getfield 257, 3) := dk_180 1 1 (dk_at dksX1_door_1 12 rfl rfl)
theorem dX1_door_38 : decode cX1_door 38 = .ok (.imul, 1) := dk_104 (dk_at dksX1_door_1 15 rfl rfl)
theorem dX1_door_39 : decode cX1_door 39 = .ok (.aload_n 0, 1) := dk_42 (dk_at dksX1_door_1 16 rfl rfl)
theorem dX1_door_40 : decode cX1_door 40 = .ok (.getfield 29, 3) := dk_180 0 29 (dk_at dksX1_door_1 17 rfl rfl)
theorem dX1_door_43 : decode cX1_door 43 = .ok (.getfield 260, 3) := dk_180 1 4 (dk_at dksX1_door_1 20 rfl rfl)
theorem dX1_door_46 : decode cX1_door 46 = .ok (.iadd, 1) := dk_96 (dk_at dksX1_door_1 23 rfl rfl)
theorem dX1_door_47 : decode cX1_door 47 = .ok (.goto 5, 3) := dk_167 0 5 (dk_at dksX1_door_2 0 rfl rfl)
theorem dX1_door_50 : decode cX1_door 50 = .ok (.bipush (-2), 2) := dk_16 254 (dk_at dksX1_door_2 3 rfl rfl)
theorem dX1_door_52 : decode cX1_door 52 = .ok (.ireturn, 1) := dk_172 (dk_at dksX1_door_2 5 rfl rfl)
abbrev cX1_costs : ByteArray := prog_1_method_29_code
def yX1_costs : MethodName := ⟨RX1, "costs", "(II)I"⟩
def dkwX1_costs_3 : List UInt8 := [182, 1, 14, 172]
abbrev dktX1_costs_3 : List UInt8 := dkwX1_costs_3 ++ []
def dkwX1_costs_2 : List UInt8 := [182, 0, 81, 167, 0, 23, 42, 180, 0, 29, 27, 182, 0, 122, 42, 180, 0, 92, 180, 1, 10, 28, 50]
abbrev dktX1_costs_2 : List UInt8 := dkwX1_costs_2 ++ dktX1_costs_3
def dkwX1_costs_1 : List UInt8 := [182, 0, 81, 172, 42, 180, 0, 29, 27, 182, 0, 122, 180, 0, 126, 16, 6, 160, 0, 11, 42, 6]
abbrev dktX1_costs_1 : List UInt8 := dkwX1_costs_1 ++ dktX1_costs_2
def dkwX1_costs_0 : List UInt8 := [42, 182, 0, 67, 42, 27, 182, 0, 118, 153, 0, 11, 42, 28, 182, 1, 7, 154, 0, 9, 42, 4]
abbrev dktX1_costs_0 : List UInt8 := dkwX1_costs_0 ++ dktX1_costs_1
theorem dksX1_costs_0 : cX1_costs.data.toList.drop 0 = dktX1_costs_0 := by decide +kernel
theorem dksX1_costs_1 : cX1_costs.data.toList.drop 22 = dktX1_costs_1 := dk_seg dksX1_costs_0 22 rfl rfl
theorem dksX1_costs_2 : cX1_costs.data.toList.drop 44 = dktX1_costs_2 := dk_seg dksX1_costs_1 22 rfl rfl
theorem dksX1_costs_3 : cX1_costs.data.toList.drop 67 = dktX1_costs_3 := dk_seg dksX1_costs_2 23 rfl rfl
theorem dX1_costs_0 : decode cX1_costs 0 = .ok (.aload_n 0, 1) := dk_42 (dk_at dksX1_costs_0 0 rfl rfl)
theorem dX1_costs_1 : decode cX1_costs 1 = .ok (.invokevirtual 67, 3) := dk_182 0 67 (dk_at dksX1_costs_0 1 rfl rfl)
theorem dX1_costs_4 : decode cX1_costs 4 = .ok (.aload_n 0, 1) := dk_42 (dk_at dksX1_costs_0 4 rfl rfl)
theorem dX1_costs_5 : decode cX1_costs 5 = .ok (.iload_n 1, 1) := dk_27 (dk_at dksX1_costs_0 5 rfl rfl)
theorem dX1_costs_6 : decode cX1_costs 6 = .ok (.invokevirtual 118, 3) := dk_182 0 118 (dk_at dksX1_costs_0 6 rfl rfl)
theorem dX1_costs_9 : decode cX1_costs 9 = .ok (.ifCond .eq 11, 3) := dk_153 0 11 (dk_at dksX1_costs_0 9 rfl rfl)
theorem dX1_costs_12 : decode cX1_costs 12 = .ok (.aload_n 0, 1) := dk_42 (dk_at dksX1_costs_0 12 rfl rfl)
theorem dX1_costs_13 : decode cX1_costs 13 = .ok (.iload_n 2, 1) := dk_28 (dk_at dksX1_costs_0 13 rfl rfl)
theorem dX1_costs_14 : decode cX1_costs 14 = .ok (.invokevirtual 263, 3) := dk_182 1 7 (dk_at dksX1_costs_0 14 rfl rfl)
theorem dX1_costs_17 : decode cX1_costs 17 = .ok (.ifCond .ne 9, 3) := dk_154 0 9 (dk_at dksX1_costs_0 17 rfl rfl)
theorem dX1_costs_20 : decode cX1_costs 20 = .ok (.aload_n 0, 1) := dk_42 (dk_at dksX1_costs_0 20 rfl rfl)
theorem dX1_costs_21 : decode cX1_costs 21 = .ok (.iconst 1, 1) := dk_4 (dk_at dksX1_costs_0 21 rfl rfl)
theorem dX1_costs_22 : decode cX1_costs 22 = .ok (.invokevirtual 81, 3) := dk_182 0 81 (dk_at dksX1_costs_1 0 rfl rfl)
theorem dX1_costs_25 : decode cX1_costs 25 = .ok (.ireturn, 1) := dk_172 (dk_at dksX1_costs_1 3 rfl rfl)
theorem dX1_costs_26 : decode cX1_costs 26 = .ok (.aload_n 0, 1) := dk_42 (dk_at dksX1_costs_1 4 rfl rfl)
theorem dX1_costs_27 : decode cX1_costs 27 = .ok (.getfield 29, 3) := dk_180 0 29 (dk_at dksX1_costs_1 5 rfl rfl)
theorem dX1_costs_30 : decode cX1_costs 30 = .ok (.iload_n 1, 1) := dk_27 (dk_at dksX1_costs_1 8 rfl rfl)
theorem dX1_costs_31 : decode cX1_costs 31 = .ok (.invokevirtual 122, 3) := dk_182 0 122 (dk_at dksX1_costs_1 9 rfl rfl)
theorem dX1_costs_34 : decode cX1_costs 34 = .ok (.getfield 126, 3) := dk_180 0 126 (dk_at dksX1_costs_1 12 rfl rfl)
theorem dX1_costs_37 : decode cX1_costs 37 = .ok (.bipush 6, 2) := dk_16 6 (dk_at dksX1_costs_1 15 rfl rfl)
theorem dX1_costs_39 : decode cX1_costs 39 = .ok (.if_icmp .ne 11, 3) := dk_160 0 11 (dk_at dksX1_costs_1 17 rfl rfl)
theorem dX1_costs_42 : decode cX1_costs 42 = .ok (.aload_n 0, 1) := dk_42 (dk_at dksX1_costs_1 20 rfl rfl)
theorem dX1_costs_43 : decode cX1_costs 43 = .ok (.iconst 3, 1) := dk_6 (dk_at dksX1_costs_1 21 rfl rfl)
theorem dX1_costs_44 : decode cX1_costs 44 = .ok (.invokevirtual 81, 3) := dk_182 0 81 (dk_at dksX1_costs_2 0 rfl rfl)
theorem dX1_costs_47 : decode cX1_costs 47 = .ok (.goto 23, 3) := dk_167 0 23 (dk_at dksX1_costs_2 3 rfl rfl)
theorem dX1_costs_50 : decode cX1_costs 50 = .ok (.aload_n 0, 1) := dk_42 (dk_at dksX1_costs_2 6 rfl rfl)
theorem dX1_costs_51 : decode cX1_costs 51 = .ok (.getfield 29, 3) := dk_180 0 29 (dk_at dksX1_costs_2 7 rfl rfl)
theorem dX1_costs_54 : decode cX1_costs 54 = .ok (.iload_n 1, 1) := dk_27 (dk_at dksX1_costs_2 10 rfl rfl)
theorem dX1_costs_55 : decode cX1_costs 55 = .ok (.invokevirtual 122, 3) := dk_182 0 122 (dk_at dksX1_costs_2 11 rfl rfl)
theorem dX1_costs_58 : decode cX1_costs 58 = .ok (.aload_n 0, 1) := dk_42 (dk_at dksX1_costs_2 14 rfl rfl)
theorem dX1_costs_59 : decode cX1_costs 59 = .ok (.getfield 92, 3) := dk_180 0 92 (dk_at dksX1_costs_2 15 rfl rfl)
theorem dX1_costs_62 : decode cX1_costs 62 = .ok (.getfield 266, 3) := dk_180 1 10 (dk_at dksX1_costs_2 18 rfl rfl)
theorem dX1_costs_65 : decode cX1_costs 65 = .ok (.iload_n 2, 1) := dk_28 (dk_at dksX1_costs_2 21 rfl rfl)
theorem dX1_costs_66 : decode cX1_costs 66 = .ok (.aaload, 1) := dk_50 (dk_at dksX1_costs_2 22 rfl rfl)
theorem dX1_costs_67 : decode cX1_costs 67 = .ok (.invokevirtual 270, 3) := dk_182 1 14 (dk_at dksX1_costs_3 0 rfl rfl)
theorem dX1_costs_70 : decode cX1_costs 70 = .ok (.ireturn, 1) := dk_172 (dk_at dksX1_costs_3 3 rfl rfl)
abbrev cX1_isStone : ByteArray := prog_1_method_15_code
def yX1_isStone : MethodName := ⟨RX1, "isStone", "(I)Z"⟩
def dkwX1_isStone_1 : List UInt8 := [4, 167, 0, 4, 3, 172]
abbrev dktX1_isStone_1 : List UInt8 := dkwX1_isStone_1 ++ []
def dkwX1_isStone_0 : List UInt8 := [42, 180, 0, 92, 198, 0, 24, 27, 3, 42, 180, 0, 92, 180, 0, 133, 4, 100, 184, 0, 77, 153, 0, 7]
abbrev dktX1_isStone_0 : List UInt8 := dkwX1_isStone_0 ++ dktX1_isStone_1
theorem dksX1_isStone_0 : cX1_isStone.data.toList.drop 0 = dktX1_isStone_0 := by decide +kernel
theorem dksX1_isStone_1 : cX1_isStone.data.toList.drop 24 = dktX1_isStone_1 := dk_seg dksX1_isStone_0 24 rfl rfl
theorem dX1_isStone_0 : decode cX1_isStone 0 = .ok (.aload_n 0, 1) := dk_42 (dk_at dksX1_isStone_0 0 rfl rfl)
theorem dX1_isStone_1 : decode cX1_isStone 1 = .ok (.getfield 92, 3) := dk_180 0 92 (dk_at dksX1_isStone_0 1 rfl rfl)
theorem dX1_isStone_4 : decode cX1_isStone 4 = .ok (.ifnull 24, 3) := dk_198 0 24 (dk_at dksX1_isStone_0 4 rfl rfl)
theorem dX1_isStone_7 : decode cX1_isStone 7 = .ok (.iload_n 1, 1) := dk_27 (dk_at dksX1_isStone_0 7 rfl rfl)
theorem dX1_isStone_8 : decode cX1_isStone 8 = .ok (.iconst 0, 1) := dk_3 (dk_at dksX1_isStone_0 8 rfl rfl)
theorem dX1_isStone_9 : decode cX1_isStone 9 = .ok (.aload_n 0, 1) := dk_42 (dk_at dksX1_isStone_0 9 rfl rfl)
theorem dX1_isStone_10 : decode cX1_isStone 10 = .ok (.getfield 92, 3) := dk_180 0 92 (dk_at dksX1_isStone_0 10 rfl rfl)
theorem dX1_isStone_13 : decode cX1_isStone 13 = .ok (.getfield 133, 3) := dk_180 0 133 (dk_at dksX1_isStone_0 13 rfl rfl)
theorem dX1_isStone_16 : decode cX1_isStone 16 = .ok (.iconst 1, 1) := dk_4 (dk_at dksX1_isStone_0 16 rfl rfl)
theorem dX1_isStone_17 : decode cX1_isStone 17 = .ok (.isub, 1) := dk_100 (dk_at dksX1_isStone_0 17 rfl rfl)
theorem dX1_isStone_18 : decode cX1_isStone 18 = .ok (.invokestatic 77, 3) := dk_184 0 77 (dk_at dksX1_isStone_0 18 rfl rfl)
theorem dX1_isStone_21 : decode cX1_isStone 21 = .ok (.ifCond .eq 7, 3) := dk_153 0 7 (dk_at dksX1_isStone_0 21 rfl rfl)
theorem dX1_isStone_24 : decode cX1_isStone 24 = .ok (.iconst 1, 1) := dk_4 (dk_at dksX1_isStone_1 0 rfl rfl)
theorem dX1_isStone_25 : decode cX1_isStone 25 = .ok (.goto 4, 3) := dk_167 0 4 (dk_at dksX1_isStone_1 1 rfl rfl)
theorem dX1_isStone_28 : decode cX1_isStone 28 = .ok (.iconst 0, 1) := dk_3 (dk_at dksX1_isStone_1 4 rfl rfl)
theorem dX1_isStone_29 : decode cX1_isStone 29 = .ok (.ireturn, 1) := dk_172 (dk_at dksX1_isStone_1 5 rfl rfl)
abbrev cX1_way : ByteArray := prog_1_method_30_code
def yX1_way : MethodName := ⟨RX1, "way", "(II)I"⟩
def dkwX1_way_2 : List UInt8 := [167, 0, 5, 16, 254, 172]
abbrev dktX1_way_2 : List UInt8 := dkwX1_way_2 ++ []
def dkwX1_way_1 : List UInt8 := [182, 0, 122, 28, 182, 1, 18, 153, 0, 18, 42, 180, 0, 29, 27, 182, 0, 122, 28, 182, 1, 21]
abbrev dktX1_way_1 : List UInt8 := dkwX1_way_1 ++ dktX1_way_2
def dkwX1_way_0 : List UInt8 := [42, 182, 0, 67, 42, 27, 28, 182, 0, 129, 154, 0, 9, 42, 4, 182, 0, 81, 172, 42, 180, 0, 29, 27]
abbrev dktX1_way_0 : List UInt8 := dkwX1_way_0 ++ dktX1_way_1
theorem dksX1_way_0 : cX1_way.data.toList.drop 0 = dktX1_way_0 := by decide +kernel
theorem dksX1_way_1 : cX1_way.data.toList.drop 24 = dktX1_way_1 := dk_seg dksX1_way_0 24 rfl rfl
theorem dksX1_way_2 : cX1_way.data.toList.drop 46 = dktX1_way_2 := dk_seg dksX1_way_1 22 rfl rfl
theorem dX1_way_0 : decode cX1_way 0 = .ok (.aload_n 0, 1) := dk_42 (dk_at dksX1_way_0 0 rfl rfl)
theorem dX1_way_1 : decode cX1_way 1 = .ok (.invokevirtual 67, 3) := dk_182 0 67 (dk_at dksX1_way_0 1 rfl rfl)
theorem dX1_way_4 : decode cX1_way 4 = .ok (.aload_n 0, 1) := dk_42 (dk_at dksX1_way_0 4 rfl rfl)
theorem dX1_way_5 : decode cX1_way 5 = .ok (.iload_n 1, 1) := dk_27 (dk_at dksX1_way_0 5 rfl rfl)
theorem dX1_way_6 : decode cX1_way 6 = .ok (.iload_n 2, 1) := dk_28 (dk_at dksX1_way_0 6 rfl rfl)
theorem dX1_way_7 : decode cX1_way 7 = .ok (.invokevirtual 129, 3) := dk_182 0 129 (dk_at dksX1_way_0 7 rfl rfl)
theorem dX1_way_10 : decode cX1_way 10 = .ok (.ifCond .ne 9, 3) := dk_154 0 9 (dk_at dksX1_way_0 10 rfl rfl)
theorem dX1_way_13 : decode cX1_way 13 = .ok (.aload_n 0, 1) := dk_42 (dk_at dksX1_way_0 13 rfl rfl)
theorem dX1_way_14 : decode cX1_way 14 = .ok (.iconst 1, 1) := dk_4 (dk_at dksX1_way_0 14 rfl rfl)
theorem dX1_way_15 : decode cX1_way 15 = .ok (.invokevirtual 81, 3) := dk_182 0 81 (dk_at dksX1_way_0 15 rfl rfl)
theorem dX1_way_18 : decode cX1_way 18 = .ok (.ireturn, 1) := dk_172 (dk_at dksX1_way_0 18 rfl rfl)
theorem dX1_way_19 : decode cX1_way 19 = .ok (.aload_n 0, 1) := dk_42 (dk_at dksX1_way_0 19 rfl rfl)
theorem dX1_way_20 : decode cX1_way 20 = .ok (.getfield 29, 3) := dk_180 0 29 (dk_at dksX1_way_0 20 rfl rfl)
theorem dX1_way_23 : decode cX1_way 23 = .ok (.iload_n 1, 1) := dk_27 (dk_at dksX1_way_0 23 rfl rfl)
theorem dX1_way_24 : decode cX1_way 24 = .ok (.invokevirtual 122, 3) := dk_182 0 122 (dk_at dksX1_way_1 0 rfl rfl)
theorem dX1_way_27 : decode cX1_way 27 = .ok (.iload_n 2, 1) := dk_28 (dk_at dksX1_way_1 3 rfl rfl)
theorem dX1_way_28 : decode cX1_way 28 = .ok (.invokevirtual 274, 3) := dk_182 1 18 (dk_at dksX1_way_1 4 rfl rfl)
theorem dX1_way_31 : decode cX1_way 31 = .ok (.ifCond .eq 18, 3) := dk_153 0 18 (dk_at dksX1_way_1 7 rfl rfl)
theorem dX1_way_34 : decode cX1_way 34 = .ok (.aload_n 0, 1) := dk_42 (dk_at dksX1_way_1 10 rfl rfl)
theorem dX1_way_35 : decode cX1_way 35 = .ok (.getfield 29, 3) := dk_180 0 29 (dk_at dksX1_way_1 11 rfl rfl)
theorem dX1_way_38 : decode cX1_way 38 = .ok (.iload_n 1, 1) := dk_27 (dk_at dksX1_way_1 14 rfl rfl)
theorem dX1_way_39 : decode cX1_way 39 = .ok (.invokevirtual 122, 3) := dk_182 0 122 (dk_at dksX1_way_1 15 rfl rfl)
theorem dX1_way_42 : decode cX1_way 42 = .ok (.iload_n 2, 1) := dk_28 (dk_at dksX1_way_1 18 rfl rfl)
theorem dX1_way_43 : decode cX1_way 43 = .ok (.invokevirtual 277, 3) := dk_182 1 21 (dk_at dksX1_way_1 19 rfl rfl)
theorem dX1_way_46 : decode cX1_way 46 = .ok (.goto 5, 3) := dk_167 0 5 (dk_at dksX1_way_2 0 rfl rfl)
theorem dX1_way_49 : decode cX1_way 49 = .ok (.bipush (-2), 2) := dk_16 254 (dk_at dksX1_way_2 3 rfl rfl)
theorem dX1_way_51 : decode cX1_way 51 = .ok (.ireturn, 1) := dk_172 (dk_at dksX1_way_2 5 rfl rfl)
abbrev cX1_through : ByteArray := prog_1_method_32_code
def yX1_through : MethodName := ⟨RX1, "through", "(II)I"⟩
def dkwX1_through_1 : List UInt8 := [167, 0, 8, 42, 4, 182, 0, 81, 172]
abbrev dktX1_through_1 : List UInt8 := dkwX1_through_1 ++ []
def dkwX1_through_0 : List UInt8 := [42, 182, 0, 67, 42, 27, 28, 182, 0, 129, 153, 0, 16, 42, 27, 28, 182, 1, 31, 17, 3, 232, 108]
abbrev dktX1_through_0 : List UInt8 := dkwX1_through_0 ++ dktX1_through_1
theorem dksX1_through_0 : cX1_through.data.toList.drop 0 = dktX1_through_0 := by decide +kernel
theorem dksX1_through_1 : cX1_through.data.toList.drop 23 = dktX1_through_1 := dk_seg dksX1_through_0 23 rfl rfl
theorem dX1_through_0 : decode cX1_through 0 = .ok (.aload_n 0, 1) := dk_42 (dk_at dksX1_through_0 0 rfl rfl)
theorem dX1_through_1 : decode cX1_through 1 = .ok (.invokevirtual 67, 3) := dk_182 0 67 (dk_at dksX1_through_0 1 rfl rfl)
theorem dX1_through_4 : decode cX1_through 4 = .ok (.aload_n 0, 1) := dk_42 (dk_at dksX1_through_0 4 rfl rfl)
theorem dX1_through_5 : decode cX1_through 5 = .ok (.iload_n 1, 1) := dk_27 (dk_at dksX1_through_0 5 rfl rfl)
theorem dX1_through_6 : decode cX1_through 6 = .ok (.iload_n 2, 1) := dk_28 (dk_at dksX1_through_0 6 rfl rfl)
theorem dX1_through_7 : decode cX1_through 7 = .ok (.invokevirtual 129, 3) := dk_182 0 129 (dk_at dksX1_through_0 7 rfl rfl)
theorem dX1_through_10 : decode cX1_through 10 = .ok (.ifCond .eq 16, 3) := dk_153 0 16 (dk_at dksX1_through_0 10 rfl rfl)
theorem dX1_through_13 : decode cX1_through 13 = .ok (.aload_n 0, 1) := dk_42 (dk_at dksX1_through_0 13 rfl rfl)
theorem dX1_through_14 : decode cX1_through 14 = .ok (.iload_n 1, 1) := dk_27 (dk_at dksX1_through_0 14 rfl rfl)
theorem dX1_through_15 : decode cX1_through 15 = .ok (.iload_n 2, 1) := dk_28 (dk_at dksX1_through_0 15 rfl rfl)
theorem dX1_through_16 : decode cX1_through 16 = .ok (.invokevirtual 287, 3) := dk_182 1 31 (dk_at dksX1_through_0 16 rfl rfl)
theorem dX1_through_19 : decode cX1_through 19 = .ok (.sipush 1000, 3) := dk_17 3 232 (dk_at dksX1_through_0 19 rfl rfl)
theorem dX1_through_22 : decode cX1_through 22 = .ok (.idiv, 1) := dk_108 (dk_at dksX1_through_0 22 rfl rfl)
theorem dX1_through_23 : decode cX1_through 23 = .ok (.goto 8, 3) := dk_167 0 8 (dk_at dksX1_through_1 0 rfl rfl)
theorem dX1_through_26 : decode cX1_through 26 = .ok (.aload_n 0, 1) := dk_42 (dk_at dksX1_through_1 3 rfl rfl)
theorem dX1_through_27 : decode cX1_through 27 = .ok (.iconst 1, 1) := dk_4 (dk_at dksX1_through_1 4 rfl rfl)
theorem dX1_through_28 : decode cX1_through 28 = .ok (.invokevirtual 81, 3) := dk_182 0 81 (dk_at dksX1_through_1 5 rfl rfl)
theorem dX1_through_31 : decode cX1_through 31 = .ok (.ireturn, 1) := dk_172 (dk_at dksX1_through_1 8 rfl rfl)
abbrev cX1_throughTo : ByteArray := prog_1_method_31_code
def yX1_throughTo : MethodName := ⟨RX1, "throughTo", "(II)I"⟩
def dkwX1_throughTo_2 : List UInt8 := [167, 0, 11, 42, 180, 0, 42, 28, 182, 1, 28, 172]
abbrev dktX1_throughTo_2 : List UInt8 := dkwX1_throughTo_2 ++ []
def dkwX1_throughTo_1 : List UInt8 := [27, 182, 0, 122, 182, 1, 24, 28, 154, 0, 18, 42, 180, 0, 42, 4, 182, 1, 28, 17, 3, 232, 96]
abbrev dktX1_throughTo_1 : List UInt8 := dkwX1_throughTo_1 ++ dktX1_throughTo_2
def dkwX1_throughTo_0 : List UInt8 := [42, 180, 0, 29, 27, 182, 0, 122, 180, 0, 126, 154, 0, 5, 3, 172, 42, 180, 0, 42, 42, 180, 0, 29]
abbrev dktX1_throughTo_0 : List UInt8 := dkwX1_throughTo_0 ++ dktX1_throughTo_1
theorem dksX1_throughTo_0 : cX1_throughTo.data.toList.drop 0 = dktX1_throughTo_0 := by decide +kernel
theorem dksX1_throughTo_1 : cX1_throughTo.data.toList.drop 24 = dktX1_throughTo_1 := dk_seg dksX1_throughTo_0 24 rfl rfl
theorem dksX1_throughTo_2 : cX1_throughTo.data.toList.drop 47 = dktX1_throughTo_2 := dk_seg dksX1_throughTo_1 23 rfl rfl
theorem dX1_throughTo_0 : decode cX1_throughTo 0 = .ok (.aload_n 0, 1) := dk_42 (dk_at dksX1_throughTo_0 0 rfl rfl)
theorem dX1_throughTo_1 : decode cX1_throughTo 1 = .ok (.getfield 29, 3) := dk_180 0 29 (dk_at dksX1_throughTo_0 1 rfl rfl)
theorem dX1_throughTo_4 : decode cX1_throughTo 4 = .ok (.iload_n 1, 1) := dk_27 (dk_at dksX1_throughTo_0 4 rfl rfl)
theorem dX1_throughTo_5 : decode cX1_throughTo 5 = .ok (.invokevirtual 122, 3) := dk_182 0 122 (dk_at dksX1_throughTo_0 5 rfl rfl)
theorem dX1_throughTo_8 : decode cX1_throughTo 8 = .ok (.getfield 126, 3) := dk_180 0 126 (dk_at dksX1_throughTo_0 8 rfl rfl)
theorem dX1_throughTo_11 : decode cX1_throughTo 11 = .ok (.ifCond .ne 5, 3) := dk_154 0 5 (dk_at dksX1_throughTo_0 11 rfl rfl)
theorem dX1_throughTo_14 : decode cX1_throughTo 14 = .ok (.iconst 0, 1) := dk_3 (dk_at dksX1_throughTo_0 14 rfl rfl)
theorem dX1_throughTo_15 : decode cX1_throughTo 15 = .ok (.ireturn, 1) := dk_172 (dk_at dksX1_throughTo_0 15 rfl rfl)
theorem dX1_throughTo_16 : decode cX1_throughTo 16 = .ok (.aload_n 0, 1) := dk_42 (dk_at dksX1_throughTo_0 16 rfl rfl)
theorem dX1_throughTo_17 : decode cX1_throughTo 17 = .ok (.getfield 42, 3) := dk_180 0 42 (dk_at dksX1_throughTo_0 17 rfl rfl)
theorem dX1_throughTo_20 : decode cX1_throughTo 20 = .ok (.aload_n 0, 1) := dk_42 (dk_at dksX1_throughTo_0 20 rfl rfl)
theorem dX1_throughTo_21 : decode cX1_throughTo 21 = .ok (.getfield 29, 3) := dk_180 0 29 (dk_at dksX1_throughTo_0 21 rfl rfl)
theorem dX1_throughTo_24 : decode cX1_throughTo 24 = .ok (.iload_n 1, 1) := dk_27 (dk_at dksX1_throughTo_1 0 rfl rfl)
theorem dX1_throughTo_25 : decode cX1_throughTo 25 = .ok (.invokevirtual 122, 3) := dk_182 0 122 (dk_at dksX1_throughTo_1 1 rfl rfl)
theorem dX1_throughTo_28 : decode cX1_throughTo 28 = .ok (.invokevirtual 280, 3) := dk_182 1 24 (dk_at dksX1_throughTo_1 4 rfl rfl)
theorem dX1_throughTo_31 : decode cX1_throughTo 31 = .ok (.iload_n 2, 1) := dk_28 (dk_at dksX1_throughTo_1 7 rfl rfl)
theorem dX1_throughTo_32 : decode cX1_throughTo 32 = .ok (.ifCond .ne 18, 3) := dk_154 0 18 (dk_at dksX1_throughTo_1 8 rfl rfl)
theorem dX1_throughTo_35 : decode cX1_throughTo 35 = .ok (.aload_n 0, 1) := dk_42 (dk_at dksX1_throughTo_1 11 rfl rfl)
theorem dX1_throughTo_36 : decode cX1_throughTo 36 = .ok (.getfield 42, 3) := dk_180 0 42 (dk_at dksX1_throughTo_1 12 rfl rfl)
theorem dX1_throughTo_39 : decode cX1_throughTo 39 = .ok (.iconst 1, 1) := dk_4 (dk_at dksX1_throughTo_1 15 rfl rfl)
theorem dX1_throughTo_40 : decode cX1_throughTo 40 = .ok (.invokevirtual 284, 3) := dk_182 1 28 (dk_at dksX1_throughTo_1 16 rfl rfl)
theorem dX1_throughTo_43 : decode cX1_throughTo 43 = .ok (.sipush 1000, 3) := dk_17 3 232 (dk_at dksX1_throughTo_1 19 rfl rfl)
theorem dX1_throughTo_46 : decode cX1_throughTo 46 = .ok (.iadd, 1) := dk_96 (dk_at dksX1_throughTo_1 22 rfl rfl)
theorem dX1_throughTo_47 : decode cX1_throughTo 47 = .ok (.goto 11, 3) := dk_167 0 11 (dk_at dksX1_throughTo_2 0 rfl rfl)
theorem dX1_throughTo_50 : decode cX1_throughTo 50 = .ok (.aload_n 0, 1) := dk_42 (dk_at dksX1_throughTo_2 3 rfl rfl)
theorem dX1_throughTo_51 : decode cX1_throughTo 51 = .ok (.getfield 42, 3) := dk_180 0 42 (dk_at dksX1_throughTo_2 4 rfl rfl)
theorem dX1_throughTo_54 : decode cX1_throughTo 54 = .ok (.iload_n 2, 1) := dk_28 (dk_at dksX1_throughTo_2 7 rfl rfl)
theorem dX1_throughTo_55 : decode cX1_throughTo 55 = .ok (.invokevirtual 284, 3) := dk_182 1 28 (dk_at dksX1_throughTo_2 8 rfl rfl)
theorem dX1_throughTo_58 : decode cX1_throughTo 58 = .ok (.ireturn, 1) := dk_172 (dk_at dksX1_throughTo_2 11 rfl rfl)
abbrev cX1_breaks : ByteArray := prog_1_method_33_code
def yX1_breaks : MethodName := ⟨RX1, "breaks", "(II)I"⟩
def dkwX1_breaks_1 : List UInt8 := [167, 0, 8, 42, 4, 182, 0, 81, 172]
abbrev dktX1_breaks_1 : List UInt8 := dkwX1_breaks_1 ++ []
def dkwX1_breaks_0 : List UInt8 := [42, 182, 0, 67, 42, 27, 28, 182, 0, 129, 153, 0, 16, 42, 27, 28, 182, 1, 31, 17, 3, 232, 112]
abbrev dktX1_breaks_0 : List UInt8 := dkwX1_breaks_0 ++ dktX1_breaks_1
theorem dksX1_breaks_0 : cX1_breaks.data.toList.drop 0 = dktX1_breaks_0 := by decide +kernel
theorem dksX1_breaks_1 : cX1_breaks.data.toList.drop 23 = dktX1_breaks_1 := dk_seg dksX1_breaks_0 23 rfl rfl
theorem dX1_breaks_0 : decode cX1_breaks 0 = .ok (.aload_n 0, 1) := dk_42 (dk_at dksX1_breaks_0 0 rfl rfl)
theorem dX1_breaks_1 : decode cX1_breaks 1 = .ok (.invokevirtual 67, 3) := dk_182 0 67 (dk_at dksX1_breaks_0 1 rfl rfl)
theorem dX1_breaks_4 : decode cX1_breaks 4 = .ok (.aload_n 0, 1) := dk_42 (dk_at dksX1_breaks_0 4 rfl rfl)
theorem dX1_breaks_5 : decode cX1_breaks 5 = .ok (.iload_n 1, 1) := dk_27 (dk_at dksX1_breaks_0 5 rfl rfl)
theorem dX1_breaks_6 : decode cX1_breaks 6 = .ok (.iload_n 2, 1) := dk_28 (dk_at dksX1_breaks_0 6 rfl rfl)
theorem dX1_breaks_7 : decode cX1_breaks 7 = .ok (.invokevirtual 129, 3) := dk_182 0 129 (dk_at dksX1_breaks_0 7 rfl rfl)
theorem dX1_breaks_10 : decode cX1_breaks 10 = .ok (.ifCond .eq 16, 3) := dk_153 0 16 (dk_at dksX1_breaks_0 10 rfl rfl)
theorem dX1_breaks_13 : decode cX1_breaks 13 = .ok (.aload_n 0, 1) := dk_42 (dk_at dksX1_breaks_0 13 rfl rfl)
theorem dX1_breaks_14 : decode cX1_breaks 14 = .ok (.iload_n 1, 1) := dk_27 (dk_at dksX1_breaks_0 14 rfl rfl)
theorem dX1_breaks_15 : decode cX1_breaks 15 = .ok (.iload_n 2, 1) := dk_28 (dk_at dksX1_breaks_0 15 rfl rfl)
theorem dX1_breaks_16 : decode cX1_breaks 16 = .ok (.invokevirtual 287, 3) := dk_182 1 31 (dk_at dksX1_breaks_0 16 rfl rfl)
theorem dX1_breaks_19 : decode cX1_breaks 19 = .ok (.sipush 1000, 3) := dk_17 3 232 (dk_at dksX1_breaks_0 19 rfl rfl)
theorem dX1_breaks_22 : decode cX1_breaks 22 = .ok (.irem, 1) := dk_112 (dk_at dksX1_breaks_0 22 rfl rfl)
theorem dX1_breaks_23 : decode cX1_breaks 23 = .ok (.goto 8, 3) := dk_167 0 8 (dk_at dksX1_breaks_1 0 rfl rfl)
theorem dX1_breaks_26 : decode cX1_breaks 26 = .ok (.aload_n 0, 1) := dk_42 (dk_at dksX1_breaks_1 3 rfl rfl)
theorem dX1_breaks_27 : decode cX1_breaks 27 = .ok (.iconst 1, 1) := dk_4 (dk_at dksX1_breaks_1 4 rfl rfl)
theorem dX1_breaks_28 : decode cX1_breaks 28 = .ok (.invokevirtual 81, 3) := dk_182 0 81 (dk_at dksX1_breaks_1 5 rfl rfl)
theorem dX1_breaks_31 : decode cX1_breaks 31 = .ok (.ireturn, 1) := dk_172 (dk_at dksX1_breaks_1 8 rfl rfl)
abbrev cX1_round : ByteArray := prog_1_method_34_code
def yX1_round : MethodName := ⟨RX1, "round", "(II)I"⟩
def dkwX1_round_1 : List UInt8 := [182, 0, 122, 28, 182, 1, 34, 167, 0, 8, 42, 4, 182, 0, 81, 172]
abbrev dktX1_round_1 : List UInt8 := dkwX1_round_1 ++ []
def dkwX1_round_0 : List UInt8 := [42, 182, 0, 67, 42, 27, 28, 182, 0, 197, 153, 0, 23, 28, 4, 164, 0, 18, 42, 180, 0, 29, 27]
abbrev dktX1_round_0 : List UInt8 := dkwX1_round_0 ++ dktX1_round_1
theorem dksX1_round_0 : cX1_round.data.toList.drop 0 = dktX1_round_0 := by decide +kernel
theorem dksX1_round_1 : cX1_round.data.toList.drop 23 = dktX1_round_1 := dk_seg dksX1_round_0 23 rfl rfl
theorem dX1_round_0 : decode cX1_round 0 = .ok (.aload_n 0, 1) := dk_42 (dk_at dksX1_round_0 0 rfl rfl)
theorem dX1_round_1 : decode cX1_round 1 = .ok (.invokevirtual 67, 3) := dk_182 0 67 (dk_at dksX1_round_0 1 rfl rfl)
theorem dX1_round_4 : decode cX1_round 4 = .ok (.aload_n 0, 1) := dk_42 (dk_at dksX1_round_0 4 rfl rfl)
theorem dX1_round_5 : decode cX1_round 5 = .ok (.iload_n 1, 1) := dk_27 (dk_at dksX1_round_0 5 rfl rfl)
theorem dX1_round_6 : decode cX1_round 6 = .ok (.iload_n 2, 1) := dk_28 (dk_at dksX1_round_0 6 rfl rfl)
theorem dX1_round_7 : decode cX1_round 7 = .ok (.invokevirtual 197, 3) := dk_182 0 197 (dk_at dksX1_round_0 7 rfl rfl)
theorem dX1_round_10 : decode cX1_round 10 = .ok (.ifCond .eq 23, 3) := dk_153 0 23 (dk_at dksX1_round_0 10 rfl rfl)
theorem dX1_round_13 : decode cX1_round 13 = .ok (.iload_n 2, 1) := dk_28 (dk_at dksX1_round_0 13 rfl rfl)
theorem dX1_round_14 : decode cX1_round 14 = .ok (.iconst 1, 1) := dk_4 (dk_at dksX1_round_0 14 rfl rfl)
theorem dX1_round_15 : decode cX1_round 15 = .ok (.if_icmp .le 18, 3) := dk_164 0 18 (dk_at dksX1_round_0 15 rfl rfl)
theorem dX1_round_18 : decode cX1_round 18 = .ok (.aload_n 0, 1) := dk_42 (dk_at dksX1_round_0 18 rfl rfl)
theorem dX1_round_19 : decode cX1_round 19 = .ok (.getfield 29, 3) := dk_180 0 29 (dk_at dksX1_round_0 19 rfl rfl)
theorem dX1_round_22 : decode cX1_round 22 = .ok (.iload_n 1, 1) := dk_27 (dk_at dksX1_round_0 22 rfl rfl)
theorem dX1_round_23 : decode cX1_round 23 = .ok (.invokevirtual 122, 3) := dk_182 0 122 (dk_at dksX1_round_1 0 rfl rfl)
theorem dX1_round_26 : decode cX1_round 26 = .ok (.iload_n 2, 1) := dk_28 (dk_at dksX1_round_1 3 rfl rfl)
theorem dX1_round_27 : decode cX1_round 27 = .ok (.invokevirtual 290, 3) := dk_182 1 34 (dk_at dksX1_round_1 4 rfl rfl)
theorem dX1_round_30 : decode cX1_round 30 = .ok (.goto 8, 3) := dk_167 0 8 (dk_at dksX1_round_1 7 rfl rfl)
theorem dX1_round_33 : decode cX1_round 33 = .ok (.aload_n 0, 1) := dk_42 (dk_at dksX1_round_1 10 rfl rfl)
theorem dX1_round_34 : decode cX1_round 34 = .ok (.iconst 1, 1) := dk_4 (dk_at dksX1_round_1 11 rfl rfl)
theorem dX1_round_35 : decode cX1_round 35 = .ok (.invokevirtual 81, 3) := dk_182 0 81 (dk_at dksX1_round_1 12 rfl rfl)
theorem dX1_round_38 : decode cX1_round 38 = .ok (.ireturn, 1) := dk_172 (dk_at dksX1_round_1 15 rfl rfl)
abbrev cX1_in : ByteArray := prog_1_method_36_code
def yX1_in : MethodName := ⟨RX1, "in", "(III)I"⟩
def dkwX1_in_5 : List UInt8 := [4, 167, 0, 4, 3, 172]
abbrev dktX1_in_5 : List UInt8 := dkwX1_in_5 ++ []
def dkwX1_in_4 : List UInt8 := [29, 6, 160, 0, 11, 25, 5, 182, 1, 43, 167, 0, 19, 42, 180, 0, 36, 27, 182, 0, 190, 153, 0, 7]
abbrev dktX1_in_4 : List UInt8 := dkwX1_in_4 ++ dktX1_in_5
def dkwX1_in_3 : List UInt8 := [160, 0, 11, 25, 5, 180, 0, 175, 167, 0, 45, 29, 5, 160, 0, 11, 25, 5, 180, 0, 178, 167, 0, 32]
abbrev dktX1_in_3 : List UInt8 := dkwX1_in_3 ++ dktX1_in_4
def dkwX1_in_2 : List UInt8 := [180, 0, 36, 27, 182, 0, 122, 58, 5, 29, 154, 0, 11, 25, 5, 180, 0, 126, 167, 0, 58, 29, 4]
abbrev dktX1_in_2 : List UInt8 := dkwX1_in_2 ++ dktX1_in_3
def dkwX1_in_1 : List UInt8 := [182, 0, 81, 172, 42, 28, 182, 1, 40, 54, 4, 21, 4, 153, 0, 10, 42, 21, 4, 182, 0, 81, 172, 42]
abbrev dktX1_in_1 : List UInt8 := dkwX1_in_1 ++ dktX1_in_2
def dkwX1_in_0 : List UInt8 := [42, 182, 0, 67, 42, 27, 182, 0, 118, 153, 0, 12, 29, 3, 7, 184, 0, 77, 154, 0, 9, 42, 4]
abbrev dktX1_in_0 : List UInt8 := dkwX1_in_0 ++ dktX1_in_1
theorem dksX1_in_0 : cX1_in.data.toList.drop 0 = dktX1_in_0 := by decide +kernel
theorem dksX1_in_1 : cX1_in.data.toList.drop 23 = dktX1_in_1 := dk_seg dksX1_in_0 23 rfl rfl
theorem dksX1_in_2 : cX1_in.data.toList.drop 47 = dktX1_in_2 := dk_seg dksX1_in_1 24 rfl rfl
theorem dksX1_in_3 : cX1_in.data.toList.drop 70 = dktX1_in_3 := dk_seg dksX1_in_2 23 rfl rfl
theorem dksX1_in_4 : cX1_in.data.toList.drop 94 = dktX1_in_4 := dk_seg dksX1_in_3 24 rfl rfl
theorem dksX1_in_5 : cX1_in.data.toList.drop 118 = dktX1_in_5 := dk_seg dksX1_in_4 24 rfl rfl
theorem dX1_in_0 : decode cX1_in 0 = .ok (.aload_n 0, 1) := dk_42 (dk_at dksX1_in_0 0 rfl rfl)
theorem dX1_in_1 : decode cX1_in 1 = .ok (.invokevirtual 67, 3) := dk_182 0 67 (dk_at dksX1_in_0 1 rfl rfl)
theorem dX1_in_4 : decode cX1_in 4 = .ok (.aload_n 0, 1) := dk_42 (dk_at dksX1_in_0 4 rfl rfl)
theorem dX1_in_5 : decode cX1_in 5 = .ok (.iload_n 1, 1) := dk_27 (dk_at dksX1_in_0 5 rfl rfl)
theorem dX1_in_6 : decode cX1_in 6 = .ok (.invokevirtual 118, 3) := dk_182 0 118 (dk_at dksX1_in_0 6 rfl rfl)
theorem dX1_in_9 : decode cX1_in 9 = .ok (.ifCond .eq 12, 3) := dk_153 0 12 (dk_at dksX1_in_0 9 rfl rfl)
theorem dX1_in_12 : decode cX1_in 12 = .ok (.iload_n 3, 1) := dk_29 (dk_at dksX1_in_0 12 rfl rfl)
theorem dX1_in_13 : decode cX1_in 13 = .ok (.iconst 0, 1) := dk_3 (dk_at dksX1_in_0 13 rfl rfl)
theorem dX1_in_14 : decode cX1_in 14 = .ok (.iconst 4, 1) := dk_7 (dk_at dksX1_in_0 14 rfl rfl)
theorem dX1_in_15 : decode cX1_in 15 = .ok (.invokestatic 77, 3) := dk_184 0 77 (dk_at dksX1_in_0 15 rfl rfl)
theorem dX1_in_18 : decode cX1_in 18 = .ok (.ifCond .ne 9, 3) := dk_154 0 9 (dk_at dksX1_in_0 18 rfl rfl)
theorem dX1_in_21 : decode cX1_in 21 = .ok (.aload_n 0, 1) := dk_42 (dk_at dksX1_in_0 21 rfl rfl)
theorem dX1_in_22 : decode cX1_in 22 = .ok (.iconst 1, 1) := dk_4 (dk_at dksX1_in_0 22 rfl rfl)
theorem dX1_in_23 : decode cX1_in 23 = .ok (.invokevirtual 81, 3) := dk_182 0 81 (dk_at dksX1_in_1 0 rfl rfl)
theorem dX1_in_26 : decode cX1_in 26 = .ok (.ireturn, 1) := dk_172 (dk_at dksX1_in_1 3 rfl rfl)
theorem dX1_in_27 : decode cX1_in 27 = .ok (.aload_n 0, 1) := dk_42 (dk_at dksX1_in_1 4 rfl rfl)
theorem dX1_in_28 : decode cX1_in 28 = .ok (.iload_n 2, 1) := dk_28 (dk_at dksX1_in_1 5 rfl rfl)
theorem dX1_in_29 : decode cX1_in 29 = .ok (.invokevirtual 296, 3) := dk_182 1 40 (dk_at dksX1_in_1 6 rfl rfl)
theorem dX1_in_32 : decode cX1_in 32 = .ok (.istore 4, 2) := dk_54 4 (dk_at dksX1_in_1 9 rfl rfl)
theorem dX1_in_34 : decode cX1_in 34 = .ok (.iload 4, 2) := dk_21 4 (dk_at dksX1_in_1 11 rfl rfl)
theorem dX1_in_36 : decode cX1_in 36 = .ok (.ifCond .eq 10, 3) := dk_153 0 10 (dk_at dksX1_in_1 13 rfl rfl)
theorem dX1_in_39 : decode cX1_in 39 = .ok (.aload_n 0, 1) := dk_42 (dk_at dksX1_in_1 16 rfl rfl)
theorem dX1_in_40 : decode cX1_in 40 = .ok (.iload 4, 2) := dk_21 4 (dk_at dksX1_in_1 17 rfl rfl)
theorem dX1_in_42 : decode cX1_in 42 = .ok (.invokevirtual 81, 3) := dk_182 0 81 (dk_at dksX1_in_1 19 rfl rfl)
theorem dX1_in_45 : decode cX1_in 45 = .ok (.ireturn, 1) := dk_172 (dk_at dksX1_in_1 22 rfl rfl)
theorem dX1_in_46 : decode cX1_in 46 = .ok (.aload_n 0, 1) := dk_42 (dk_at dksX1_in_1 23 rfl rfl)
theorem dX1_in_47 : decode cX1_in 47 = .ok (.getfield 36, 3) := dk_180 0 36 (dk_at dksX1_in_2 0 rfl rfl)
theorem dX1_in_50 : decode cX1_in 50 = .ok (.iload_n 1, 1) := dk_27 (dk_at dksX1_in_2 3 rfl rfl)
theorem dX1_in_51 : decode cX1_in 51 = .ok (.invokevirtual 122, 3) := dk_182 0 122 (dk_at dksX1_in_2 4 rfl rfl)
theorem dX1_in_54 : decode cX1_in 54 = .ok (.astore 5, 2) := dk_58 5 (dk_at dksX1_in_2 7 rfl rfl)
theorem dX1_in_56 : decode cX1_in 56 = .ok (.iload_n 3, 1) := dk_29 (dk_at dksX1_in_2 9 rfl rfl)
theorem dX1_in_57 : decode cX1_in 57 = .ok (.ifCond .ne 11, 3) := dk_154 0 11 (dk_at dksX1_in_2 10 rfl rfl)
theorem dX1_in_60 : decode cX1_in 60 = .ok (.aload 5, 2) := dk_25 5 (dk_at dksX1_in_2 13 rfl rfl)
theorem dX1_in_62 : decode cX1_in 62 = .ok (.getfield 126, 3) := dk_180 0 126 (dk_at dksX1_in_2 15 rfl rfl)
theorem dX1_in_65 : decode cX1_in 65 = .ok (.goto 58, 3) := dk_167 0 58 (dk_at dksX1_in_2 18 rfl rfl)
theorem dX1_in_68 : decode cX1_in 68 = .ok (.iload_n 3, 1) := dk_29 (dk_at dksX1_in_2 21 rfl rfl)
theorem dX1_in_69 : decode cX1_in 69 = .ok (.iconst 1, 1) := dk_4 (dk_at dksX1_in_2 22 rfl rfl)
theorem dX1_in_70 : decode cX1_in 70 = .ok (.if_icmp .ne 11, 3) := dk_160 0 11 (dk_at dksX1_in_3 0 rfl rfl)
theorem dX1_in_73 : decode cX1_in 73 = .ok (.aload 5, 2) := dk_25 5 (dk_at dksX1_in_3 3 rfl rfl)
theorem dX1_in_75 : decode cX1_in 75 = .ok (.getfield 175, 3) := dk_180 0 175 (dk_at dksX1_in_3 5 rfl rfl)
theorem dX1_in_78 : decode cX1_in 78 = .ok (.goto 45, 3) := dk_167 0 45 (dk_at dksX1_in_3 8 rfl rfl)
theorem dX1_in_81 : decode cX1_in 81 = .ok (.iload_n 3, 1) := dk_29 (dk_at dksX1_in_3 11 rfl rfl)
theorem dX1_in_82 : decode cX1_in 82 = .ok (.iconst 2, 1) := dk_5 (dk_at dksX1_in_3 12 rfl rfl)
theorem dX1_in_83 : decode cX1_in 83 = .ok (.if_icmp .ne 11, 3) := dk_160 0 11 (dk_at dksX1_in_3 13 rfl rfl)
theorem dX1_in_86 : decode cX1_in 86 = .ok (.aload 5, 2) := dk_25 5 (dk_at dksX1_in_3 16 rfl rfl)
theorem dX1_in_88 : decode cX1_in 88 = .ok (.getfield 178, 3) := dk_180 0 178 (dk_at dksX1_in_3 18 rfl rfl)
theorem dX1_in_91 : decode cX1_in 91 = .ok (.goto 32, 3) := dk_167 0 32 (dk_at dksX1_in_3 21 rfl rfl)
theorem dX1_in_94 : decode cX1_in 94 = .ok (.iload_n 3, 1) := dk_29 (dk_at dksX1_in_4 0 rfl rfl)
theorem dX1_in_95 : decode cX1_in 95 = .ok (.iconst 3, 1) := dk_6 (dk_at dksX1_in_4 1 rfl rfl)
theorem dX1_in_96 : decode cX1_in 96 = .ok (.if_icmp .ne 11, 3) := dk_160 0 11 (dk_at dksX1_in_4 2 rfl rfl)
theorem dX1_in_99 : decode cX1_in 99 = .ok (.aload 5, 2) := dk_25 5 (dk_at dksX1_in_4 5 rfl rfl)
theorem dX1_in_101 : decode cX1_in 101 = .ok (.invokevirtual 299, 3) := dk_182 1 43 (dk_at dksX1_in_4 7 rfl rfl)
theorem dX1_in_104 : decode cX1_in 104 = .ok (.goto 19, 3) := dk_167 0 19 (dk_at dksX1_in_4 10 rfl rfl)
theorem dX1_in_107 : decode cX1_in 107 = .ok (.aload_n 0, 1) := dk_42 (dk_at dksX1_in_4 13 rfl rfl)
theorem dX1_in_108 : decode cX1_in 108 = .ok (.getfield 36, 3) := dk_180 0 36 (dk_at dksX1_in_4 14 rfl rfl)
theorem dX1_in_111 : decode cX1_in 111 = .ok (.iload_n 1, 1) := dk_27 (dk_at dksX1_in_4 17 rfl rfl)
theorem dX1_in_112 : decode cX1_in 112 = .ok (.invokevirtual 190, 3) := dk_182 0 190 (dk_at dksX1_in_4 18 rfl rfl)
theorem dX1_in_115 : decode cX1_in 115 = .ok (.ifCond .eq 7, 3) := dk_153 0 7 (dk_at dksX1_in_4 21 rfl rfl)
theorem dX1_in_118 : decode cX1_in 118 = .ok (.iconst 1, 1) := dk_4 (dk_at dksX1_in_5 0 rfl rfl)
theorem dX1_in_119 : decode cX1_in 119 = .ok (.goto 4, 3) := dk_167 0 4 (dk_at dksX1_in_5 1 rfl rfl)
theorem dX1_in_122 : decode cX1_in 122 = .ok (.iconst 0, 1) := dk_3 (dk_at dksX1_in_5 4 rfl rfl)
theorem dX1_in_123 : decode cX1_in 123 = .ok (.ireturn, 1) := dk_172 (dk_at dksX1_in_5 5 rfl rfl)
abbrev cX1_inWhy : ByteArray := prog_1_method_35_code
def yX1_inWhy : MethodName := ⟨RX1, "inWhy", "(I)I"⟩
def dkwX1_inWhy_1 : List UInt8 := [180, 0, 36, 27, 182, 1, 37, 3, 172]
abbrev dktX1_inWhy_1 : List UInt8 := dkwX1_inWhy_1 ++ []
def dkwX1_inWhy_0 : List UInt8 := [27, 3, 16, 60, 184, 0, 77, 154, 0, 5, 5, 172, 42, 180, 0, 36, 42, 180, 0, 29, 182, 0, 105, 42]
abbrev dktX1_inWhy_0 : List UInt8 := dkwX1_inWhy_0 ++ dktX1_inWhy_1
theorem dksX1_inWhy_0 : cX1_inWhy.data.toList.drop 0 = dktX1_inWhy_0 := by decide +kernel
theorem dksX1_inWhy_1 : cX1_inWhy.data.toList.drop 24 = dktX1_inWhy_1 := dk_seg dksX1_inWhy_0 24 rfl rfl
theorem dX1_inWhy_0 : decode cX1_inWhy 0 = .ok (.iload_n 1, 1) := dk_27 (dk_at dksX1_inWhy_0 0 rfl rfl)
theorem dX1_inWhy_1 : decode cX1_inWhy 1 = .ok (.iconst 0, 1) := dk_3 (dk_at dksX1_inWhy_0 1 rfl rfl)
theorem dX1_inWhy_2 : decode cX1_inWhy 2 = .ok (.bipush 60, 2) := dk_16 60 (dk_at dksX1_inWhy_0 2 rfl rfl)
theorem dX1_inWhy_4 : decode cX1_inWhy 4 = .ok (.invokestatic 77, 3) := dk_184 0 77 (dk_at dksX1_inWhy_0 4 rfl rfl)
theorem dX1_inWhy_7 : decode cX1_inWhy 7 = .ok (.ifCond .ne 5, 3) := dk_154 0 5 (dk_at dksX1_inWhy_0 7 rfl rfl)
theorem dX1_inWhy_10 : decode cX1_inWhy 10 = .ok (.iconst 2, 1) := dk_5 (dk_at dksX1_inWhy_0 10 rfl rfl)
theorem dX1_inWhy_11 : decode cX1_inWhy 11 = .ok (.ireturn, 1) := dk_172 (dk_at dksX1_inWhy_0 11 rfl rfl)
theorem dX1_inWhy_12 : decode cX1_inWhy 12 = .ok (.aload_n 0, 1) := dk_42 (dk_at dksX1_inWhy_0 12 rfl rfl)
theorem dX1_inWhy_13 : decode cX1_inWhy 13 = .ok (.getfield 36, 3) := dk_180 0 36 (dk_at dksX1_inWhy_0 13 rfl rfl)
theorem dX1_inWhy_16 : decode cX1_inWhy 16 = .ok (.aload_n 0, 1) := dk_42 (dk_at dksX1_inWhy_0 16 rfl rfl)
theorem dX1_inWhy_17 : decode cX1_inWhy 17 = .ok (.getfield 29, 3) := dk_180 0 29 (dk_at dksX1_inWhy_0 17 rfl rfl)
theorem dX1_inWhy_20 : decode cX1_inWhy 20 = .ok (.invokevirtual 105, 3) := dk_182 0 105 (dk_at dksX1_inWhy_0 20 rfl rfl)
theorem dX1_inWhy_23 : decode cX1_inWhy 23 = .ok (.aload_n 0, 1) := dk_42 (dk_at dksX1_inWhy_0 23 rfl rfl)
theorem dX1_inWhy_24 : decode cX1_inWhy 24 = .ok (.getfield 36, 3) := dk_180 0 36 (dk_at dksX1_inWhy_1 0 rfl rfl)
theorem dX1_inWhy_27 : decode cX1_inWhy 27 = .ok (.iload_n 1, 1) := dk_27 (dk_at dksX1_inWhy_1 3 rfl rfl)
theorem dX1_inWhy_28 : decode cX1_inWhy 28 = .ok (.invokevirtual 293, 3) := dk_182 1 37 (dk_at dksX1_inWhy_1 4 rfl rfl)
theorem dX1_inWhy_31 : decode cX1_inWhy 31 = .ok (.iconst 0, 1) := dk_3 (dk_at dksX1_inWhy_1 7 rfl rfl)
theorem dX1_inWhy_32 : decode cX1_inWhy 32 = .ok (.ireturn, 1) := dk_172 (dk_at dksX1_inWhy_1 8 rfl rfl)
abbrev cX1_skinsIn : ByteArray := prog_1_method_37_code
def yX1_skinsIn : MethodName := ⟨RX1, "skinsIn", "(I)I"⟩
def dkwX1_skinsIn_1 : List UInt8 := [153, 0, 11, 42, 28, 182, 0, 81, 167, 0, 10, 42, 180, 0, 36, 182, 1, 46, 172]
abbrev dktX1_skinsIn_1 : List UInt8 := dkwX1_skinsIn_1 ++ []
def dkwX1_skinsIn_0 : List UInt8 := [42, 182, 0, 67, 42, 180, 0, 92, 199, 0, 9, 42, 4, 182, 0, 81, 172, 42, 27, 182, 1, 40, 61, 28]
abbrev dktX1_skinsIn_0 : List UInt8 := dkwX1_skinsIn_0 ++ dktX1_skinsIn_1
theorem dksX1_skinsIn_0 : cX1_skinsIn.data.toList.drop 0 = dktX1_skinsIn_0 := by decide +kernel
theorem dksX1_skinsIn_1 : cX1_skinsIn.data.toList.drop 24 = dktX1_skinsIn_1 := dk_seg dksX1_skinsIn_0 24 rfl rfl
theorem dX1_skinsIn_0 : decode cX1_skinsIn 0 = .ok (.aload_n 0, 1) := dk_42 (dk_at dksX1_skinsIn_0 0 rfl rfl)
theorem dX1_skinsIn_1 : decode cX1_skinsIn 1 = .ok (.invokevirtual 67, 3) := dk_182 0 67 (dk_at dksX1_skinsIn_0 1 rfl rfl)
theorem dX1_skinsIn_4 : decode cX1_skinsIn 4 = .ok (.aload_n 0, 1) := dk_42 (dk_at dksX1_skinsIn_0 4 rfl rfl)
theorem dX1_skinsIn_5 : decode cX1_skinsIn 5 = .ok (.getfield 92, 3) := dk_180 0 92 (dk_at dksX1_skinsIn_0 5 rfl rfl)
theorem dX1_skinsIn_8 : decode cX1_skinsIn 8 = .ok (.ifnonnull 9, 3) := dk_199 0 9 (dk_at dksX1_skinsIn_0 8 rfl rfl)
theorem dX1_skinsIn_11 : decode cX1_skinsIn 11 = .ok (.aload_n 0, 1) := dk_42 (dk_at dksX1_skinsIn_0 11 rfl rfl)
theorem dX1_skinsIn_12 : decode cX1_skinsIn 12 = .ok (.iconst 1, 1) := dk_4 (dk_at dksX1_skinsIn_0 12 rfl rfl)
theorem dX1_skinsIn_13 : decode cX1_skinsIn 13 = .ok (.invokevirtual 81, 3) := dk_182 0 81 (dk_at dksX1_skinsIn_0 13 rfl rfl)
theorem dX1_skinsIn_16 : decode cX1_skinsIn 16 = .ok (.ireturn, 1) := dk_172 (dk_at dksX1_skinsIn_0 16 rfl rfl)
theorem dX1_skinsIn_17 : decode cX1_skinsIn 17 = .ok (.aload_n 0, 1) := dk_42 (dk_at dksX1_skinsIn_0 17 rfl rfl)
theorem dX1_skinsIn_18 : decode cX1_skinsIn 18 = .ok (.iload_n 1, 1) := dk_27 (dk_at dksX1_skinsIn_0 18 rfl rfl)
theorem dX1_skinsIn_19 : decode cX1_skinsIn 19 = .ok (.invokevirtual 296, 3) := dk_182 1 40 (dk_at dksX1_skinsIn_0 19 rfl rfl)
theorem dX1_skinsIn_22 : decode cX1_skinsIn 22 = .ok (.istore_n 2, 1) := dk_61 (dk_at dksX1_skinsIn_0 22 rfl rfl)
theorem dX1_skinsIn_23 : decode cX1_skinsIn 23 = .ok (.iload_n 2, 1) := dk_28 (dk_at dksX1_skinsIn_0 23 rfl rfl)
theorem dX1_skinsIn_24 : decode cX1_skinsIn 24 = .ok (.ifCond .eq 11, 3) := dk_153 0 11 (dk_at dksX1_skinsIn_1 0 rfl rfl)
theorem dX1_skinsIn_27 : decode cX1_skinsIn 27 = .ok (.aload_n 0, 1) := dk_42 (dk_at dksX1_skinsIn_1 3 rfl rfl)
theorem dX1_skinsIn_28 : decode cX1_skinsIn 28 = .ok (.iload_n 2, 1) := dk_28 (dk_at dksX1_skinsIn_1 4 rfl rfl)
theorem dX1_skinsIn_29 : decode cX1_skinsIn 29 = .ok (.invokevirtual 81, 3) := dk_182 0 81 (dk_at dksX1_skinsIn_1 5 rfl rfl)
theorem dX1_skinsIn_32 : decode cX1_skinsIn 32 = .ok (.goto 10, 3) := dk_167 0 10 (dk_at dksX1_skinsIn_1 8 rfl rfl)
theorem dX1_skinsIn_35 : decode cX1_skinsIn 35 = .ok (.aload_n 0, 1) := dk_42 (dk_at dksX1_skinsIn_1 11 rfl rfl)
theorem dX1_skinsIn_36 : decode cX1_skinsIn 36 = .ok (.getfield 36, 3) := dk_180 0 36 (dk_at dksX1_skinsIn_1 12 rfl rfl)
theorem dX1_skinsIn_39 : decode cX1_skinsIn 39 = .ok (.invokevirtual 302, 3) := dk_182 1 46 (dk_at dksX1_skinsIn_1 15 rfl rfl)
theorem dX1_skinsIn_42 : decode cX1_skinsIn 42 = .ok (.ireturn, 1) := dk_172 (dk_at dksX1_skinsIn_1 18 rfl rfl)
abbrev cX1_meet : ByteArray := prog_1_method_38_code
def yX1_meet : MethodName := ⟨RX1, "meet", "(III)I"⟩
def dkwX1_meet_4 : List UInt8 := [167, 255, 225, 16, 254, 172]
abbrev dktX1_meet_4 : List UInt8 := dkwX1_meet_4 ++ []
def dkwX1_meet_3 : List UInt8 := [180, 0, 36, 27, 28, 182, 1, 49, 153, 0, 6, 21, 4, 172, 42, 180, 0, 36, 182, 1, 52, 132, 4, 1]
abbrev dktX1_meet_3 : List UInt8 := dkwX1_meet_3 ++ dktX1_meet_4
def dkwX1_meet_2 : List UInt8 := [172, 42, 180, 0, 36, 42, 180, 0, 29, 182, 0, 105, 3, 54, 4, 21, 4, 29, 163, 0, 31, 42]
abbrev dktX1_meet_2 : List UInt8 := dkwX1_meet_2 ++ dktX1_meet_3
def dkwX1_meet_1 : List UInt8 := [160, 0, 9, 42, 4, 182, 0, 81, 172, 29, 3, 16, 60, 184, 0, 77, 154, 0, 9, 42, 5, 182, 0, 81]
abbrev dktX1_meet_1 : List UInt8 := dkwX1_meet_1 ++ dktX1_meet_2
def dkwX1_meet_0 : List UInt8 := [42, 182, 0, 67, 42, 27, 182, 0, 118, 153, 0, 16, 42, 28, 182, 0, 118, 153, 0, 8, 27, 28]
abbrev dktX1_meet_0 : List UInt8 := dkwX1_meet_0 ++ dktX1_meet_1
theorem dksX1_meet_0 : cX1_meet.data.toList.drop 0 = dktX1_meet_0 := by decide +kernel
theorem dksX1_meet_1 : cX1_meet.data.toList.drop 22 = dktX1_meet_1 := dk_seg dksX1_meet_0 22 rfl rfl
theorem dksX1_meet_2 : cX1_meet.data.toList.drop 46 = dktX1_meet_2 := dk_seg dksX1_meet_1 24 rfl rfl
theorem dksX1_meet_3 : cX1_meet.data.toList.drop 68 = dktX1_meet_3 := dk_seg dksX1_meet_2 22 rfl rfl
theorem dksX1_meet_4 : cX1_meet.data.toList.drop 92 = dktX1_meet_4 := dk_seg dksX1_meet_3 24 rfl rfl
theorem dX1_meet_0 : decode cX1_meet 0 = .ok (.aload_n 0, 1) := dk_42 (dk_at dksX1_meet_0 0 rfl rfl)
theorem dX1_meet_1 : decode cX1_meet 1 = .ok (.invokevirtual 67, 3) := dk_182 0 67 (dk_at dksX1_meet_0 1 rfl rfl)
theorem dX1_meet_4 : decode cX1_meet 4 = .ok (.aload_n 0, 1) := dk_42 (dk_at dksX1_meet_0 4 rfl rfl)
theorem dX1_meet_5 : decode cX1_meet 5 = .ok (.iload_n 1, 1) := dk_27 (dk_at dksX1_meet_0 5 rfl rfl)
theorem dX1_meet_6 : decode cX1_meet 6 = .ok (.invokevirtual 118, 3) := dk_182 0 118 (dk_at dksX1_meet_0 6 rfl rfl)
theorem dX1_meet_9 : decode cX1_meet 9 = .ok (.ifCond .eq 16, 3) := dk_153 0 16 (dk_at dksX1_meet_0 9 rfl rfl)
theorem dX1_meet_12 : decode cX1_meet 12 = .ok (.aload_n 0, 1) := dk_42 (dk_at dksX1_meet_0 12 rfl rfl)
theorem dX1_meet_13 : decode cX1_meet 13 = .ok (.iload_n 2, 1) := dk_28 (dk_at dksX1_meet_0 13 rfl rfl)
theorem dX1_meet_14 : decode cX1_meet 14 = .ok (.invokevirtual 118, 3) := dk_182 0 118 (dk_at dksX1_meet_0 14 rfl rfl)
theorem dX1_meet_17 : decode cX1_meet 17 = .ok (.ifCond .eq 8, 3) := dk_153 0 8 (dk_at dksX1_meet_0 17 rfl rfl)
theorem dX1_meet_20 : decode cX1_meet 20 = .ok (.iload_n 1, 1) := dk_27 (dk_at dksX1_meet_0 20 rfl rfl)
theorem dX1_meet_21 : decode cX1_meet 21 = .ok (.iload_n 2, 1) := dk_28 (dk_at dksX1_meet_0 21 rfl rfl)
theorem dX1_meet_22 : decode cX1_meet 22 = .ok (.if_icmp .ne 9, 3) := dk_160 0 9 (dk_at dksX1_meet_1 0 rfl rfl)
theorem dX1_meet_25 : decode cX1_meet 25 = .ok (.aload_n 0, 1) := dk_42 (dk_at dksX1_meet_1 3 rfl rfl)
theorem dX1_meet_26 : decode cX1_meet 26 = .ok (.iconst 1, 1) := dk_4 (dk_at dksX1_meet_1 4 rfl rfl)
theorem dX1_meet_27 : decode cX1_meet 27 = .ok (.invokevirtual 81, 3) := dk_182 0 81 (dk_at dksX1_meet_1 5 rfl rfl)
theorem dX1_meet_30 : decode cX1_meet 30 = .ok (.ireturn, 1) := dk_172 (dk_at dksX1_meet_1 8 rfl rfl)
theorem dX1_meet_31 : decode cX1_meet 31 = .ok (.iload_n 3, 1) := dk_29 (dk_at dksX1_meet_1 9 rfl rfl)
theorem dX1_meet_32 : decode cX1_meet 32 = .ok (.iconst 0, 1) := dk_3 (dk_at dksX1_meet_1 10 rfl rfl)
theorem dX1_meet_33 : decode cX1_meet 33 = .ok (.bipush 60, 2) := dk_16 60 (dk_at dksX1_meet_1 11 rfl rfl)
theorem dX1_meet_35 : decode cX1_meet 35 = .ok (.invokestatic 77, 3) := dk_184 0 77 (dk_at dksX1_meet_1 13 rfl rfl)
theorem dX1_meet_38 : decode cX1_meet 38 = .ok (.ifCond .ne 9, 3) := dk_154 0 9 (dk_at dksX1_meet_1 16 rfl rfl)
theorem dX1_meet_41 : decode cX1_meet 41 = .ok (.aload_n 0, 1) := dk_42 (dk_at dksX1_meet_1 19 rfl rfl)
theorem dX1_meet_42 : decode cX1_meet 42 = .ok (.iconst 2, 1) := dk_5 (dk_at dksX1_meet_1 20 rfl rfl)
theorem dX1_meet_43 : decode cX1_meet 43 = .ok (.invokevirtual 81, 3) := dk_182 0 81 (dk_at dksX1_meet_1 21 rfl rfl)
theorem dX1_meet_46 : decode cX1_meet 46 = .ok (.ireturn, 1) := dk_172 (dk_at dksX1_meet_2 0 rfl rfl)
theorem dX1_meet_47 : decode cX1_meet 47 = .ok (.aload_n 0, 1) := dk_42 (dk_at dksX1_meet_2 1 rfl rfl)
theorem dX1_meet_48 : decode cX1_meet 48 = .ok (.getfield 36, 3) := dk_180 0 36 (dk_at dksX1_meet_2 2 rfl rfl)
theorem dX1_meet_51 : decode cX1_meet 51 = .ok (.aload_n 0, 1) := dk_42 (dk_at dksX1_meet_2 5 rfl rfl)
theorem dX1_meet_52 : decode cX1_meet 52 = .ok (.getfield 29, 3) := dk_180 0 29 (dk_at dksX1_meet_2 6 rfl rfl)
theorem dX1_meet_55 : decode cX1_meet 55 = .ok (.invokevirtual 105, 3) := dk_182 0 105 (dk_at dksX1_meet_2 9 rfl rfl)
theorem dX1_meet_58 : decode cX1_meet 58 = .ok (.iconst 0, 1) := dk_3 (dk_at dksX1_meet_2 12 rfl rfl)
theorem dX1_meet_59 : decode cX1_meet 59 = .ok (.istore 4, 2) := dk_54 4 (dk_at dksX1_meet_2 13 rfl rfl)
theorem dX1_meet_61 : decode cX1_meet 61 = .ok (.iload 4, 2) := dk_21 4 (dk_at dksX1_meet_2 15 rfl rfl)
theorem dX1_meet_63 : decode cX1_meet 63 = .ok (.iload_n 3, 1) := dk_29 (dk_at dksX1_meet_2 17 rfl rfl)
theorem dX1_meet_64 : decode cX1_meet 64 = .ok (.if_icmp .gt 31, 3) := dk_163 0 31 (dk_at dksX1_meet_2 18 rfl rfl)
theorem dX1_meet_67 : decode cX1_meet 67 = .ok (.aload_n 0, 1) := dk_42 (dk_at dksX1_meet_2 21 rfl rfl)
theorem dX1_meet_68 : decode cX1_meet 68 = .ok (.getfield 36, 3) := dk_180 0 36 (dk_at dksX1_meet_3 0 rfl rfl)
theorem dX1_meet_71 : decode cX1_meet 71 = .ok (.iload_n 1, 1) := dk_27 (dk_at dksX1_meet_3 3 rfl rfl)
theorem dX1_meet_72 : decode cX1_meet 72 = .ok (.iload_n 2, 1) := dk_28 (dk_at dksX1_meet_3 4 rfl rfl)
theorem dX1_meet_73 : decode cX1_meet 73 = .ok (.invokevirtual 305, 3) := dk_182 1 49 (dk_at dksX1_meet_3 5 rfl rfl)
theorem dX1_meet_76 : decode cX1_meet 76 = .ok (.ifCond .eq 6, 3) := dk_153 0 6 (dk_at dksX1_meet_3 8 rfl rfl)
theorem dX1_meet_79 : decode cX1_meet 79 = .ok (.iload 4, 2) := dk_21 4 (dk_at dksX1_meet_3 11 rfl rfl)
theorem dX1_meet_81 : decode cX1_meet 81 = .ok (.ireturn, 1) := dk_172 (dk_at dksX1_meet_3 13 rfl rfl)
theorem dX1_meet_82 : decode cX1_meet 82 = .ok (.aload_n 0, 1) := dk_42 (dk_at dksX1_meet_3 14 rfl rfl)
theorem dX1_meet_83 : decode cX1_meet 83 = .ok (.getfield 36, 3) := dk_180 0 36 (dk_at dksX1_meet_3 15 rfl rfl)
theorem dX1_meet_86 : decode cX1_meet 86 = .ok (.invokevirtual 308, 3) := dk_182 1 52 (dk_at dksX1_meet_3 18 rfl rfl)
theorem dX1_meet_89 : decode cX1_meet 89 = .ok (.iinc 4 1, 3) := dk_132 4 1 (dk_at dksX1_meet_3 21 rfl rfl)
theorem dX1_meet_92 : decode cX1_meet 92 = .ok (.goto (-31), 3) := dk_167 255 225 (dk_at dksX1_meet_4 0 rfl rfl)
theorem dX1_meet_95 : decode cX1_meet 95 = .ok (.bipush (-2), 2) := dk_16 254 (dk_at dksX1_meet_4 3 rfl rfl)
theorem dX1_meet_97 : decode cX1_meet 97 = .ok (.ireturn, 1) := dk_172 (dk_at dksX1_meet_4 5 rfl rfl)
abbrev cX1_falls : ByteArray := prog_1_method_39_code
def yX1_falls : MethodName := ⟨RX1, "falls", "(III)I"⟩
def dkwX1_falls_3 : List UInt8 := [153, 0, 6, 21, 4, 172, 42, 180, 0, 36, 182, 1, 52, 132, 4, 1, 167, 255, 219, 16, 254, 172]
abbrev dktX1_falls_3 : List UInt8 := dkwX1_falls_3 ++ []
def dkwX1_falls_2 : List UInt8 := [54, 4, 21, 4, 29, 163, 0, 37, 42, 180, 0, 36, 27, 182, 0, 122, 28, 182, 0, 200, 180, 0, 219]
abbrev dktX1_falls_2 : List UInt8 := dkwX1_falls_2 ++ dktX1_falls_3
def dkwX1_falls_1 : List UInt8 := [184, 0, 77, 154, 0, 9, 42, 5, 182, 0, 81, 172, 42, 180, 0, 36, 42, 180, 0, 29, 182, 0, 105, 3]
abbrev dktX1_falls_1 : List UInt8 := dkwX1_falls_1 ++ dktX1_falls_2
def dkwX1_falls_0 : List UInt8 := [42, 182, 0, 67, 42, 27, 28, 182, 0, 197, 154, 0, 9, 42, 4, 182, 0, 81, 172, 29, 3, 16, 60]
abbrev dktX1_falls_0 : List UInt8 := dkwX1_falls_0 ++ dktX1_falls_1
theorem dksX1_falls_0 : cX1_falls.data.toList.drop 0 = dktX1_falls_0 := by decide +kernel
theorem dksX1_falls_1 : cX1_falls.data.toList.drop 23 = dktX1_falls_1 := dk_seg dksX1_falls_0 23 rfl rfl
theorem dksX1_falls_2 : cX1_falls.data.toList.drop 47 = dktX1_falls_2 := dk_seg dksX1_falls_1 24 rfl rfl
theorem dksX1_falls_3 : cX1_falls.data.toList.drop 70 = dktX1_falls_3 := dk_seg dksX1_falls_2 23 rfl rfl
theorem dX1_falls_0 : decode cX1_falls 0 = .ok (.aload_n 0, 1) := dk_42 (dk_at dksX1_falls_0 0 rfl rfl)
theorem dX1_falls_1 : decode cX1_falls 1 = .ok (.invokevirtual 67, 3) := dk_182 0 67 (dk_at dksX1_falls_0 1 rfl rfl)
theorem dX1_falls_4 : decode cX1_falls 4 = .ok (.aload_n 0, 1) := dk_42 (dk_at dksX1_falls_0 4 rfl rfl)
theorem dX1_falls_5 : decode cX1_falls 5 = .ok (.iload_n 1, 1) := dk_27 (dk_at dksX1_falls_0 5 rfl rfl)
theorem dX1_falls_6 : decode cX1_falls 6 = .ok (.iload_n 2, 1) := dk_28 (dk_at dksX1_falls_0 6 rfl rfl)
theorem dX1_falls_7 : decode cX1_falls 7 = .ok (.invokevirtual 197, 3) := dk_182 0 197 (dk_at dksX1_falls_0 7 rfl rfl)
theorem dX1_falls_10 : decode cX1_falls 10 = .ok (.ifCond .ne 9, 3) := dk_154 0 9 (dk_at dksX1_falls_0 10 rfl rfl)
theorem dX1_falls_13 : decode cX1_falls 13 = .ok (.aload_n 0, 1) := dk_42 (dk_at dksX1_falls_0 13 rfl rfl)
theorem dX1_falls_14 : decode cX1_falls 14 = .ok (.iconst 1, 1) := dk_4 (dk_at dksX1_falls_0 14 rfl rfl)
theorem dX1_falls_15 : decode cX1_falls 15 = .ok (.invokevirtual 81, 3) := dk_182 0 81 (dk_at dksX1_falls_0 15 rfl rfl)
theorem dX1_falls_18 : decode cX1_falls 18 = .ok (.ireturn, 1) := dk_172 (dk_at dksX1_falls_0 18 rfl rfl)
theorem dX1_falls_19 : decode cX1_falls 19 = .ok (.iload_n 3, 1) := dk_29 (dk_at dksX1_falls_0 19 rfl rfl)
theorem dX1_falls_20 : decode cX1_falls 20 = .ok (.iconst 0, 1) := dk_3 (dk_at dksX1_falls_0 20 rfl rfl)
theorem dX1_falls_21 : decode cX1_falls 21 = .ok (.bipush 60, 2) := dk_16 60 (dk_at dksX1_falls_0 21 rfl rfl)
theorem dX1_falls_23 : decode cX1_falls 23 = .ok (.invokestatic 77, 3) := dk_184 0 77 (dk_at dksX1_falls_1 0 rfl rfl)
theorem dX1_falls_26 : decode cX1_falls 26 = .ok (.ifCond .ne 9, 3) := dk_154 0 9 (dk_at dksX1_falls_1 3 rfl rfl)
theorem dX1_falls_29 : decode cX1_falls 29 = .ok (.aload_n 0, 1) := dk_42 (dk_at dksX1_falls_1 6 rfl rfl)
theorem dX1_falls_30 : decode cX1_falls 30 = .ok (.iconst 2, 1) := dk_5 (dk_at dksX1_falls_1 7 rfl rfl)
theorem dX1_falls_31 : decode cX1_falls 31 = .ok (.invokevirtual 81, 3) := dk_182 0 81 (dk_at dksX1_falls_1 8 rfl rfl)
theorem dX1_falls_34 : decode cX1_falls 34 = .ok (.ireturn, 1) := dk_172 (dk_at dksX1_falls_1 11 rfl rfl)
theorem dX1_falls_35 : decode cX1_falls 35 = .ok (.aload_n 0, 1) := dk_42 (dk_at dksX1_falls_1 12 rfl rfl)
theorem dX1_falls_36 : decode cX1_falls 36 = .ok (.getfield 36, 3) := dk_180 0 36 (dk_at dksX1_falls_1 13 rfl rfl)
theorem dX1_falls_39 : decode cX1_falls 39 = .ok (.aload_n 0, 1) := dk_42 (dk_at dksX1_falls_1 16 rfl rfl)
theorem dX1_falls_40 : decode cX1_falls 40 = .ok (.getfield 29, 3) := dk_180 0 29 (dk_at dksX1_falls_1 17 rfl rfl)
theorem dX1_falls_43 : decode cX1_falls 43 = .ok (.invokevirtual 105, 3) := dk_182 0 105 (dk_at dksX1_falls_1 20 rfl rfl)
theorem dX1_falls_46 : decode cX1_falls 46 = .ok (.iconst 0, 1) := dk_3 (dk_at dksX1_falls_1 23 rfl rfl)
theorem dX1_falls_47 : decode cX1_falls 47 = .ok (.istore 4, 2) := dk_54 4 (dk_at dksX1_falls_2 0 rfl rfl)
theorem dX1_falls_49 : decode cX1_falls 49 = .ok (.iload 4, 2) := dk_21 4 (dk_at dksX1_falls_2 2 rfl rfl)
theorem dX1_falls_51 : decode cX1_falls 51 = .ok (.iload_n 3, 1) := dk_29 (dk_at dksX1_falls_2 4 rfl rfl)
theorem dX1_falls_52 : decode cX1_falls 52 = .ok (.if_icmp .gt 37, 3) := dk_163 0 37 (dk_at dksX1_falls_2 5 rfl rfl)
theorem dX1_falls_55 : decode cX1_falls 55 = .ok (.aload_n 0, 1) := dk_42 (dk_at dksX1_falls_2 8 rfl rfl)
theorem dX1_falls_56 : decode cX1_falls 56 = .ok (.getfield 36, 3) := dk_180 0 36 (dk_at dksX1_falls_2 9 rfl rfl)
theorem dX1_falls_59 : decode cX1_falls 59 = .ok (.iload_n 1, 1) := dk_27 (dk_at dksX1_falls_2 12 rfl rfl)
theorem dX1_falls_60 : decode cX1_falls 60 = .ok (.invokevirtual 122, 3) := dk_182 0 122 (dk_at dksX1_falls_2 13 rfl rfl)
theorem dX1_falls_63 : decode cX1_falls 63 = .ok (.iload_n 2, 1) := dk_28 (dk_at dksX1_falls_2 16 rfl rfl)
theorem dX1_falls_64 : decode cX1_falls 64 = .ok (.invokevirtual 200, 3) := dk_182 0 200 (dk_at dksX1_falls_2 17 rfl rfl)
theorem dX1_falls_67 : decode cX1_falls 67 = .ok (.getfield 219, 3) := dk_180 0 219 (dk_at dksX1_falls_2 20 rfl rfl)
theorem dX1_falls_70 : decode cX1_falls 70 = .ok (.ifCond .eq 6, 3) := dk_153 0 6 (dk_at dksX1_falls_3 0 rfl rfl)
theorem dX1_falls_73 : decode cX1_falls 73 = .ok (.iload 4, 2) := dk_21 4 (dk_at dksX1_falls_3 3 rfl rfl)
theorem dX1_falls_75 : decode cX1_falls 75 = .ok (.ireturn, 1) := dk_172 (dk_at dksX1_falls_3 5 rfl rfl)
theorem dX1_falls_76 : decode cX1_falls 76 = .ok (.aload_n 0, 1) := dk_42 (dk_at dksX1_falls_3 6 rfl rfl)
theorem dX1_falls_77 : decode cX1_falls 77 = .ok (.getfield 36, 3) := dk_180 0 36 (dk_at dksX1_falls_3 7 rfl rfl)
theorem dX1_falls_80 : decode cX1_falls 80 = .ok (.invokevirtual 308, 3) := dk_182 1 52 (dk_at dksX1_falls_3 10 rfl rfl)
theorem dX1_falls_83 : decode cX1_falls 83 = .ok (.iinc 4 1, 3) := dk_132 4 1 (dk_at dksX1_falls_3 13 rfl rfl)
theorem dX1_falls_86 : decode cX1_falls 86 = .ok (.goto (-37), 3) := dk_167 255 219 (dk_at dksX1_falls_3 16 rfl rfl)
theorem dX1_falls_89 : decode cX1_falls 89 = .ok (.bipush (-2), 2) := dk_16 254 (dk_at dksX1_falls_3 19 rfl rfl)
theorem dX1_falls_91 : decode cX1_falls 91 = .ok (.ireturn, 1) := dk_172 (dk_at dksX1_falls_3 21 rfl rfl)
abbrev cX1_room : ByteArray := prog_1_method_40_code
def yX1_room : MethodName := ⟨RX1, "room", "(I)I"⟩
def dkwX1_room_3 : List UInt8 := [42, 180, 0, 36, 180, 1, 4, 3, 3, 182, 1, 55, 132, 2, 1, 167, 255, 201, 28, 172]
abbrev dktX1_room_3 : List UInt8 := dkwX1_room_3 ++ []
def dkwX1_room_2 : List UInt8 := [182, 0, 122, 42, 180, 0, 36, 27, 182, 0, 122, 180, 0, 163, 180, 0, 181, 42, 180, 0, 36, 180, 1, 1]
abbrev dktX1_room_2 : List UInt8 := dkwX1_room_2 ++ dktX1_room_3
def dkwX1_room_1 : List UInt8 := [180, 0, 29, 182, 0, 105, 3, 61, 42, 180, 0, 36, 27, 182, 0, 254, 153, 0, 50, 42, 180, 0, 36, 27]
abbrev dktX1_room_1 : List UInt8 := dkwX1_room_1 ++ dktX1_room_2
def dkwX1_room_0 : List UInt8 := [42, 182, 0, 67, 42, 27, 182, 0, 118, 154, 0, 9, 42, 4, 182, 0, 81, 172, 42, 180, 0, 36, 42]
abbrev dktX1_room_0 : List UInt8 := dkwX1_room_0 ++ dktX1_room_1
theorem dksX1_room_0 : cX1_room.data.toList.drop 0 = dktX1_room_0 := by decide +kernel
theorem dksX1_room_1 : cX1_room.data.toList.drop 23 = dktX1_room_1 := dk_seg dksX1_room_0 23 rfl rfl
theorem dksX1_room_2 : cX1_room.data.toList.drop 47 = dktX1_room_2 := dk_seg dksX1_room_1 24 rfl rfl
theorem dksX1_room_3 : cX1_room.data.toList.drop 71 = dktX1_room_3 := dk_seg dksX1_room_2 24 rfl rfl
theorem dX1_room_0 : decode cX1_room 0 = .ok (.aload_n 0, 1) := dk_42 (dk_at dksX1_room_0 0 rfl rfl)
theorem dX1_room_1 : decode cX1_room 1 = .ok (.invokevirtual 67, 3) := dk_182 0 67 (dk_at dksX1_room_0 1 rfl rfl)
theorem dX1_room_4 : decode cX1_room 4 = .ok (.aload_n 0, 1) := dk_42 (dk_at dksX1_room_0 4 rfl rfl)
theorem dX1_room_5 : decode cX1_room 5 = .ok (.iload_n 1, 1) := dk_27 (dk_at dksX1_room_0 5 rfl rfl)
theorem dX1_room_6 : decode cX1_room 6 = .ok (.invokevirtual 118, 3) := dk_182 0 118 (dk_at dksX1_room_0 6 rfl rfl)
theorem dX1_room_9 : decode cX1_room 9 = .ok (.ifCond .ne 9, 3) := dk_154 0 9 (dk_at dksX1_room_0 9 rfl rfl)
theorem dX1_room_12 : decode cX1_room 12 = .ok (.aload_n 0, 1) := dk_42 (dk_at dksX1_room_0 12 rfl rfl)
theorem dX1_room_13 : decode cX1_room 13 = .ok (.iconst 1, 1) := dk_4 (dk_at dksX1_room_0 13 rfl rfl)
theorem dX1_room_14 : decode cX1_room 14 = .ok (.invokevirtual 81, 3) := dk_182 0 81 (dk_at dksX1_room_0 14 rfl rfl)
theorem dX1_room_17 : decode cX1_room 17 = .ok (.ireturn, 1) := dk_172 (dk_at dksX1_room_0 17 rfl rfl)
theorem dX1_room_18 : decode cX1_room 18 = .ok (.aload_n 0, 1) := dk_42 (dk_at dksX1_room_0 18 rfl rfl)
theorem dX1_room_19 : decode cX1_room 19 = .ok (.getfield 36, 3) := dk_180 0 36 (dk_at dksX1_room_0 19 rfl rfl)
theorem dX1_room_22 : decode cX1_room 22 = .ok (.aload_n 0, 1) := dk_42 (dk_at dksX1_room_0 22 rfl rfl)
theorem dX1_room_23 : decode cX1_room 23 = .ok (.getfield 29, 3) := dk_180 0 29 (dk_at dksX1_room_1 0 rfl rfl)
theorem dX1_room_26 : decode cX1_room 26 = .ok (.invokevirtual 105, 3) := dk_182 0 105 (dk_at dksX1_room_1 3 rfl rfl)
theorem dX1_room_29 : decode cX1_room 29 = .ok (.iconst 0, 1) := dk_3 (dk_at dksX1_room_1 6 rfl rfl)
theorem dX1_room_30 : decode cX1_room 30 = .ok (.istore_n 2, 1) := dk_61 (dk_at dksX1_room_1 7 rfl rfl)
theorem dX1_room_31 : decode cX1_room 31 = .ok (.aload_n 0, 1) := dk_42 (dk_at dksX1_room_1 8 rfl rfl)
theorem dX1_room_32 : decode cX1_room 32 = .ok (.getfield 36, 3) := dk_180 0 36 (dk_at dksX1_room_1 9 rfl rfl)
theorem dX1_room_35 : decode cX1_room 35 = .ok (.iload_n 1, 1) := dk_27 (dk_at dksX1_room_1 12 rfl rfl)
theorem dX1_room_36 : decode cX1_room 36 = .ok (.invokevirtual 254, 3) := dk_182 0 254 (dk_at dksX1_room_1 13 rfl rfl)
theorem dX1_room_39 : decode cX1_room 39 = .ok (.ifCond .eq 50, 3) := dk_153 0 50 (dk_at dksX1_room_1 16 rfl rfl)
theorem dX1_room_42 : decode cX1_room 42 = .ok (.aload_n 0, 1) := dk_42 (dk_at dksX1_room_1 19 rfl rfl)
theorem dX1_room_43 : decode cX1_room 43 = .ok (.getfield 36, 3) := dk_180 0 36 (dk_at dksX1_room_1 20 rfl rfl)
theorem dX1_room_46 : decode cX1_room 46 = .ok (.iload_n 1, 1) := dk_27 (dk_at dksX1_room_1 23 rfl rfl)
theorem dX1_room_47 : decode cX1_room 47 = .ok (.invokevirtual 122, 3) := dk_182 0 122 (dk_at dksX1_room_2 0 rfl rfl)
theorem dX1_room_50 : decode cX1_room 50 = .ok (.aload_n 0, 1) := dk_42 (dk_at dksX1_room_2 3 rfl rfl)
theorem dX1_room_51 : decode cX1_room 51 = .ok (.getfield 36, 3) := dk_180 0 36 (dk_at dksX1_room_2 4 rfl rfl)
theorem dX1_room_54 : decode cX1_room 54 = .ok (.iload_n 1, 1) := dk_27 (dk_at dksX1_room_2 7 rfl rfl)
theorem dX1_room_55 : decode cX1_room 55 = .ok (.invokevirtual 122, 3) := dk_182 0 122 (dk_at dksX1_room_2 8 rfl rfl)
theorem dX1_room_58 : decode cX1_room 58 = .ok (.getfield 163, 3) := dk_180 0 163 (dk_at dksX1_room_2 11 rfl rfl)
theorem dX1_room_61 : decode cX1_room 61 = .ok (.getfield 181, 3) := dk_180 0 181 (dk_at dksX1_room_2 14 rfl rfl)
theorem dX1_room_64 : decode cX1_room 64 = .ok (.aload_n 0, 1) := dk_42 (dk_at dksX1_room_2 17 rfl rfl)
theorem dX1_room_65 : decode cX1_room 65 = .ok (.getfield 36, 3) := dk_180 0 36 (dk_at dksX1_room_2 18 rfl rfl)
theorem dX1_room_68 : decode cX1_room 68 = .ok (.getfield 257, 3) := dk_180 1 1 (dk_at dksX1_room_2 21 rfl rfl)
theorem dX1_room_71 : decode cX1_room 71 = .ok (.aload_n 0, 1) := dk_42 (dk_at dksX1_room_3 0 rfl rfl)
theorem dX1_room_72 : decode cX1_room 72 = .ok (.getfield 36, 3) := dk_180 0 36 (dk_at dksX1_room_3 1 rfl rfl)
theorem dX1_room_75 : decode cX1_room 75 = .ok (.getfield 260, 3) := dk_180 1 4 (dk_at dksX1_room_3 4 rfl rfl)
theorem dX1_room_78 : decode cX1_room 78 = .ok (.iconst 0, 1) := dk_3 (dk_at dksX1_room_3 7 rfl rfl)
theorem dX1_room_79 : decode cX1_room 79 = .ok (.iconst 0, 1) := dk_3 (dk_at dksX1_room_3 8 rfl rfl)
theorem dX1_room_80 : decode cX1_room 80 = .ok (.invokevirtual 311, 3) := dk_182 1 55 (dk_at dksX1_room_3 9 rfl rfl)
theorem dX1_room_83 : decode cX1_room 83 = .ok (.iinc 2 1, 3) := dk_132 2 1 (dk_at dksX1_room_3 12 rfl rfl)
theorem dX1_room_86 : decode cX1_room 86 = .ok (.goto (-55), 3) := dk_167 255 201 (dk_at dksX1_room_3 15 rfl rfl)
theorem dX1_room_89 : decode cX1_room 89 = .ok (.iload_n 2, 1) := dk_28 (dk_at dksX1_room_3 18 rfl rfl)
theorem dX1_room_90 : decode cX1_room 90 = .ok (.ireturn, 1) := dk_172 (dk_at dksX1_room_3 19 rfl rfl)
abbrev cX1_first : ByteArray := prog_1_method_43_code
def yX1_first : MethodName := ⟨RX1, "first", "(I)I"⟩
def dkwX1_first_1 : List UInt8 := [180, 1, 59, 172]
abbrev dktX1_first_1 : List UInt8 := dkwX1_first_1 ++ []
def dkwX1_first_0 : List UInt8 := [42, 182, 0, 67, 42, 27, 182, 1, 77, 61, 28, 153, 0, 11, 42, 28, 182, 0, 81, 167, 0, 7, 42]
abbrev dktX1_first_0 : List UInt8 := dkwX1_first_0 ++ dktX1_first_1
theorem dksX1_first_0 : cX1_first.data.toList.drop 0 = dktX1_first_0 := by decide +kernel
theorem dksX1_first_1 : cX1_first.data.toList.drop 23 = dktX1_first_1 := dk_seg dksX1_first_0 23 rfl rfl
theorem dX1_first_0 : decode cX1_first 0 = .ok (.aload_n 0, 1) := dk_42 (dk_at dksX1_first_0 0 rfl rfl)
theorem dX1_first_1 : decode cX1_first 1 = .ok (.invokevirtual 67, 3) := dk_182 0 67 (dk_at dksX1_first_0 1 rfl rfl)
theorem dX1_first_4 : decode cX1_first 4 = .ok (.aload_n 0, 1) := dk_42 (dk_at dksX1_first_0 4 rfl rfl)
theorem dX1_first_5 : decode cX1_first 5 = .ok (.iload_n 1, 1) := dk_27 (dk_at dksX1_first_0 5 rfl rfl)
theorem dX1_first_6 : decode cX1_first 6 = .ok (.invokevirtual 333, 3) := dk_182 1 77 (dk_at dksX1_first_0 6 rfl rfl)
theorem dX1_first_9 : decode cX1_first 9 = .ok (.istore_n 2, 1) := dk_61 (dk_at dksX1_first_0 9 rfl rfl)
theorem dX1_first_10 : decode cX1_first 10 = .ok (.iload_n 2, 1) := dk_28 (dk_at dksX1_first_0 10 rfl rfl)
theorem dX1_first_11 : decode cX1_first 11 = .ok (.ifCond .eq 11, 3) := dk_153 0 11 (dk_at dksX1_first_0 11 rfl rfl)
theorem dX1_first_14 : decode cX1_first 14 = .ok (.aload_n 0, 1) := dk_42 (dk_at dksX1_first_0 14 rfl rfl)
theorem dX1_first_15 : decode cX1_first 15 = .ok (.iload_n 2, 1) := dk_28 (dk_at dksX1_first_0 15 rfl rfl)
theorem dX1_first_16 : decode cX1_first 16 = .ok (.invokevirtual 81, 3) := dk_182 0 81 (dk_at dksX1_first_0 16 rfl rfl)
theorem dX1_first_19 : decode cX1_first 19 = .ok (.goto 7, 3) := dk_167 0 7 (dk_at dksX1_first_0 19 rfl rfl)
theorem dX1_first_22 : decode cX1_first 22 = .ok (.aload_n 0, 1) := dk_42 (dk_at dksX1_first_0 22 rfl rfl)
theorem dX1_first_23 : decode cX1_first 23 = .ok (.getfield 315, 3) := dk_180 1 59 (dk_at dksX1_first_1 0 rfl rfl)
theorem dX1_first_26 : decode cX1_first 26 = .ok (.ireturn, 1) := dk_172 (dk_at dksX1_first_1 3 rfl rfl)
abbrev cX1_firstWhy : ByteArray := prog_1_method_41_code
def yX1_firstWhy : MethodName := ⟨RX1, "firstWhy", "(I)I"⟩
def dkwX1_firstWhy_6 : List UInt8 := [182, 1, 74, 3, 172]
abbrev dktX1_firstWhy_6 : List UInt8 := dkwX1_firstWhy_6 ++ []
def dkwX1_firstWhy_5 : List UInt8 := [180, 1, 65, 3, 42, 180, 0, 60, 3, 28, 184, 1, 68, 132, 4, 1, 167, 255, 181, 42, 180, 0, 36]
abbrev dktX1_firstWhy_5 : List UInt8 := dkwX1_firstWhy_5 ++ dktX1_firstWhy_6
def dkwX1_firstWhy_4 : List UInt8 := [180, 1, 59, 163, 0, 6, 167, 0, 31, 42, 42, 180, 0, 36, 182, 1, 46, 181, 1, 59, 42, 180, 0, 36]
abbrev dktX1_firstWhy_4 : List UInt8 := dkwX1_firstWhy_4 ++ dktX1_firstWhy_5
def dkwX1_firstWhy_3 : List UInt8 := [154, 0, 6, 167, 0, 56, 42, 180, 0, 36, 27, 182, 1, 37, 42, 180, 0, 36, 182, 1, 46, 42]
abbrev dktX1_firstWhy_3 : List UInt8 := dkwX1_firstWhy_3 ++ dktX1_firstWhy_4
def dkwX1_firstWhy_2 : List UInt8 := [104, 62, 132, 4, 1, 167, 255, 243, 3, 54, 4, 21, 4, 29, 162, 0, 75, 42, 21, 4, 28, 182, 1, 62]
abbrev dktX1_firstWhy_2 : List UInt8 := dkwX1_firstWhy_2 ++ dktX1_firstWhy_3
def dkwX1_firstWhy_1 : List UInt8 := [181, 1, 59, 42, 180, 0, 29, 180, 0, 115, 61, 4, 62, 3, 54, 4, 21, 4, 28, 162, 0, 13, 29, 28]
abbrev dktX1_firstWhy_1 : List UInt8 := dkwX1_firstWhy_1 ++ dktX1_firstWhy_2
def dkwX1_firstWhy_0 : List UInt8 := [42, 180, 0, 92, 199, 0, 5, 4, 172, 27, 3, 16, 30, 184, 0, 77, 154, 0, 5, 5, 172, 42, 2]
abbrev dktX1_firstWhy_0 : List UInt8 := dkwX1_firstWhy_0 ++ dktX1_firstWhy_1
theorem dksX1_firstWhy_0 : cX1_firstWhy.data.toList.drop 0 = dktX1_firstWhy_0 := by decide +kernel
theorem dksX1_firstWhy_1 : cX1_firstWhy.data.toList.drop 23 = dktX1_firstWhy_1 := dk_seg dksX1_firstWhy_0 23 rfl rfl
theorem dksX1_firstWhy_2 : cX1_firstWhy.data.toList.drop 47 = dktX1_firstWhy_2 := dk_seg dksX1_firstWhy_1 24 rfl rfl
theorem dksX1_firstWhy_3 : cX1_firstWhy.data.toList.drop 71 = dktX1_firstWhy_3 := dk_seg dksX1_firstWhy_2 24 rfl rfl
theorem dksX1_firstWhy_4 : cX1_firstWhy.data.toList.drop 93 = dktX1_firstWhy_4 := dk_seg dksX1_firstWhy_3 22 rfl rfl
theorem dksX1_firstWhy_5 : cX1_firstWhy.data.toList.drop 117 = dktX1_firstWhy_5 := dk_seg dksX1_firstWhy_4 24 rfl rfl
theorem dksX1_firstWhy_6 : cX1_firstWhy.data.toList.drop 140 = dktX1_firstWhy_6 := dk_seg dksX1_firstWhy_5 23 rfl rfl
theorem dX1_firstWhy_0 : decode cX1_firstWhy 0 = .ok (.aload_n 0, 1) := dk_42 (dk_at dksX1_firstWhy_0 0 rfl rfl)
theorem dX1_firstWhy_1 : decode cX1_firstWhy 1 = .ok (.getfield 92, 3) := dk_180 0 92 (dk_at dksX1_firstWhy_0 1 rfl rfl)
theorem dX1_firstWhy_4 : decode cX1_firstWhy 4 = .ok (.ifnonnull 5, 3) := dk_199 0 5 (dk_at dksX1_firstWhy_0 4 rfl rfl)
theorem dX1_firstWhy_7 : decode cX1_firstWhy 7 = .ok (.iconst 1, 1) := dk_4 (dk_at dksX1_firstWhy_0 7 rfl rfl)
theorem dX1_firstWhy_8 : decode cX1_firstWhy 8 = .ok (.ireturn, 1) := dk_172 (dk_at dksX1_firstWhy_0 8 rfl rfl)
theorem dX1_firstWhy_9 : decode cX1_firstWhy 9 = .ok (.iload_n 1, 1) := dk_27 (dk_at dksX1_firstWhy_0 9 rfl rfl)
theorem dX1_firstWhy_10 : decode cX1_firstWhy 10 = .ok (.iconst 0, 1) := dk_3 (dk_at dksX1_firstWhy_0 10 rfl rfl)
theorem dX1_firstWhy_11 : decode cX1_firstWhy 11 = .ok (.bipush 30, 2) := dk_16 30 (dk_at dksX1_firstWhy_0 11 rfl rfl)
theorem dX1_firstWhy_13 : decode cX1_firstWhy 13 = .ok (.invokestatic 77, 3) := dk_184 0 77 (dk_at dksX1_firstWhy_0 13 rfl rfl)
theorem dX1_firstWhy_16 : decode cX1_firstWhy 16 = .ok (.ifCond .ne 5, 3) := dk_154 0 5 (dk_at dksX1_firstWhy_0 16 rfl rfl)
theorem dX1_firstWhy_19 : decode cX1_firstWhy 19 = .ok (.iconst 2, 1) := dk_5 (dk_at dksX1_firstWhy_0 19 rfl rfl)
theorem dX1_firstWhy_20 : decode cX1_firstWhy 20 = .ok (.ireturn, 1) := dk_172 (dk_at dksX1_firstWhy_0 20 rfl rfl)
theorem dX1_firstWhy_21 : decode cX1_firstWhy 21 = .ok (.aload_n 0, 1) := dk_42 (dk_at dksX1_firstWhy_0 21 rfl rfl)
theorem dX1_firstWhy_22 : decode cX1_firstWhy 22 = .ok (.iconst (-1), 1) := dk_2 (dk_at dksX1_firstWhy_0 22 rfl rfl)
theorem dX1_firstWhy_23 : decode cX1_firstWhy 23 = .ok (.putfield 315, 3) := dk_181 1 59 (dk_at dksX1_firstWhy_1 0 rfl rfl)
theorem dX1_firstWhy_26 : decode cX1_firstWhy 26 = .ok (.aload_n 0, 1) := dk_42 (dk_at dksX1_firstWhy_1 3 rfl rfl)
theorem dX1_firstWhy_27 : decode cX1_firstWhy 27 = .ok (.getfield 29, 3) := dk_180 0 29 (dk_at dksX1_firstWhy_1 4 rfl rfl)
theorem dX1_firstWhy_30 : decode cX1_firstWhy 30 = .ok (.getfield 115, 3) := dk_180 0 115 (dk_at dksX1_firstWhy_1 7 rfl rfl)
theorem dX1_firstWhy_33 : decode cX1_firstWhy 33 = .ok (.istore_n 2, 1) := dk_61 (dk_at dksX1_firstWhy_1 10 rfl rfl)
theorem dX1_firstWhy_34 : decode cX1_firstWhy 34 = .ok (.iconst 1, 1) := dk_4 (dk_at dksX1_firstWhy_1 11 rfl rfl)
theorem dX1_firstWhy_35 : decode cX1_firstWhy 35 = .ok (.istore_n 3, 1) := dk_62 (dk_at dksX1_firstWhy_1 12 rfl rfl)
theorem dX1_firstWhy_36 : decode cX1_firstWhy 36 = .ok (.iconst 0, 1) := dk_3 (dk_at dksX1_firstWhy_1 13 rfl rfl)
theorem dX1_firstWhy_37 : decode cX1_firstWhy 37 = .ok (.istore 4, 2) := dk_54 4 (dk_at dksX1_firstWhy_1 14 rfl rfl)
theorem dX1_firstWhy_39 : decode cX1_firstWhy 39 = .ok (.iload 4, 2) := dk_21 4 (dk_at dksX1_firstWhy_1 16 rfl rfl)
theorem dX1_firstWhy_41 : decode cX1_firstWhy 41 = .ok (.iload_n 2, 1) := dk_28 (dk_at dksX1_firstWhy_1 18 rfl rfl)
theorem dX1_firstWhy_42 : decode cX1_firstWhy 42 = .ok (.if_icmp .ge 13, 3) := dk_162 0 13 (dk_at dksX1_firstWhy_1 19 rfl rfl)
theorem dX1_firstWhy_45 : decode cX1_firstWhy 45 = .ok (.iload_n 3, 1) := dk_29 (dk_at dksX1_firstWhy_1 22 rfl rfl)
theorem dX1_firstWhy_46 : decode cX1_firstWhy 46 = .ok (.iload_n 2, 1) := dk_28 (dk_at dksX1_firstWhy_1 23 rfl rfl)
theorem dX1_firstWhy_47 : decode cX1_firstWhy 47 = .ok (.imul, 1) := dk_104 (dk_at dksX1_firstWhy_2 0 rfl rfl)
theorem dX1_firstWhy_48 : decode cX1_firstWhy 48 = .ok (.istore_n 3, 1) := dk_62 (dk_at dksX1_firstWhy_2 1 rfl rfl)
theorem dX1_firstWhy_49 : decode cX1_firstWhy 49 = .ok (.iinc 4 1, 3) := dk_132 4 1 (dk_at dksX1_firstWhy_2 2 rfl rfl)
theorem dX1_firstWhy_52 : decode cX1_firstWhy 52 = .ok (.goto (-13), 3) := dk_167 255 243 (dk_at dksX1_firstWhy_2 5 rfl rfl)
theorem dX1_firstWhy_55 : decode cX1_firstWhy 55 = .ok (.iconst 0, 1) := dk_3 (dk_at dksX1_firstWhy_2 8 rfl rfl)
theorem dX1_firstWhy_56 : decode cX1_firstWhy 56 = .ok (.istore 4, 2) := dk_54 4 (dk_at dksX1_firstWhy_2 9 rfl rfl)
theorem dX1_firstWhy_58 : decode cX1_firstWhy 58 = .ok (.iload 4, 2) := dk_21 4 (dk_at dksX1_firstWhy_2 11 rfl rfl)
theorem dX1_firstWhy_60 : decode cX1_firstWhy 60 = .ok (.iload_n 3, 1) := dk_29 (dk_at dksX1_firstWhy_2 13 rfl rfl)
theorem dX1_firstWhy_61 : decode cX1_firstWhy 61 = .ok (.if_icmp .ge 75, 3) := dk_162 0 75 (dk_at dksX1_firstWhy_2 14 rfl rfl)
theorem dX1_firstWhy_64 : decode cX1_firstWhy 64 = .ok (.aload_n 0, 1) := dk_42 (dk_at dksX1_firstWhy_2 17 rfl rfl)
theorem dX1_firstWhy_65 : decode cX1_firstWhy 65 = .ok (.iload 4, 2) := dk_21 4 (dk_at dksX1_firstWhy_2 18 rfl rfl)
theorem dX1_firstWhy_67 : decode cX1_firstWhy 67 = .ok (.iload_n 2, 1) := dk_28 (dk_at dksX1_firstWhy_2 20 rfl rfl)
theorem dX1_firstWhy_68 : decode cX1_firstWhy 68 = .ok (.invokevirtual 318, 3) := dk_182 1 62 (dk_at dksX1_firstWhy_2 21 rfl rfl)
theorem dX1_firstWhy_71 : decode cX1_firstWhy 71 = .ok (.ifCond .ne 6, 3) := dk_154 0 6 (dk_at dksX1_firstWhy_3 0 rfl rfl)
theorem dX1_firstWhy_74 : decode cX1_firstWhy 74 = .ok (.goto 56, 3) := dk_167 0 56 (dk_at dksX1_firstWhy_3 3 rfl rfl)
theorem dX1_firstWhy_77 : decode cX1_firstWhy 77 = .ok (.aload_n 0, 1) := dk_42 (dk_at dksX1_firstWhy_3 6 rfl rfl)
theorem dX1_firstWhy_78 : decode cX1_firstWhy 78 = .ok (.getfield 36, 3) := dk_180 0 36 (dk_at dksX1_firstWhy_3 7 rfl rfl)
theorem dX1_firstWhy_81 : decode cX1_firstWhy 81 = .ok (.iload_n 1, 1) := dk_27 (dk_at dksX1_firstWhy_3 10 rfl rfl)
theorem dX1_firstWhy_82 : decode cX1_firstWhy 82 = .ok (.invokevirtual 293, 3) := dk_182 1 37 (dk_at dksX1_firstWhy_3 11 rfl rfl)
theorem dX1_firstWhy_85 : decode cX1_firstWhy 85 = .ok (.aload_n 0, 1) := dk_42 (dk_at dksX1_firstWhy_3 14 rfl rfl)
theorem dX1_firstWhy_86 : decode cX1_firstWhy 86 = .ok (.getfield 36, 3) := dk_180 0 36 (dk_at dksX1_firstWhy_3 15 rfl rfl)
theorem dX1_firstWhy_89 : decode cX1_firstWhy 89 = .ok (.invokevirtual 302, 3) := dk_182 1 46 (dk_at dksX1_firstWhy_3 18 rfl rfl)
theorem dX1_firstWhy_92 : decode cX1_firstWhy 92 = .ok (.aload_n 0, 1) := dk_42 (dk_at dksX1_firstWhy_3 21 rfl rfl)
theorem dX1_firstWhy_93 : decode cX1_firstWhy 93 = .ok (.getfield 315, 3) := dk_180 1 59 (dk_at dksX1_firstWhy_4 0 rfl rfl)
theorem dX1_firstWhy_96 : decode cX1_firstWhy 96 = .ok (.if_icmp .gt 6, 3) := dk_163 0 6 (dk_at dksX1_firstWhy_4 3 rfl rfl)
theorem dX1_firstWhy_99 : decode cX1_firstWhy 99 = .ok (.goto 31, 3) := dk_167 0 31 (dk_at dksX1_firstWhy_4 6 rfl rfl)
theorem dX1_firstWhy_102 : decode cX1_firstWhy 102 = .ok (.aload_n 0, 1) := dk_42 (dk_at dksX1_firstWhy_4 9 rfl rfl)
theorem dX1_firstWhy_103 : decode cX1_firstWhy 103 = .ok (.aload_n 0, 1) := dk_42 (dk_at dksX1_firstWhy_4 10 rfl rfl)
theorem dX1_firstWhy_104 : decode cX1_firstWhy 104 = .ok (.getfield 36, 3) := dk_180 0 36 (dk_at dksX1_firstWhy_4 11 rfl rfl)
theorem dX1_firstWhy_107 : decode cX1_firstWhy 107 = .ok (.invokevirtual 302, 3) := dk_182 1 46 (dk_at dksX1_firstWhy_4 14 rfl rfl)
theorem dX1_firstWhy_110 : decode cX1_firstWhy 110 = .ok (.putfield 315, 3) := dk_181 1 59 (dk_at dksX1_firstWhy_4 17 rfl rfl)
theorem dX1_firstWhy_113 : decode cX1_firstWhy 113 = .ok (.aload_n 0, 1) := dk_42 (dk_at dksX1_firstWhy_4 20 rfl rfl)
theorem dX1_firstWhy_114 : decode cX1_firstWhy 114 = .ok (.getfield 36, 3) := dk_180 0 36 (dk_at dksX1_firstWhy_4 21 rfl rfl)
theorem dX1_firstWhy_117 : decode cX1_firstWhy 117 = .ok (.getfield 321, 3) := dk_180 1 65 (dk_at dksX1_firstWhy_5 0 rfl rfl)
theorem dX1_firstWhy_120 : decode cX1_firstWhy 120 = .ok (.iconst 0, 1) := dk_3 (dk_at dksX1_firstWhy_5 3 rfl rfl)
theorem dX1_firstWhy_121 : decode cX1_firstWhy 121 = .ok (.aload_n 0, 1) := dk_42 (dk_at dksX1_firstWhy_5 4 rfl rfl)
theorem dX1_firstWhy_122 : decode cX1_firstWhy 122 = .ok (.getfield 60, 3) := dk_180 0 60 (dk_at dksX1_firstWhy_5 5 rfl rfl)
theorem dX1_firstWhy_125 : decode cX1_firstWhy 125 = .ok (.iconst 0, 1) := dk_3 (dk_at dksX1_firstWhy_5 8 rfl rfl)
theorem dX1_firstWhy_126 : decode cX1_firstWhy 126 = .ok (.iload_n 2, 1) := dk_28 (dk_at dksX1_firstWhy_5 9 rfl rfl)
theorem dX1_firstWhy_127 : decode cX1_firstWhy 127 = .ok (.invokestatic 324, 3) := dk_184 1 68 (dk_at dksX1_firstWhy_5 10 rfl rfl)
theorem dX1_firstWhy_130 : decode cX1_firstWhy 130 = .ok (.iinc 4 1, 3) := dk_132 4 1 (dk_at dksX1_firstWhy_5 13 rfl rfl)
theorem dX1_firstWhy_133 : decode cX1_firstWhy 133 = .ok (.goto (-75), 3) := dk_167 255 181 (dk_at dksX1_firstWhy_5 16 rfl rfl)
theorem dX1_firstWhy_136 : decode cX1_firstWhy 136 = .ok (.aload_n 0, 1) := dk_42 (dk_at dksX1_firstWhy_5 19 rfl rfl)
theorem dX1_firstWhy_137 : decode cX1_firstWhy 137 = .ok (.getfield 36, 3) := dk_180 0 36 (dk_at dksX1_firstWhy_5 20 rfl rfl)
theorem dX1_firstWhy_140 : decode cX1_firstWhy 140 = .ok (.invokevirtual 330, 3) := dk_182 1 74 (dk_at dksX1_firstWhy_6 0 rfl rfl)
theorem dX1_firstWhy_143 : decode cX1_firstWhy 143 = .ok (.iconst 0, 1) := dk_3 (dk_at dksX1_firstWhy_6 3 rfl rfl)
theorem dX1_firstWhy_144 : decode cX1_firstWhy 144 = .ok (.ireturn, 1) := dk_172 (dk_at dksX1_firstWhy_6 4 rfl rfl)
abbrev cX1_tries : ByteArray := prog_1_method_42_code
def yX1_tries : MethodName := ⟨RX1, "tries", "(II)Z"⟩
def dkwX1_tries_3 : List UInt8 := [167, 0, 4, 3, 172]
abbrev dktX1_tries_3 : List UInt8 := dkwX1_tries_3 ++ []
def dkwX1_tries_2 : List UInt8 := [42, 180, 0, 36, 42, 180, 0, 29, 182, 0, 105, 21, 4, 4, 28, 120, 4, 100, 160, 0, 7, 4]
abbrev dktX1_tries_2 : List UInt8 := dkwX1_tries_2 ++ dktX1_tries_3
def dkwX1_tries_1 : List UInt8 := [29, 28, 112, 79, 21, 4, 4, 29, 28, 112, 120, 128, 54, 4, 29, 28, 108, 62, 132, 5, 255, 167, 255, 221]
abbrev dktX1_tries_1 : List UInt8 := dkwX1_tries_1 ++ dktX1_tries_2
def dkwX1_tries_0 : List UInt8 := [27, 62, 3, 54, 4, 28, 4, 100, 54, 5, 21, 5, 155, 0, 36, 42, 180, 0, 36, 180, 1, 65, 21, 5]
abbrev dktX1_tries_0 : List UInt8 := dkwX1_tries_0 ++ dktX1_tries_1
theorem dksX1_tries_0 : cX1_tries.data.toList.drop 0 = dktX1_tries_0 := by decide +kernel
theorem dksX1_tries_1 : cX1_tries.data.toList.drop 24 = dktX1_tries_1 := dk_seg dksX1_tries_0 24 rfl rfl
theorem dksX1_tries_2 : cX1_tries.data.toList.drop 48 = dktX1_tries_2 := dk_seg dksX1_tries_1 24 rfl rfl
theorem dksX1_tries_3 : cX1_tries.data.toList.drop 70 = dktX1_tries_3 := dk_seg dksX1_tries_2 22 rfl rfl
theorem dX1_tries_0 : decode cX1_tries 0 = .ok (.iload_n 1, 1) := dk_27 (dk_at dksX1_tries_0 0 rfl rfl)
theorem dX1_tries_1 : decode cX1_tries 1 = .ok (.istore_n 3, 1) := dk_62 (dk_at dksX1_tries_0 1 rfl rfl)
theorem dX1_tries_2 : decode cX1_tries 2 = .ok (.iconst 0, 1) := dk_3 (dk_at dksX1_tries_0 2 rfl rfl)
theorem dX1_tries_3 : decode cX1_tries 3 = .ok (.istore 4, 2) := dk_54 4 (dk_at dksX1_tries_0 3 rfl rfl)
theorem dX1_tries_5 : decode cX1_tries 5 = .ok (.iload_n 2, 1) := dk_28 (dk_at dksX1_tries_0 5 rfl rfl)
theorem dX1_tries_6 : decode cX1_tries 6 = .ok (.iconst 1, 1) := dk_4 (dk_at dksX1_tries_0 6 rfl rfl)
theorem dX1_tries_7 : decode cX1_tries 7 = .ok (.isub, 1) := dk_100 (dk_at dksX1_tries_0 7 rfl rfl)
theorem dX1_tries_8 : decode cX1_tries 8 = .ok (.istore 5, 2) := dk_54 5 (dk_at dksX1_tries_0 8 rfl rfl)
theorem dX1_tries_10 : decode cX1_tries 10 = .ok (.iload 5, 2) := dk_21 5 (dk_at dksX1_tries_0 10 rfl rfl)
theorem dX1_tries_12 : decode cX1_tries 12 = .ok (.ifCond .lt 36, 3) := dk_155 0 36 (dk_at dksX1_tries_0 12 rfl rfl)
theorem dX1_tries_15 : decode cX1_tries 15 = .ok (.aload_n 0, 1) := dk_42 (dk_at dksX1_tries_0 15 rfl rfl)
theorem dX1_tries_16 : decode cX1_tries 16 = .ok (.getfield 36, 3) := dk_180 0 36 (dk_at dksX1_tries_0 16 rfl rfl)
theorem dX1_tries_19 : decode cX1_tries 19 = .ok (.getfield 321, 3) := dk_180 1 65 (dk_at dksX1_tries_0 19 rfl rfl)
theorem dX1_tries_22 : decode cX1_tries 22 = .ok (.iload 5, 2) := dk_21 5 (dk_at dksX1_tries_0 22 rfl rfl)
theorem dX1_tries_24 : decode cX1_tries 24 = .ok (.iload_n 3, 1) := dk_29 (dk_at dksX1_tries_1 0 rfl rfl)
theorem dX1_tries_25 : decode cX1_tries 25 = .ok (.iload_n 2, 1) := dk_28 (dk_at dksX1_tries_1 1 rfl rfl)
theorem dX1_tries_26 : decode cX1_tries 26 = .ok (.irem, 1) := dk_112 (dk_at dksX1_tries_1 2 rfl rfl)
theorem dX1_tries_27 : decode cX1_tries 27 = .ok (.iastore, 1) := dk_79 (dk_at dksX1_tries_1 3 rfl rfl)
theorem dX1_tries_28 : decode cX1_tries 28 = .ok (.iload 4, 2) := dk_21 4 (dk_at dksX1_tries_1 4 rfl rfl)
theorem dX1_tries_30 : decode cX1_tries 30 = .ok (.iconst 1, 1) := dk_4 (dk_at dksX1_tries_1 6 rfl rfl)
theorem dX1_tries_31 : decode cX1_tries 31 = .ok (.iload_n 3, 1) := dk_29 (dk_at dksX1_tries_1 7 rfl rfl)
theorem dX1_tries_32 : decode cX1_tries 32 = .ok (.iload_n 2, 1) := dk_28 (dk_at dksX1_tries_1 8 rfl rfl)
theorem dX1_tries_33 : decode cX1_tries 33 = .ok (.irem, 1) := dk_112 (dk_at dksX1_tries_1 9 rfl rfl)
theorem dX1_tries_34 : decode cX1_tries 34 = .ok (.ishl, 1) := dk_120 (dk_at dksX1_tries_1 10 rfl rfl)
theorem dX1_tries_35 : decode cX1_tries 35 = .ok (.ior, 1) := dk_128 (dk_at dksX1_tries_1 11 rfl rfl)
theorem dX1_tries_36 : decode cX1_tries 36 = .ok (.istore 4, 2) := dk_54 4 (dk_at dksX1_tries_1 12 rfl rfl)
theorem dX1_tries_38 : decode cX1_tries 38 = .ok (.iload_n 3, 1) := dk_29 (dk_at dksX1_tries_1 14 rfl rfl)
theorem dX1_tries_39 : decode cX1_tries 39 = .ok (.iload_n 2, 1) := dk_28 (dk_at dksX1_tries_1 15 rfl rfl)
theorem dX1_tries_40 : decode cX1_tries 40 = .ok (.idiv, 1) := dk_108 (dk_at dksX1_tries_1 16 rfl rfl)
theorem dX1_tries_41 : decode cX1_tries 41 = .ok (.istore_n 3, 1) := dk_62 (dk_at dksX1_tries_1 17 rfl rfl)
theorem dX1_tries_42 : decode cX1_tries 42 = .ok (.iinc 5 (-1), 3) := dk_132 5 255 (dk_at dksX1_tries_1 18 rfl rfl)
theorem dX1_tries_45 : decode cX1_tries 45 = .ok (.goto (-35), 3) := dk_167 255 221 (dk_at dksX1_tries_1 21 rfl rfl)
theorem dX1_tries_48 : decode cX1_tries 48 = .ok (.aload_n 0, 1) := dk_42 (dk_at dksX1_tries_2 0 rfl rfl)
theorem dX1_tries_49 : decode cX1_tries 49 = .ok (.getfield 36, 3) := dk_180 0 36 (dk_at dksX1_tries_2 1 rfl rfl)
theorem dX1_tries_52 : decode cX1_tries 52 = .ok (.aload_n 0, 1) := dk_42 (dk_at dksX1_tries_2 4 rfl rfl)
theorem dX1_tries_53 : decode cX1_tries 53 = .ok (.getfield 29, 3) := dk_180 0 29 (dk_at dksX1_tries_2 5 rfl rfl)
theorem dX1_tries_56 : decode cX1_tries 56 = .ok (.invokevirtual 105, 3) := dk_182 0 105 (dk_at dksX1_tries_2 8 rfl rfl)
theorem dX1_tries_59 : decode cX1_tries 59 = .ok (.iload 4, 2) := dk_21 4 (dk_at dksX1_tries_2 11 rfl rfl)
theorem dX1_tries_61 : decode cX1_tries 61 = .ok (.iconst 1, 1) := dk_4 (dk_at dksX1_tries_2 13 rfl rfl)
theorem dX1_tries_62 : decode cX1_tries 62 = .ok (.iload_n 2, 1) := dk_28 (dk_at dksX1_tries_2 14 rfl rfl)
theorem dX1_tries_63 : decode cX1_tries 63 = .ok (.ishl, 1) := dk_120 (dk_at dksX1_tries_2 15 rfl rfl)
theorem dX1_tries_64 : decode cX1_tries 64 = .ok (.iconst 1, 1) := dk_4 (dk_at dksX1_tries_2 16 rfl rfl)
theorem dX1_tries_65 : decode cX1_tries 65 = .ok (.isub, 1) := dk_100 (dk_at dksX1_tries_2 17 rfl rfl)
theorem dX1_tries_66 : decode cX1_tries 66 = .ok (.if_icmp .ne 7, 3) := dk_160 0 7 (dk_at dksX1_tries_2 18 rfl rfl)
theorem dX1_tries_69 : decode cX1_tries 69 = .ok (.iconst 1, 1) := dk_4 (dk_at dksX1_tries_2 21 rfl rfl)
theorem dX1_tries_70 : decode cX1_tries 70 = .ok (.goto 4, 3) := dk_167 0 4 (dk_at dksX1_tries_3 0 rfl rfl)
theorem dX1_tries_73 : decode cX1_tries 73 = .ok (.iconst 0, 1) := dk_3 (dk_at dksX1_tries_3 3 rfl rfl)
theorem dX1_tries_74 : decode cX1_tries 74 = .ok (.ireturn, 1) := dk_172 (dk_at dksX1_tries_3 4 rfl rfl)
abbrev cX1_firstAt : ByteArray := prog_1_method_44_code
def yX1_firstAt : MethodName := ⟨RX1, "firstAt", "(II)I"⟩
def dkwX1_firstAt_1 : List UInt8 := [29, 153, 0, 11, 42, 29, 182, 0, 81, 167, 0, 9, 42, 180, 0, 60, 28, 46, 172]
abbrev dktX1_firstAt_1 : List UInt8 := dkwX1_firstAt_1 ++ []
def dkwX1_firstAt_0 : List UInt8 := [42, 182, 0, 67, 42, 28, 182, 0, 118, 154, 0, 9, 42, 4, 182, 0, 81, 172, 42, 27, 182, 1, 77, 62]
abbrev dktX1_firstAt_0 : List UInt8 := dkwX1_firstAt_0 ++ dktX1_firstAt_1
theorem dksX1_firstAt_0 : cX1_firstAt.data.toList.drop 0 = dktX1_firstAt_0 := by decide +kernel
theorem dksX1_firstAt_1 : cX1_firstAt.data.toList.drop 24 = dktX1_firstAt_1 := dk_seg dksX1_firstAt_0 24 rfl rfl
theorem dX1_firstAt_0 : decode cX1_firstAt 0 = .ok (.aload_n 0, 1) := dk_42 (dk_at dksX1_firstAt_0 0 rfl rfl)
theorem dX1_firstAt_1 : decode cX1_firstAt 1 = .ok (.invokevirtual 67, 3) := dk_182 0 67 (dk_at dksX1_firstAt_0 1 rfl rfl)
theorem dX1_firstAt_4 : decode cX1_firstAt 4 = .ok (.aload_n 0, 1) := dk_42 (dk_at dksX1_firstAt_0 4 rfl rfl)
theorem dX1_firstAt_5 : decode cX1_firstAt 5 = .ok (.iload_n 2, 1) := dk_28 (dk_at dksX1_firstAt_0 5 rfl rfl)
theorem dX1_firstAt_6 : decode cX1_firstAt 6 = .ok (.invokevirtual 118, 3) := dk_182 0 118 (dk_at dksX1_firstAt_0 6 rfl rfl)
theorem dX1_firstAt_9 : decode cX1_firstAt 9 = .ok (.ifCond .ne 9, 3) := dk_154 0 9 (dk_at dksX1_firstAt_0 9 rfl rfl)
theorem dX1_firstAt_12 : decode cX1_firstAt 12 = .ok (.aload_n 0, 1) := dk_42 (dk_at dksX1_firstAt_0 12 rfl rfl)
theorem dX1_firstAt_13 : decode cX1_firstAt 13 = .ok (.iconst 1, 1) := dk_4 (dk_at dksX1_firstAt_0 13 rfl rfl)
theorem dX1_firstAt_14 : decode cX1_firstAt 14 = .ok (.invokevirtual 81, 3) := dk_182 0 81 (dk_at dksX1_firstAt_0 14 rfl rfl)
theorem dX1_firstAt_17 : decode cX1_firstAt 17 = .ok (.ireturn, 1) := dk_172 (dk_at dksX1_firstAt_0 17 rfl rfl)
theorem dX1_firstAt_18 : decode cX1_firstAt 18 = .ok (.aload_n 0, 1) := dk_42 (dk_at dksX1_firstAt_0 18 rfl rfl)
theorem dX1_firstAt_19 : decode cX1_firstAt 19 = .ok (.iload_n 1, 1) := dk_27 (dk_at dksX1_firstAt_0 19 rfl rfl)
theorem dX1_firstAt_20 : decode cX1_firstAt 20 = .ok (.invokevirtual 333, 3) := dk_182 1 77 (dk_at dksX1_firstAt_0 20 rfl rfl)
theorem dX1_firstAt_23 : decode cX1_firstAt 23 = .ok (.istore_n 3, 1) := dk_62 (dk_at dksX1_firstAt_0 23 rfl rfl)
theorem dX1_firstAt_24 : decode cX1_firstAt 24 = .ok (.iload_n 3, 1) := dk_29 (dk_at dksX1_firstAt_1 0 rfl rfl)
theorem dX1_firstAt_25 : decode cX1_firstAt 25 = .ok (.ifCond .eq 11, 3) := dk_153 0 11 (dk_at dksX1_firstAt_1 1 rfl rfl)
theorem dX1_firstAt_28 : decode cX1_firstAt 28 = .ok (.aload_n 0, 1) := dk_42 (dk_at dksX1_firstAt_1 4 rfl rfl)
theorem dX1_firstAt_29 : decode cX1_firstAt 29 = .ok (.iload_n 3, 1) := dk_29 (dk_at dksX1_firstAt_1 5 rfl rfl)
theorem dX1_firstAt_30 : decode cX1_firstAt 30 = .ok (.invokevirtual 81, 3) := dk_182 0 81 (dk_at dksX1_firstAt_1 6 rfl rfl)
theorem dX1_firstAt_33 : decode cX1_firstAt 33 = .ok (.goto 9, 3) := dk_167 0 9 (dk_at dksX1_firstAt_1 9 rfl rfl)
theorem dX1_firstAt_36 : decode cX1_firstAt 36 = .ok (.aload_n 0, 1) := dk_42 (dk_at dksX1_firstAt_1 12 rfl rfl)
theorem dX1_firstAt_37 : decode cX1_firstAt 37 = .ok (.getfield 60, 3) := dk_180 0 60 (dk_at dksX1_firstAt_1 13 rfl rfl)
theorem dX1_firstAt_40 : decode cX1_firstAt 40 = .ok (.iload_n 2, 1) := dk_28 (dk_at dksX1_firstAt_1 16 rfl rfl)
theorem dX1_firstAt_41 : decode cX1_firstAt 41 = .ok (.iaload, 1) := dk_46 (dk_at dksX1_firstAt_1 17 rfl rfl)
theorem dX1_firstAt_42 : decode cX1_firstAt 42 = .ok (.ireturn, 1) := dk_172 (dk_at dksX1_firstAt_1 18 rfl rfl)
abbrev cX1_heads : ByteArray := prog_1_method_45_code
def yX1_heads : MethodName := ⟨RX1, "heads", "(II)I"⟩
def dkwX1_heads_3 : List UInt8 := [182, 1, 37, 42, 180, 0, 36, 182, 1, 84, 172]
abbrev dktX1_heads_3 : List UInt8 := dkwX1_heads_3 ++ []
def dkwX1_heads_2 : List UInt8 := [180, 0, 36, 42, 180, 0, 29, 182, 0, 105, 42, 180, 0, 36, 27, 181, 1, 81, 42, 180, 0, 36, 28]
abbrev dktX1_heads_2 : List UInt8 := dkwX1_heads_2 ++ dktX1_heads_3
def dkwX1_heads_1 : List UInt8 := [184, 0, 77, 153, 0, 13, 28, 3, 16, 60, 184, 0, 77, 154, 0, 9, 42, 5, 182, 0, 81, 172, 42]
abbrev dktX1_heads_1 : List UInt8 := dkwX1_heads_1 ++ dktX1_heads_2
def dkwX1_heads_0 : List UInt8 := [42, 182, 0, 67, 42, 180, 0, 92, 199, 0, 9, 42, 4, 182, 0, 81, 172, 27, 3, 19, 1, 80]
abbrev dktX1_heads_0 : List UInt8 := dkwX1_heads_0 ++ dktX1_heads_1
theorem dksX1_heads_0 : cX1_heads.data.toList.drop 0 = dktX1_heads_0 := by decide +kernel
theorem dksX1_heads_1 : cX1_heads.data.toList.drop 22 = dktX1_heads_1 := dk_seg dksX1_heads_0 22 rfl rfl
theorem dksX1_heads_2 : cX1_heads.data.toList.drop 45 = dktX1_heads_2 := dk_seg dksX1_heads_1 23 rfl rfl
theorem dksX1_heads_3 : cX1_heads.data.toList.drop 68 = dktX1_heads_3 := dk_seg dksX1_heads_2 23 rfl rfl
theorem dX1_heads_0 : decode cX1_heads 0 = .ok (.aload_n 0, 1) := dk_42 (dk_at dksX1_heads_0 0 rfl rfl)
theorem dX1_heads_1 : decode cX1_heads 1 = .ok (.invokevirtual 67, 3) := dk_182 0 67 (dk_at dksX1_heads_0 1 rfl rfl)
theorem dX1_heads_4 : decode cX1_heads 4 = .ok (.aload_n 0, 1) := dk_42 (dk_at dksX1_heads_0 4 rfl rfl)
theorem dX1_heads_5 : decode cX1_heads 5 = .ok (.getfield 92, 3) := dk_180 0 92 (dk_at dksX1_heads_0 5 rfl rfl)
theorem dX1_heads_8 : decode cX1_heads 8 = .ok (.ifnonnull 9, 3) := dk_199 0 9 (dk_at dksX1_heads_0 8 rfl rfl)
theorem dX1_heads_11 : decode cX1_heads 11 = .ok (.aload_n 0, 1) := dk_42 (dk_at dksX1_heads_0 11 rfl rfl)
theorem dX1_heads_12 : decode cX1_heads 12 = .ok (.iconst 1, 1) := dk_4 (dk_at dksX1_heads_0 12 rfl rfl)
theorem dX1_heads_13 : decode cX1_heads 13 = .ok (.invokevirtual 81, 3) := dk_182 0 81 (dk_at dksX1_heads_0 13 rfl rfl)
theorem dX1_heads_16 : decode cX1_heads 16 = .ok (.ireturn, 1) := dk_172 (dk_at dksX1_heads_0 16 rfl rfl)
theorem dX1_heads_17 : decode cX1_heads 17 = .ok (.iload_n 1, 1) := dk_27 (dk_at dksX1_heads_0 17 rfl rfl)
theorem dX1_heads_18 : decode cX1_heads 18 = .ok (.iconst 0, 1) := dk_3 (dk_at dksX1_heads_0 18 rfl rfl)
theorem dX1_heads_19 : decode cX1_heads 19 = .ok (.ldc_w 336, 3) := dk_19 1 80 (dk_at dksX1_heads_0 19 rfl rfl)
theorem dX1_heads_22 : decode cX1_heads 22 = .ok (.invokestatic 77, 3) := dk_184 0 77 (dk_at dksX1_heads_1 0 rfl rfl)
theorem dX1_heads_25 : decode cX1_heads 25 = .ok (.ifCond .eq 13, 3) := dk_153 0 13 (dk_at dksX1_heads_1 3 rfl rfl)
theorem dX1_heads_28 : decode cX1_heads 28 = .ok (.iload_n 2, 1) := dk_28 (dk_at dksX1_heads_1 6 rfl rfl)
theorem dX1_heads_29 : decode cX1_heads 29 = .ok (.iconst 0, 1) := dk_3 (dk_at dksX1_heads_1 7 rfl rfl)
theorem dX1_heads_30 : decode cX1_heads 30 = .ok (.bipush 60, 2) := dk_16 60 (dk_at dksX1_heads_1 8 rfl rfl)
theorem dX1_heads_32 : decode cX1_heads 32 = .ok (.invokestatic 77, 3) := dk_184 0 77 (dk_at dksX1_heads_1 10 rfl rfl)
theorem dX1_heads_35 : decode cX1_heads 35 = .ok (.ifCond .ne 9, 3) := dk_154 0 9 (dk_at dksX1_heads_1 13 rfl rfl)
theorem dX1_heads_38 : decode cX1_heads 38 = .ok (.aload_n 0, 1) := dk_42 (dk_at dksX1_heads_1 16 rfl rfl)
theorem dX1_heads_39 : decode cX1_heads 39 = .ok (.iconst 2, 1) := dk_5 (dk_at dksX1_heads_1 17 rfl rfl)
theorem dX1_heads_40 : decode cX1_heads 40 = .ok (.invokevirtual 81, 3) := dk_182 0 81 (dk_at dksX1_heads_1 18 rfl rfl)
theorem dX1_heads_43 : decode cX1_heads 43 = .ok (.ireturn, 1) := dk_172 (dk_at dksX1_heads_1 21 rfl rfl)
theorem dX1_heads_44 : decode cX1_heads 44 = .ok (.aload_n 0, 1) := dk_42 (dk_at dksX1_heads_1 22 rfl rfl)
theorem dX1_heads_45 : decode cX1_heads 45 = .ok (.getfield 36, 3) := dk_180 0 36 (dk_at dksX1_heads_2 0 rfl rfl)
theorem dX1_heads_48 : decode cX1_heads 48 = .ok (.aload_n 0, 1) := dk_42 (dk_at dksX1_heads_2 3 rfl rfl)
theorem dX1_heads_49 : decode cX1_heads 49 = .ok (.getfield 29, 3) := dk_180 0 29 (dk_at dksX1_heads_2 4 rfl rfl)
theorem dX1_heads_52 : decode cX1_heads 52 = .ok (.invokevirtual 105, 3) := dk_182 0 105 (dk_at dksX1_heads_2 7 rfl rfl)
theorem dX1_heads_55 : decode cX1_heads 55 = .ok (.aload_n 0, 1) := dk_42 (dk_at dksX1_heads_2 10 rfl rfl)
theorem dX1_heads_56 : decode cX1_heads 56 = .ok (.getfield 36, 3) := dk_180 0 36 (dk_at dksX1_heads_2 11 rfl rfl)
theorem dX1_heads_59 : decode cX1_heads 59 = .ok (.iload_n 1, 1) := dk_27 (dk_at dksX1_heads_2 14 rfl rfl)
theorem dX1_heads_60 : decode cX1_heads 60 = .ok (.putfield 337, 3) := dk_181 1 81 (dk_at dksX1_heads_2 15 rfl rfl)
theorem dX1_heads_63 : decode cX1_heads 63 = .ok (.aload_n 0, 1) := dk_42 (dk_at dksX1_heads_2 18 rfl rfl)
theorem dX1_heads_64 : decode cX1_heads 64 = .ok (.getfield 36, 3) := dk_180 0 36 (dk_at dksX1_heads_2 19 rfl rfl)
theorem dX1_heads_67 : decode cX1_heads 67 = .ok (.iload_n 2, 1) := dk_28 (dk_at dksX1_heads_2 22 rfl rfl)
theorem dX1_heads_68 : decode cX1_heads 68 = .ok (.invokevirtual 293, 3) := dk_182 1 37 (dk_at dksX1_heads_3 0 rfl rfl)
theorem dX1_heads_71 : decode cX1_heads 71 = .ok (.aload_n 0, 1) := dk_42 (dk_at dksX1_heads_3 3 rfl rfl)
theorem dX1_heads_72 : decode cX1_heads 72 = .ok (.getfield 36, 3) := dk_180 0 36 (dk_at dksX1_heads_3 4 rfl rfl)
theorem dX1_heads_75 : decode cX1_heads 75 = .ok (.invokevirtual 340, 3) := dk_182 1 84 (dk_at dksX1_heads_3 7 rfl rfl)
theorem dX1_heads_78 : decode cX1_heads 78 = .ok (.ireturn, 1) := dk_172 (dk_at dksX1_heads_3 10 rfl rfl)
abbrev cX1_takes : ByteArray := prog_1_method_47_code
def yX1_takes : MethodName := ⟨RX1, "takes", "(I)I"⟩
def dkwX1_takes_2 : List UInt8 := [28, 184, 1, 92, 172]
abbrev dktX1_takes_2 : List UInt8 := dkwX1_takes_2 ++ []
def dkwX1_takes_1 : List UInt8 := [182, 0, 122, 182, 1, 89, 61, 28, 154, 0, 8, 16, 254, 167, 0, 15, 42, 180, 0, 29, 27, 182, 0, 122]
abbrev dktX1_takes_1 : List UInt8 := dkwX1_takes_1 ++ dktX1_takes_2
def dkwX1_takes_0 : List UInt8 := [42, 182, 0, 67, 42, 27, 182, 0, 118, 154, 0, 9, 42, 4, 182, 0, 81, 172, 42, 180, 0, 29, 27]
abbrev dktX1_takes_0 : List UInt8 := dkwX1_takes_0 ++ dktX1_takes_1
theorem dksX1_takes_0 : cX1_takes.data.toList.drop 0 = dktX1_takes_0 := by decide +kernel
theorem dksX1_takes_1 : cX1_takes.data.toList.drop 23 = dktX1_takes_1 := dk_seg dksX1_takes_0 23 rfl rfl
theorem dksX1_takes_2 : cX1_takes.data.toList.drop 47 = dktX1_takes_2 := dk_seg dksX1_takes_1 24 rfl rfl
theorem dX1_takes_0 : decode cX1_takes 0 = .ok (.aload_n 0, 1) := dk_42 (dk_at dksX1_takes_0 0 rfl rfl)
theorem dX1_takes_1 : decode cX1_takes 1 = .ok (.invokevirtual 67, 3) := dk_182 0 67 (dk_at dksX1_takes_0 1 rfl rfl)
theorem dX1_takes_4 : decode cX1_takes 4 = .ok (.aload_n 0, 1) := dk_42 (dk_at dksX1_takes_0 4 rfl rfl)
theorem dX1_takes_5 : decode cX1_takes 5 = .ok (.iload_n 1, 1) := dk_27 (dk_at dksX1_takes_0 5 rfl rfl)
theorem dX1_takes_6 : decode cX1_takes 6 = .ok (.invokevirtual 118, 3) := dk_182 0 118 (dk_at dksX1_takes_0 6 rfl rfl)
theorem dX1_takes_9 : decode cX1_takes 9 = .ok (.ifCond .ne 9, 3) := dk_154 0 9 (dk_at dksX1_takes_0 9 rfl rfl)
theorem dX1_takes_12 : decode cX1_takes 12 = .ok (.aload_n 0, 1) := dk_42 (dk_at dksX1_takes_0 12 rfl rfl)
theorem dX1_takes_13 : decode cX1_takes 13 = .ok (.iconst 1, 1) := dk_4 (dk_at dksX1_takes_0 13 rfl rfl)
theorem dX1_takes_14 : decode cX1_takes 14 = .ok (.invokevirtual 81, 3) := dk_182 0 81 (dk_at dksX1_takes_0 14 rfl rfl)
theorem dX1_takes_17 : decode cX1_takes 17 = .ok (.ireturn, 1) := dk_172 (dk_at dksX1_takes_0 17 rfl rfl)
theorem dX1_takes_18 : decode cX1_takes 18 = .ok (.aload_n 0, 1) := dk_42 (dk_at dksX1_takes_0 18 rfl rfl)
theorem dX1_takes_19 : decode cX1_takes 19 = .ok (.getfield 29, 3) := dk_180 0 29 (dk_at dksX1_takes_0 19 rfl rfl)
theorem dX1_takes_22 : decode cX1_takes 22 = .ok (.iload_n 1, 1) := dk_27 (dk_at dksX1_takes_0 22 rfl rfl)
theorem dX1_takes_23 : decode cX1_takes 23 = .ok (.invokevirtual 122, 3) := dk_182 0 122 (dk_at dksX1_takes_1 0 rfl rfl)
theorem dX1_takes_26 : decode cX1_takes 26 = .ok (.invokevirtual 345, 3) := dk_182 1 89 (dk_at dksX1_takes_1 3 rfl rfl)
theorem dX1_takes_29 : decode cX1_takes 29 = .ok (.istore_n 2, 1) := dk_61 (dk_at dksX1_takes_1 6 rfl rfl)
theorem dX1_takes_30 : decode cX1_takes 30 = .ok (.iload_n 2, 1) := dk_28 (dk_at dksX1_takes_1 7 rfl rfl)
theorem dX1_takes_31 : decode cX1_takes 31 = .ok (.ifCond .ne 8, 3) := dk_154 0 8 (dk_at dksX1_takes_1 8 rfl rfl)
theorem dX1_takes_34 : decode cX1_takes 34 = .ok (.bipush (-2), 2) := dk_16 254 (dk_at dksX1_takes_1 11 rfl rfl)
theorem dX1_takes_36 : decode cX1_takes 36 = .ok (.goto 15, 3) := dk_167 0 15 (dk_at dksX1_takes_1 13 rfl rfl)
theorem dX1_takes_39 : decode cX1_takes 39 = .ok (.aload_n 0, 1) := dk_42 (dk_at dksX1_takes_1 16 rfl rfl)
theorem dX1_takes_40 : decode cX1_takes 40 = .ok (.getfield 29, 3) := dk_180 0 29 (dk_at dksX1_takes_1 17 rfl rfl)
theorem dX1_takes_43 : decode cX1_takes 43 = .ok (.iload_n 1, 1) := dk_27 (dk_at dksX1_takes_1 20 rfl rfl)
theorem dX1_takes_44 : decode cX1_takes 44 = .ok (.invokevirtual 122, 3) := dk_182 0 122 (dk_at dksX1_takes_1 21 rfl rfl)
theorem dX1_takes_47 : decode cX1_takes 47 = .ok (.iload_n 2, 1) := dk_28 (dk_at dksX1_takes_2 0 rfl rfl)
theorem dX1_takes_48 : decode cX1_takes 48 = .ok (.invokestatic 348, 3) := dk_184 1 92 (dk_at dksX1_takes_2 1 rfl rfl)
theorem dX1_takes_51 : decode cX1_takes 51 = .ok (.ireturn, 1) := dk_172 (dk_at dksX1_takes_2 4 rfl rfl)
abbrev cX1_half : ByteArray := prog_1_method_46_code
def yX1_half : MethodName := ⟨RX1, "half", "(LYearSkins$House;I)I"⟩
def dkwX1_half_0 : List UInt8 := [42, 27, 182, 0, 200, 180, 0, 204, 180, 1, 87, 16, 8, 104, 27, 104, 5, 108, 172]
abbrev dktX1_half_0 : List UInt8 := dkwX1_half_0 ++ []
theorem dksX1_half_0 : cX1_half.data.toList.drop 0 = dktX1_half_0 := by decide +kernel
theorem dX1_half_0 : decode cX1_half 0 = .ok (.aload_n 0, 1) := dk_42 (dk_at dksX1_half_0 0 rfl rfl)
theorem dX1_half_1 : decode cX1_half 1 = .ok (.iload_n 1, 1) := dk_27 (dk_at dksX1_half_0 1 rfl rfl)
theorem dX1_half_2 : decode cX1_half 2 = .ok (.invokevirtual 200, 3) := dk_182 0 200 (dk_at dksX1_half_0 2 rfl rfl)
theorem dX1_half_5 : decode cX1_half 5 = .ok (.getfield 204, 3) := dk_180 0 204 (dk_at dksX1_half_0 5 rfl rfl)
theorem dX1_half_8 : decode cX1_half 8 = .ok (.getfield 343, 3) := dk_180 1 87 (dk_at dksX1_half_0 8 rfl rfl)
theorem dX1_half_11 : decode cX1_half 11 = .ok (.bipush 8, 2) := dk_16 8 (dk_at dksX1_half_0 11 rfl rfl)
theorem dX1_half_13 : decode cX1_half 13 = .ok (.imul, 1) := dk_104 (dk_at dksX1_half_0 13 rfl rfl)
theorem dX1_half_14 : decode cX1_half 14 = .ok (.iload_n 1, 1) := dk_27 (dk_at dksX1_half_0 14 rfl rfl)
theorem dX1_half_15 : decode cX1_half 15 = .ok (.imul, 1) := dk_104 (dk_at dksX1_half_0 15 rfl rfl)
theorem dX1_half_16 : decode cX1_half 16 = .ok (.iconst 2, 1) := dk_5 (dk_at dksX1_half_0 16 rfl rfl)
theorem dX1_half_17 : decode cX1_half 17 = .ok (.idiv, 1) := dk_108 (dk_at dksX1_half_0 17 rfl rfl)
theorem dX1_half_18 : decode cX1_half 18 = .ok (.ireturn, 1) := dk_172 (dk_at dksX1_half_0 18 rfl rfl)
abbrev cX1_worth : ByteArray := prog_1_method_48_code
def yX1_worth : MethodName := ⟨RX1, "worth", "(I)I"⟩
def dkwX1_worth_4 : List UInt8 := [167, 255, 194, 29, 172]
abbrev dktX1_worth_4 : List UInt8 := dkwX1_worth_4 ++ []
def dkwX1_worth_3 : List UInt8 := [182, 0, 200, 180, 0, 219, 153, 0, 7, 3, 167, 0, 9, 44, 21, 4, 184, 1, 92, 96, 62, 132, 4, 1]
abbrev dktX1_worth_3 : List UInt8 := dkwX1_worth_3 ++ dktX1_worth_4
def dkwX1_worth_2 : List UInt8 := [21, 4, 182, 1, 96, 153, 0, 15, 44, 21, 4, 182, 0, 200, 180, 0, 219, 153, 0, 34, 29, 44, 21, 4]
abbrev dktX1_worth_2 : List UInt8 := dkwX1_worth_2 ++ dktX1_worth_3
def dkwX1_worth_1 : List UInt8 := [182, 0, 122, 77, 3, 62, 4, 54, 4, 21, 4, 44, 180, 0, 126, 162, 0, 59, 42, 180, 0, 29, 27]
abbrev dktX1_worth_1 : List UInt8 := dkwX1_worth_1 ++ dktX1_worth_2
def dkwX1_worth_0 : List UInt8 := [42, 182, 0, 67, 42, 27, 182, 0, 118, 154, 0, 9, 42, 4, 182, 0, 81, 172, 42, 180, 0, 29, 27]
abbrev dktX1_worth_0 : List UInt8 := dkwX1_worth_0 ++ dktX1_worth_1
theorem dksX1_worth_0 : cX1_worth.data.toList.drop 0 = dktX1_worth_0 := by decide +kernel
theorem dksX1_worth_1 : cX1_worth.data.toList.drop 23 = dktX1_worth_1 := dk_seg dksX1_worth_0 23 rfl rfl
theorem dksX1_worth_2 : cX1_worth.data.toList.drop 46 = dktX1_worth_2 := dk_seg dksX1_worth_1 23 rfl rfl
theorem dksX1_worth_3 : cX1_worth.data.toList.drop 70 = dktX1_worth_3 := dk_seg dksX1_worth_2 24 rfl rfl
theorem dksX1_worth_4 : cX1_worth.data.toList.drop 94 = dktX1_worth_4 := dk_seg dksX1_worth_3 24 rfl rfl
theorem dX1_worth_0 : decode cX1_worth 0 = .ok (.aload_n 0, 1) := dk_42 (dk_at dksX1_worth_0 0 rfl rfl)
theorem dX1_worth_1 : decode cX1_worth 1 = .ok (.invokevirtual 67, 3) := dk_182 0 67 (dk_at dksX1_worth_0 1 rfl rfl)
theorem dX1_worth_4 : decode cX1_worth 4 = .ok (.aload_n 0, 1) := dk_42 (dk_at dksX1_worth_0 4 rfl rfl)
theorem dX1_worth_5 : decode cX1_worth 5 = .ok (.iload_n 1, 1) := dk_27 (dk_at dksX1_worth_0 5 rfl rfl)
theorem dX1_worth_6 : decode cX1_worth 6 = .ok (.invokevirtual 118, 3) := dk_182 0 118 (dk_at dksX1_worth_0 6 rfl rfl)
theorem dX1_worth_9 : decode cX1_worth 9 = .ok (.ifCond .ne 9, 3) := dk_154 0 9 (dk_at dksX1_worth_0 9 rfl rfl)
theorem dX1_worth_12 : decode cX1_worth 12 = .ok (.aload_n 0, 1) := dk_42 (dk_at dksX1_worth_0 12 rfl rfl)
theorem dX1_worth_13 : decode cX1_worth 13 = .ok (.iconst 1, 1) := dk_4 (dk_at dksX1_worth_0 13 rfl rfl)
theorem dX1_worth_14 : decode cX1_worth 14 = .ok (.invokevirtual 81, 3) := dk_182 0 81 (dk_at dksX1_worth_0 14 rfl rfl)
theorem dX1_worth_17 : decode cX1_worth 17 = .ok (.ireturn, 1) := dk_172 (dk_at dksX1_worth_0 17 rfl rfl)
theorem dX1_worth_18 : decode cX1_worth 18 = .ok (.aload_n 0, 1) := dk_42 (dk_at dksX1_worth_0 18 rfl rfl)
theorem dX1_worth_19 : decode cX1_worth 19 = .ok (.getfield 29, 3) := dk_180 0 29 (dk_at dksX1_worth_0 19 rfl rfl)
theorem dX1_worth_22 : decode cX1_worth 22 = .ok (.iload_n 1, 1) := dk_27 (dk_at dksX1_worth_0 22 rfl rfl)
theorem dX1_worth_23 : decode cX1_worth 23 = .ok (.invokevirtual 122, 3) := dk_182 0 122 (dk_at dksX1_worth_1 0 rfl rfl)
theorem dX1_worth_26 : decode cX1_worth 26 = .ok (.astore_n 2, 1) := dk_77 (dk_at dksX1_worth_1 3 rfl rfl)
theorem dX1_worth_27 : decode cX1_worth 27 = .ok (.iconst 0, 1) := dk_3 (dk_at dksX1_worth_1 4 rfl rfl)
theorem dX1_worth_28 : decode cX1_worth 28 = .ok (.istore_n 3, 1) := dk_62 (dk_at dksX1_worth_1 5 rfl rfl)
theorem dX1_worth_29 : decode cX1_worth 29 = .ok (.iconst 1, 1) := dk_4 (dk_at dksX1_worth_1 6 rfl rfl)
theorem dX1_worth_30 : decode cX1_worth 30 = .ok (.istore 4, 2) := dk_54 4 (dk_at dksX1_worth_1 7 rfl rfl)
theorem dX1_worth_32 : decode cX1_worth 32 = .ok (.iload 4, 2) := dk_21 4 (dk_at dksX1_worth_1 9 rfl rfl)
theorem dX1_worth_34 : decode cX1_worth 34 = .ok (.aload_n 2, 1) := dk_44 (dk_at dksX1_worth_1 11 rfl rfl)
theorem dX1_worth_35 : decode cX1_worth 35 = .ok (.getfield 126, 3) := dk_180 0 126 (dk_at dksX1_worth_1 12 rfl rfl)
theorem dX1_worth_38 : decode cX1_worth 38 = .ok (.if_icmp .ge 59, 3) := dk_162 0 59 (dk_at dksX1_worth_1 15 rfl rfl)
theorem dX1_worth_41 : decode cX1_worth 41 = .ok (.aload_n 0, 1) := dk_42 (dk_at dksX1_worth_1 18 rfl rfl)
theorem dX1_worth_42 : decode cX1_worth 42 = .ok (.getfield 29, 3) := dk_180 0 29 (dk_at dksX1_worth_1 19 rfl rfl)
theorem dX1_worth_45 : decode cX1_worth 45 = .ok (.iload_n 1, 1) := dk_27 (dk_at dksX1_worth_1 22 rfl rfl)
theorem dX1_worth_46 : decode cX1_worth 46 = .ok (.iload 4, 2) := dk_21 4 (dk_at dksX1_worth_2 0 rfl rfl)
theorem dX1_worth_48 : decode cX1_worth 48 = .ok (.invokevirtual 352, 3) := dk_182 1 96 (dk_at dksX1_worth_2 2 rfl rfl)
theorem dX1_worth_51 : decode cX1_worth 51 = .ok (.ifCond .eq 15, 3) := dk_153 0 15 (dk_at dksX1_worth_2 5 rfl rfl)
theorem dX1_worth_54 : decode cX1_worth 54 = .ok (.aload_n 2, 1) := dk_44 (dk_at dksX1_worth_2 8 rfl rfl)
theorem dX1_worth_55 : decode cX1_worth 55 = .ok (.iload 4, 2) := dk_21 4 (dk_at dksX1_worth_2 9 rfl rfl)
theorem dX1_worth_57 : decode cX1_worth 57 = .ok (.invokevirtual 200, 3) := dk_182 0 200 (dk_at dksX1_worth_2 11 rfl rfl)
theorem dX1_worth_60 : decode cX1_worth 60 = .ok (.getfield 219, 3) := dk_180 0 219 (dk_at dksX1_worth_2 14 rfl rfl)
theorem dX1_worth_63 : decode cX1_worth 63 = .ok (.ifCond .eq 34, 3) := dk_153 0 34 (dk_at dksX1_worth_2 17 rfl rfl)
theorem dX1_worth_66 : decode cX1_worth 66 = .ok (.iload_n 3, 1) := dk_29 (dk_at dksX1_worth_2 20 rfl rfl)
theorem dX1_worth_67 : decode cX1_worth 67 = .ok (.aload_n 2, 1) := dk_44 (dk_at dksX1_worth_2 21 rfl rfl)
theorem dX1_worth_68 : decode cX1_worth 68 = .ok (.iload 4, 2) := dk_21 4 (dk_at dksX1_worth_2 22 rfl rfl)
theorem dX1_worth_70 : decode cX1_worth 70 = .ok (.invokevirtual 200, 3) := dk_182 0 200 (dk_at dksX1_worth_3 0 rfl rfl)
theorem dX1_worth_73 : decode cX1_worth 73 = .ok (.getfield 219, 3) := dk_180 0 219 (dk_at dksX1_worth_3 3 rfl rfl)
theorem dX1_worth_76 : decode cX1_worth 76 = .ok (.ifCond .eq 7, 3) := dk_153 0 7 (dk_at dksX1_worth_3 6 rfl rfl)
theorem dX1_worth_79 : decode cX1_worth 79 = .ok (.iconst 0, 1) := dk_3 (dk_at dksX1_worth_3 9 rfl rfl)
theorem dX1_worth_80 : decode cX1_worth 80 = .ok (.goto 9, 3) := dk_167 0 9 (dk_at dksX1_worth_3 10 rfl rfl)
theorem dX1_worth_83 : decode cX1_worth 83 = .ok (.aload_n 2, 1) := dk_44 (dk_at dksX1_worth_3 13 rfl rfl)
theorem dX1_worth_84 : decode cX1_worth 84 = .ok (.iload 4, 2) := dk_21 4 (dk_at dksX1_worth_3 14 rfl rfl)
theorem dX1_worth_86 : decode cX1_worth 86 = .ok (.invokestatic 348, 3) := dk_184 1 92 (dk_at dksX1_worth_3 16 rfl rfl)
theorem dX1_worth_89 : decode cX1_worth 89 = .ok (.iadd, 1) := dk_96 (dk_at dksX1_worth_3 19 rfl rfl)
theorem dX1_worth_90 : decode cX1_worth 90 = .ok (.istore_n 3, 1) := dk_62 (dk_at dksX1_worth_3 20 rfl rfl)
theorem dX1_worth_91 : decode cX1_worth 91 = .ok (.iinc 4 1, 3) := dk_132 4 1 (dk_at dksX1_worth_3 21 rfl rfl)
theorem dX1_worth_94 : decode cX1_worth 94 = .ok (.goto (-62), 3) := dk_167 255 194 (dk_at dksX1_worth_4 0 rfl rfl)
theorem dX1_worth_97 : decode cX1_worth 97 = .ok (.iload_n 3, 1) := dk_29 (dk_at dksX1_worth_4 3 rfl rfl)
theorem dX1_worth_98 : decode cX1_worth 98 = .ok (.ireturn, 1) := dk_172 (dk_at dksX1_worth_4 4 rfl rfl)
abbrev cX1_orders : ByteArray := prog_1_method_50_code
def yX1_orders : MethodName := ⟨RX1, "orders", "()I"⟩
def dkwX1_orders_1 : List UInt8 := [180, 0, 49, 180, 1, 108, 172]
abbrev dktX1_orders_1 : List UInt8 := dkwX1_orders_1 ++ []
def dkwX1_orders_0 : List UInt8 := [42, 182, 0, 67, 42, 180, 0, 92, 199, 0, 9, 42, 4, 182, 0, 81, 172, 42, 182, 1, 105, 42]
abbrev dktX1_orders_0 : List UInt8 := dkwX1_orders_0 ++ dktX1_orders_1
theorem dksX1_orders_0 : cX1_orders.data.toList.drop 0 = dktX1_orders_0 := by decide +kernel
theorem dksX1_orders_1 : cX1_orders.data.toList.drop 22 = dktX1_orders_1 := dk_seg dksX1_orders_0 22 rfl rfl
theorem dX1_orders_0 : decode cX1_orders 0 = .ok (.aload_n 0, 1) := dk_42 (dk_at dksX1_orders_0 0 rfl rfl)
theorem dX1_orders_1 : decode cX1_orders 1 = .ok (.invokevirtual 67, 3) := dk_182 0 67 (dk_at dksX1_orders_0 1 rfl rfl)
theorem dX1_orders_4 : decode cX1_orders 4 = .ok (.aload_n 0, 1) := dk_42 (dk_at dksX1_orders_0 4 rfl rfl)
theorem dX1_orders_5 : decode cX1_orders 5 = .ok (.getfield 92, 3) := dk_180 0 92 (dk_at dksX1_orders_0 5 rfl rfl)
theorem dX1_orders_8 : decode cX1_orders 8 = .ok (.ifnonnull 9, 3) := dk_199 0 9 (dk_at dksX1_orders_0 8 rfl rfl)
theorem dX1_orders_11 : decode cX1_orders 11 = .ok (.aload_n 0, 1) := dk_42 (dk_at dksX1_orders_0 11 rfl rfl)
theorem dX1_orders_12 : decode cX1_orders 12 = .ok (.iconst 1, 1) := dk_4 (dk_at dksX1_orders_0 12 rfl rfl)
theorem dX1_orders_13 : decode cX1_orders 13 = .ok (.invokevirtual 81, 3) := dk_182 0 81 (dk_at dksX1_orders_0 13 rfl rfl)
theorem dX1_orders_16 : decode cX1_orders 16 = .ok (.ireturn, 1) := dk_172 (dk_at dksX1_orders_0 16 rfl rfl)
theorem dX1_orders_17 : decode cX1_orders 17 = .ok (.aload_n 0, 1) := dk_42 (dk_at dksX1_orders_0 17 rfl rfl)
theorem dX1_orders_18 : decode cX1_orders 18 = .ok (.invokevirtual 361, 3) := dk_182 1 105 (dk_at dksX1_orders_0 18 rfl rfl)
theorem dX1_orders_21 : decode cX1_orders 21 = .ok (.aload_n 0, 1) := dk_42 (dk_at dksX1_orders_0 21 rfl rfl)
theorem dX1_orders_22 : decode cX1_orders 22 = .ok (.getfield 49, 3) := dk_180 0 49 (dk_at dksX1_orders_1 0 rfl rfl)
theorem dX1_orders_25 : decode cX1_orders 25 = .ok (.getfield 364, 3) := dk_180 1 108 (dk_at dksX1_orders_1 3 rfl rfl)
theorem dX1_orders_28 : decode cX1_orders 28 = .ok (.ireturn, 1) := dk_172 (dk_at dksX1_orders_1 6 rfl rfl)
abbrev cX1_layOrders : ByteArray := prog_1_method_49_code
def yX1_layOrders : MethodName := ⟨RX1, "layOrders", "()V"⟩
def dkwX1_layOrders_0 : List UInt8 := [42, 180, 0, 49, 42, 180, 0, 92, 42, 180, 0, 29, 180, 1, 99, 182, 1, 102, 177]
abbrev dktX1_layOrders_0 : List UInt8 := dkwX1_layOrders_0 ++ []
theorem dksX1_layOrders_0 : cX1_layOrders.data.toList.drop 0 = dktX1_layOrders_0 := by decide +kernel
theorem dX1_layOrders_0 : decode cX1_layOrders 0 = .ok (.aload_n 0, 1) := dk_42 (dk_at dksX1_layOrders_0 0 rfl rfl)
theorem dX1_layOrders_1 : decode cX1_layOrders 1 = .ok (.getfield 49, 3) := dk_180 0 49 (dk_at dksX1_layOrders_0 1 rfl rfl)
theorem dX1_layOrders_4 : decode cX1_layOrders 4 = .ok (.aload_n 0, 1) := dk_42 (dk_at dksX1_layOrders_0 4 rfl rfl)
theorem dX1_layOrders_5 : decode cX1_layOrders 5 = .ok (.getfield 92, 3) := dk_180 0 92 (dk_at dksX1_layOrders_0 5 rfl rfl)
theorem dX1_layOrders_8 : decode cX1_layOrders 8 = .ok (.aload_n 0, 1) := dk_42 (dk_at dksX1_layOrders_0 8 rfl rfl)
theorem dX1_layOrders_9 : decode cX1_layOrders 9 = .ok (.getfield 29, 3) := dk_180 0 29 (dk_at dksX1_layOrders_0 9 rfl rfl)
theorem dX1_layOrders_12 : decode cX1_layOrders 12 = .ok (.getfield 355, 3) := dk_180 1 99 (dk_at dksX1_layOrders_0 12 rfl rfl)
theorem dX1_layOrders_15 : decode cX1_layOrders 15 = .ok (.invokevirtual 358, 3) := dk_182 1 102 (dk_at dksX1_layOrders_0 15 rfl rfl)
theorem dX1_layOrders_18 : decode cX1_layOrders 18 = .ok (.return_, 1) := dk_177 (dk_at dksX1_layOrders_0 18 rfl rfl)
abbrev cX1_has : ByteArray := prog_1_method_2_code
def yX1_has : MethodName := ⟨RX1, "has", "(II)Z"⟩
def dkwX1_has_0 : List UInt8 := [26, 27, 122, 4, 126, 4, 160, 0, 7, 4, 167, 0, 4, 3, 172]
abbrev dktX1_has_0 : List UInt8 := dkwX1_has_0 ++ []
theorem dksX1_has_0 : cX1_has.data.toList.drop 0 = dktX1_has_0 := by decide +kernel
theorem dX1_has_0 : decode cX1_has 0 = .ok (.iload_n 0, 1) := dk_26 (dk_at dksX1_has_0 0 rfl rfl)
theorem dX1_has_1 : decode cX1_has 1 = .ok (.iload_n 1, 1) := dk_27 (dk_at dksX1_has_0 1 rfl rfl)
theorem dX1_has_2 : decode cX1_has 2 = .ok (.ishr, 1) := dk_122 (dk_at dksX1_has_0 2 rfl rfl)
theorem dX1_has_3 : decode cX1_has 3 = .ok (.iconst 1, 1) := dk_4 (dk_at dksX1_has_0 3 rfl rfl)
theorem dX1_has_4 : decode cX1_has 4 = .ok (.iand, 1) := dk_126 (dk_at dksX1_has_0 4 rfl rfl)
theorem dX1_has_5 : decode cX1_has 5 = .ok (.iconst 1, 1) := dk_4 (dk_at dksX1_has_0 5 rfl rfl)
theorem dX1_has_6 : decode cX1_has 6 = .ok (.if_icmp .ne 7, 3) := dk_160 0 7 (dk_at dksX1_has_0 6 rfl rfl)
theorem dX1_has_9 : decode cX1_has 9 = .ok (.iconst 1, 1) := dk_4 (dk_at dksX1_has_0 9 rfl rfl)
theorem dX1_has_10 : decode cX1_has 10 = .ok (.goto 4, 3) := dk_167 0 4 (dk_at dksX1_has_0 10 rfl rfl)
theorem dX1_has_13 : decode cX1_has 13 = .ok (.iconst 0, 1) := dk_3 (dk_at dksX1_has_0 13 rfl rfl)
theorem dX1_has_14 : decode cX1_has 14 = .ok (.ireturn, 1) := dk_172 (dk_at dksX1_has_0 14 rfl rfl)
abbrev cX1_order : ByteArray := prog_1_method_51_code
def yX1_order : MethodName := ⟨RX1, "order", "(II)I"⟩
def dkwX1_order_2 : List UInt8 := [167, 0, 8, 42, 4, 182, 0, 81, 172]
abbrev dktX1_order_2 : List UInt8 := dkwX1_order_2 ++ []
def dkwX1_order_1 : List UInt8 := [182, 1, 105, 27, 42, 180, 0, 49, 180, 1, 108, 162, 0, 15, 42, 180, 0, 49, 27, 28, 182, 1, 112]
abbrev dktX1_order_1 : List UInt8 := dkwX1_order_1 ++ dktX1_order_2
def dkwX1_order_0 : List UInt8 := [42, 182, 0, 67, 42, 28, 182, 1, 109, 153, 0, 7, 27, 156, 0, 9, 42, 4, 182, 0, 81, 172, 42]
abbrev dktX1_order_0 : List UInt8 := dkwX1_order_0 ++ dktX1_order_1
theorem dksX1_order_0 : cX1_order.data.toList.drop 0 = dktX1_order_0 := by decide +kernel
theorem dksX1_order_1 : cX1_order.data.toList.drop 23 = dktX1_order_1 := dk_seg dksX1_order_0 23 rfl rfl
theorem dksX1_order_2 : cX1_order.data.toList.drop 46 = dktX1_order_2 := dk_seg dksX1_order_1 23 rfl rfl
theorem dX1_order_0 : decode cX1_order 0 = .ok (.aload_n 0, 1) := dk_42 (dk_at dksX1_order_0 0 rfl rfl)
theorem dX1_order_1 : decode cX1_order 1 = .ok (.invokevirtual 67, 3) := dk_182 0 67 (dk_at dksX1_order_0 1 rfl rfl)
theorem dX1_order_4 : decode cX1_order 4 = .ok (.aload_n 0, 1) := dk_42 (dk_at dksX1_order_0 4 rfl rfl)
theorem dX1_order_5 : decode cX1_order 5 = .ok (.iload_n 2, 1) := dk_28 (dk_at dksX1_order_0 5 rfl rfl)
theorem dX1_order_6 : decode cX1_order 6 = .ok (.invokevirtual 365, 3) := dk_182 1 109 (dk_at dksX1_order_0 6 rfl rfl)
theorem dX1_order_9 : decode cX1_order 9 = .ok (.ifCond .eq 7, 3) := dk_153 0 7 (dk_at dksX1_order_0 9 rfl rfl)
theorem dX1_order_12 : decode cX1_order 12 = .ok (.iload_n 1, 1) := dk_27 (dk_at dksX1_order_0 12 rfl rfl)
theorem dX1_order_13 : decode cX1_order 13 = .ok (.ifCond .ge 9, 3) := dk_156 0 9 (dk_at dksX1_order_0 13 rfl rfl)
theorem dX1_order_16 : decode cX1_order 16 = .ok (.aload_n 0, 1) := dk_42 (dk_at dksX1_order_0 16 rfl rfl)
theorem dX1_order_17 : decode cX1_order 17 = .ok (.iconst 1, 1) := dk_4 (dk_at dksX1_order_0 17 rfl rfl)
theorem dX1_order_18 : decode cX1_order 18 = .ok (.invokevirtual 81, 3) := dk_182 0 81 (dk_at dksX1_order_0 18 rfl rfl)
theorem dX1_order_21 : decode cX1_order 21 = .ok (.ireturn, 1) := dk_172 (dk_at dksX1_order_0 21 rfl rfl)
theorem dX1_order_22 : decode cX1_order 22 = .ok (.aload_n 0, 1) := dk_42 (dk_at dksX1_order_0 22 rfl rfl)
theorem dX1_order_23 : decode cX1_order 23 = .ok (.invokevirtual 361, 3) := dk_182 1 105 (dk_at dksX1_order_1 0 rfl rfl)
theorem dX1_order_26 : decode cX1_order 26 = .ok (.iload_n 1, 1) := dk_27 (dk_at dksX1_order_1 3 rfl rfl)
theorem dX1_order_27 : decode cX1_order 27 = .ok (.aload_n 0, 1) := dk_42 (dk_at dksX1_order_1 4 rfl rfl)
theorem dX1_order_28 : decode cX1_order 28 = .ok (.getfield 49, 3) := dk_180 0 49 (dk_at dksX1_order_1 5 rfl rfl)
theorem dX1_order_31 : decode cX1_order 31 = .ok (.getfield 364, 3) := dk_180 1 108 (dk_at dksX1_order_1 8 rfl rfl)
theorem dX1_order_34 : decode cX1_order 34 = .ok (.if_icmp .ge 15, 3) := dk_162 0 15 (dk_at dksX1_order_1 11 rfl rfl)
theorem dX1_order_37 : decode cX1_order 37 = .ok (.aload_n 0, 1) := dk_42 (dk_at dksX1_order_1 14 rfl rfl)
theorem dX1_order_38 : decode cX1_order 38 = .ok (.getfield 49, 3) := dk_180 0 49 (dk_at dksX1_order_1 15 rfl rfl)
theorem dX1_order_41 : decode cX1_order 41 = .ok (.iload_n 1, 1) := dk_27 (dk_at dksX1_order_1 18 rfl rfl)
theorem dX1_order_42 : decode cX1_order 42 = .ok (.iload_n 2, 1) := dk_28 (dk_at dksX1_order_1 19 rfl rfl)
theorem dX1_order_43 : decode cX1_order 43 = .ok (.invokevirtual 368, 3) := dk_182 1 112 (dk_at dksX1_order_1 20 rfl rfl)
theorem dX1_order_46 : decode cX1_order 46 = .ok (.goto 8, 3) := dk_167 0 8 (dk_at dksX1_order_2 0 rfl rfl)
theorem dX1_order_49 : decode cX1_order 49 = .ok (.aload_n 0, 1) := dk_42 (dk_at dksX1_order_2 3 rfl rfl)
theorem dX1_order_50 : decode cX1_order 50 = .ok (.iconst 1, 1) := dk_4 (dk_at dksX1_order_2 4 rfl rfl)
theorem dX1_order_51 : decode cX1_order 51 = .ok (.invokevirtual 81, 3) := dk_182 0 81 (dk_at dksX1_order_2 5 rfl rfl)
theorem dX1_order_54 : decode cX1_order 54 = .ok (.ireturn, 1) := dk_172 (dk_at dksX1_order_2 8 rfl rfl)
abbrev cX1_isWall : ByteArray := prog_1_method_17_code
def yX1_isWall : MethodName := ⟨RX1, "isWall", "(I)Z"⟩
def dkwX1_isWall_1 : List UInt8 := [4, 167, 0, 4, 3, 172]
abbrev dktX1_isWall_1 : List UInt8 := dkwX1_isWall_1 ++ []
def dkwX1_isWall_0 : List UInt8 := [42, 180, 0, 92, 198, 0, 24, 27, 3, 42, 180, 0, 92, 180, 0, 141, 4, 100, 184, 0, 77, 153, 0, 7]
abbrev dktX1_isWall_0 : List UInt8 := dkwX1_isWall_0 ++ dktX1_isWall_1
theorem dksX1_isWall_0 : cX1_isWall.data.toList.drop 0 = dktX1_isWall_0 := by decide +kernel
theorem dksX1_isWall_1 : cX1_isWall.data.toList.drop 24 = dktX1_isWall_1 := dk_seg dksX1_isWall_0 24 rfl rfl
theorem dX1_isWall_0 : decode cX1_isWall 0 = .ok (.aload_n 0, 1) := dk_42 (dk_at dksX1_isWall_0 0 rfl rfl)
theorem dX1_isWall_1 : decode cX1_isWall 1 = .ok (.getfield 92, 3) := dk_180 0 92 (dk_at dksX1_isWall_0 1 rfl rfl)
theorem dX1_isWall_4 : decode cX1_isWall 4 = .ok (.ifnull 24, 3) := dk_198 0 24 (dk_at dksX1_isWall_0 4 rfl rfl)
theorem dX1_isWall_7 : decode cX1_isWall 7 = .ok (.iload_n 1, 1) := dk_27 (dk_at dksX1_isWall_0 7 rfl rfl)
theorem dX1_isWall_8 : decode cX1_isWall 8 = .ok (.iconst 0, 1) := dk_3 (dk_at dksX1_isWall_0 8 rfl rfl)
theorem dX1_isWall_9 : decode cX1_isWall 9 = .ok (.aload_n 0, 1) := dk_42 (dk_at dksX1_isWall_0 9 rfl rfl)
theorem dX1_isWall_10 : decode cX1_isWall 10 = .ok (.getfield 92, 3) := dk_180 0 92 (dk_at dksX1_isWall_0 10 rfl rfl)
theorem dX1_isWall_13 : decode cX1_isWall 13 = .ok (.getfield 141, 3) := dk_180 0 141 (dk_at dksX1_isWall_0 13 rfl rfl)
theorem dX1_isWall_16 : decode cX1_isWall 16 = .ok (.iconst 1, 1) := dk_4 (dk_at dksX1_isWall_0 16 rfl rfl)
theorem dX1_isWall_17 : decode cX1_isWall 17 = .ok (.isub, 1) := dk_100 (dk_at dksX1_isWall_0 17 rfl rfl)
theorem dX1_isWall_18 : decode cX1_isWall 18 = .ok (.invokestatic 77, 3) := dk_184 0 77 (dk_at dksX1_isWall_0 18 rfl rfl)
theorem dX1_isWall_21 : decode cX1_isWall 21 = .ok (.ifCond .eq 7, 3) := dk_153 0 7 (dk_at dksX1_isWall_0 21 rfl rfl)
theorem dX1_isWall_24 : decode cX1_isWall 24 = .ok (.iconst 1, 1) := dk_4 (dk_at dksX1_isWall_1 0 rfl rfl)
theorem dX1_isWall_25 : decode cX1_isWall 25 = .ok (.goto 4, 3) := dk_167 0 4 (dk_at dksX1_isWall_1 1 rfl rfl)
theorem dX1_isWall_28 : decode cX1_isWall 28 = .ok (.iconst 0, 1) := dk_3 (dk_at dksX1_isWall_1 4 rfl rfl)
theorem dX1_isWall_29 : decode cX1_isWall 29 = .ok (.ireturn, 1) := dk_172 (dk_at dksX1_isWall_1 5 rfl rfl)
abbrev cX1_soonest : ByteArray := prog_1_method_52_code
def yX1_soonest : MethodName := ⟨RX1, "soonest", "(I)I"⟩
def dkwX1_soonest_1 : List UInt8 := [180, 0, 49, 27, 182, 1, 115, 172]
abbrev dktX1_soonest_1 : List UInt8 := dkwX1_soonest_1 ++ []
def dkwX1_soonest_0 : List UInt8 := [42, 182, 0, 67, 42, 27, 182, 1, 109, 154, 0, 9, 42, 4, 182, 0, 81, 172, 42, 182, 1, 105, 42]
abbrev dktX1_soonest_0 : List UInt8 := dkwX1_soonest_0 ++ dktX1_soonest_1
theorem dksX1_soonest_0 : cX1_soonest.data.toList.drop 0 = dktX1_soonest_0 := by decide +kernel
theorem dksX1_soonest_1 : cX1_soonest.data.toList.drop 23 = dktX1_soonest_1 := dk_seg dksX1_soonest_0 23 rfl rfl
theorem dX1_soonest_0 : decode cX1_soonest 0 = .ok (.aload_n 0, 1) := dk_42 (dk_at dksX1_soonest_0 0 rfl rfl)
theorem dX1_soonest_1 : decode cX1_soonest 1 = .ok (.invokevirtual 67, 3) := dk_182 0 67 (dk_at dksX1_soonest_0 1 rfl rfl)
theorem dX1_soonest_4 : decode cX1_soonest 4 = .ok (.aload_n 0, 1) := dk_42 (dk_at dksX1_soonest_0 4 rfl rfl)
theorem dX1_soonest_5 : decode cX1_soonest 5 = .ok (.iload_n 1, 1) := dk_27 (dk_at dksX1_soonest_0 5 rfl rfl)
theorem dX1_soonest_6 : decode cX1_soonest 6 = .ok (.invokevirtual 365, 3) := dk_182 1 109 (dk_at dksX1_soonest_0 6 rfl rfl)
theorem dX1_soonest_9 : decode cX1_soonest 9 = .ok (.ifCond .ne 9, 3) := dk_154 0 9 (dk_at dksX1_soonest_0 9 rfl rfl)
theorem dX1_soonest_12 : decode cX1_soonest 12 = .ok (.aload_n 0, 1) := dk_42 (dk_at dksX1_soonest_0 12 rfl rfl)
theorem dX1_soonest_13 : decode cX1_soonest 13 = .ok (.iconst 1, 1) := dk_4 (dk_at dksX1_soonest_0 13 rfl rfl)
theorem dX1_soonest_14 : decode cX1_soonest 14 = .ok (.invokevirtual 81, 3) := dk_182 0 81 (dk_at dksX1_soonest_0 14 rfl rfl)
theorem dX1_soonest_17 : decode cX1_soonest 17 = .ok (.ireturn, 1) := dk_172 (dk_at dksX1_soonest_0 17 rfl rfl)
theorem dX1_soonest_18 : decode cX1_soonest 18 = .ok (.aload_n 0, 1) := dk_42 (dk_at dksX1_soonest_0 18 rfl rfl)
theorem dX1_soonest_19 : decode cX1_soonest 19 = .ok (.invokevirtual 361, 3) := dk_182 1 105 (dk_at dksX1_soonest_0 19 rfl rfl)
theorem dX1_soonest_22 : decode cX1_soonest 22 = .ok (.aload_n 0, 1) := dk_42 (dk_at dksX1_soonest_0 22 rfl rfl)
theorem dX1_soonest_23 : decode cX1_soonest 23 = .ok (.getfield 49, 3) := dk_180 0 49 (dk_at dksX1_soonest_1 0 rfl rfl)
theorem dX1_soonest_26 : decode cX1_soonest 26 = .ok (.iload_n 1, 1) := dk_27 (dk_at dksX1_soonest_1 3 rfl rfl)
theorem dX1_soonest_27 : decode cX1_soonest 27 = .ok (.invokevirtual 371, 3) := dk_182 1 115 (dk_at dksX1_soonest_1 4 rfl rfl)
theorem dX1_soonest_30 : decode cX1_soonest 30 = .ok (.ireturn, 1) := dk_172 (dk_at dksX1_soonest_1 7 rfl rfl)
abbrev cX1_latest : ByteArray := prog_1_method_53_code
def yX1_latest : MethodName := ⟨RX1, "latest", "(I)I"⟩
def dkwX1_latest_1 : List UInt8 := [180, 0, 49, 27, 182, 1, 118, 172]
abbrev dktX1_latest_1 : List UInt8 := dkwX1_latest_1 ++ []
def dkwX1_latest_0 : List UInt8 := [42, 182, 0, 67, 42, 27, 182, 1, 109, 154, 0, 9, 42, 4, 182, 0, 81, 172, 42, 182, 1, 105, 42]
abbrev dktX1_latest_0 : List UInt8 := dkwX1_latest_0 ++ dktX1_latest_1
theorem dksX1_latest_0 : cX1_latest.data.toList.drop 0 = dktX1_latest_0 := by decide +kernel
theorem dksX1_latest_1 : cX1_latest.data.toList.drop 23 = dktX1_latest_1 := dk_seg dksX1_latest_0 23 rfl rfl
theorem dX1_latest_0 : decode cX1_latest 0 = .ok (.aload_n 0, 1) := dk_42 (dk_at dksX1_latest_0 0 rfl rfl)
theorem dX1_latest_1 : decode cX1_latest 1 = .ok (.invokevirtual 67, 3) := dk_182 0 67 (dk_at dksX1_latest_0 1 rfl rfl)
theorem dX1_latest_4 : decode cX1_latest 4 = .ok (.aload_n 0, 1) := dk_42 (dk_at dksX1_latest_0 4 rfl rfl)
theorem dX1_latest_5 : decode cX1_latest 5 = .ok (.iload_n 1, 1) := dk_27 (dk_at dksX1_latest_0 5 rfl rfl)
theorem dX1_latest_6 : decode cX1_latest 6 = .ok (.invokevirtual 365, 3) := dk_182 1 109 (dk_at dksX1_latest_0 6 rfl rfl)
theorem dX1_latest_9 : decode cX1_latest 9 = .ok (.ifCond .ne 9, 3) := dk_154 0 9 (dk_at dksX1_latest_0 9 rfl rfl)
theorem dX1_latest_12 : decode cX1_latest 12 = .ok (.aload_n 0, 1) := dk_42 (dk_at dksX1_latest_0 12 rfl rfl)
theorem dX1_latest_13 : decode cX1_latest 13 = .ok (.iconst 1, 1) := dk_4 (dk_at dksX1_latest_0 13 rfl rfl)
theorem dX1_latest_14 : decode cX1_latest 14 = .ok (.invokevirtual 81, 3) := dk_182 0 81 (dk_at dksX1_latest_0 14 rfl rfl)
theorem dX1_latest_17 : decode cX1_latest 17 = .ok (.ireturn, 1) := dk_172 (dk_at dksX1_latest_0 17 rfl rfl)
theorem dX1_latest_18 : decode cX1_latest 18 = .ok (.aload_n 0, 1) := dk_42 (dk_at dksX1_latest_0 18 rfl rfl)
theorem dX1_latest_19 : decode cX1_latest 19 = .ok (.invokevirtual 361, 3) := dk_182 1 105 (dk_at dksX1_latest_0 19 rfl rfl)
theorem dX1_latest_22 : decode cX1_latest 22 = .ok (.aload_n 0, 1) := dk_42 (dk_at dksX1_latest_0 22 rfl rfl)
theorem dX1_latest_23 : decode cX1_latest 23 = .ok (.getfield 49, 3) := dk_180 0 49 (dk_at dksX1_latest_1 0 rfl rfl)
theorem dX1_latest_26 : decode cX1_latest 26 = .ok (.iload_n 1, 1) := dk_27 (dk_at dksX1_latest_1 3 rfl rfl)
theorem dX1_latest_27 : decode cX1_latest 27 = .ok (.invokevirtual 374, 3) := dk_182 1 118 (dk_at dksX1_latest_1 4 rfl rfl)
theorem dX1_latest_30 : decode cX1_latest 30 = .ok (.ireturn, 1) := dk_172 (dk_at dksX1_latest_1 7 rfl rfl)
abbrev cX1_surely : ByteArray := prog_1_method_54_code
def yX1_surely : MethodName := ⟨RX1, "surely", "(II)I"⟩
def dkwX1_surely_2 : List UInt8 := [153, 0, 7, 4, 167, 0, 4, 3, 172]
abbrev dktX1_surely_2 : List UInt8 := dkwX1_surely_2 ++ []
def dkwX1_surely_1 : List UInt8 := [160, 0, 9, 42, 4, 182, 0, 81, 172, 42, 182, 1, 105, 42, 180, 0, 49, 27, 28, 182, 1, 121]
abbrev dktX1_surely_1 : List UInt8 := dkwX1_surely_1 ++ dktX1_surely_2
def dkwX1_surely_0 : List UInt8 := [42, 182, 0, 67, 42, 27, 182, 1, 109, 153, 0, 16, 42, 28, 182, 1, 109, 153, 0, 8, 27, 28]
abbrev dktX1_surely_0 : List UInt8 := dkwX1_surely_0 ++ dktX1_surely_1
theorem dksX1_surely_0 : cX1_surely.data.toList.drop 0 = dktX1_surely_0 := by decide +kernel
theorem dksX1_surely_1 : cX1_surely.data.toList.drop 22 = dktX1_surely_1 := dk_seg dksX1_surely_0 22 rfl rfl
theorem dksX1_surely_2 : cX1_surely.data.toList.drop 44 = dktX1_surely_2 := dk_seg dksX1_surely_1 22 rfl rfl
theorem dX1_surely_0 : decode cX1_surely 0 = .ok (.aload_n 0, 1) := dk_42 (dk_at dksX1_surely_0 0 rfl rfl)
theorem dX1_surely_1 : decode cX1_surely 1 = .ok (.invokevirtual 67, 3) := dk_182 0 67 (dk_at dksX1_surely_0 1 rfl rfl)
theorem dX1_surely_4 : decode cX1_surely 4 = .ok (.aload_n 0, 1) := dk_42 (dk_at dksX1_surely_0 4 rfl rfl)
theorem dX1_surely_5 : decode cX1_surely 5 = .ok (.iload_n 1, 1) := dk_27 (dk_at dksX1_surely_0 5 rfl rfl)
theorem dX1_surely_6 : decode cX1_surely 6 = .ok (.invokevirtual 365, 3) := dk_182 1 109 (dk_at dksX1_surely_0 6 rfl rfl)
theorem dX1_surely_9 : decode cX1_surely 9 = .ok (.ifCond .eq 16, 3) := dk_153 0 16 (dk_at dksX1_surely_0 9 rfl rfl)
theorem dX1_surely_12 : decode cX1_surely 12 = .ok (.aload_n 0, 1) := dk_42 (dk_at dksX1_surely_0 12 rfl rfl)
theorem dX1_surely_13 : decode cX1_surely 13 = .ok (.iload_n 2, 1) := dk_28 (dk_at dksX1_surely_0 13 rfl rfl)
theorem dX1_surely_14 : decode cX1_surely 14 = .ok (.invokevirtual 365, 3) := dk_182 1 109 (dk_at dksX1_surely_0 14 rfl rfl)
theorem dX1_surely_17 : decode cX1_surely 17 = .ok (.ifCond .eq 8, 3) := dk_153 0 8 (dk_at dksX1_surely_0 17 rfl rfl)
theorem dX1_surely_20 : decode cX1_surely 20 = .ok (.iload_n 1, 1) := dk_27 (dk_at dksX1_surely_0 20 rfl rfl)
theorem dX1_surely_21 : decode cX1_surely 21 = .ok (.iload_n 2, 1) := dk_28 (dk_at dksX1_surely_0 21 rfl rfl)
theorem dX1_surely_22 : decode cX1_surely 22 = .ok (.if_icmp .ne 9, 3) := dk_160 0 9 (dk_at dksX1_surely_1 0 rfl rfl)
theorem dX1_surely_25 : decode cX1_surely 25 = .ok (.aload_n 0, 1) := dk_42 (dk_at dksX1_surely_1 3 rfl rfl)
theorem dX1_surely_26 : decode cX1_surely 26 = .ok (.iconst 1, 1) := dk_4 (dk_at dksX1_surely_1 4 rfl rfl)
theorem dX1_surely_27 : decode cX1_surely 27 = .ok (.invokevirtual 81, 3) := dk_182 0 81 (dk_at dksX1_surely_1 5 rfl rfl)
theorem dX1_surely_30 : decode cX1_surely 30 = .ok (.ireturn, 1) := dk_172 (dk_at dksX1_surely_1 8 rfl rfl)
theorem dX1_surely_31 : decode cX1_surely 31 = .ok (.aload_n 0, 1) := dk_42 (dk_at dksX1_surely_1 9 rfl rfl)
theorem dX1_surely_32 : decode cX1_surely 32 = .ok (.invokevirtual 361, 3) := dk_182 1 105 (dk_at dksX1_surely_1 10 rfl rfl)
theorem dX1_surely_35 : decode cX1_surely 35 = .ok (.aload_n 0, 1) := dk_42 (dk_at dksX1_surely_1 13 rfl rfl)
theorem dX1_surely_36 : decode cX1_surely 36 = .ok (.getfield 49, 3) := dk_180 0 49 (dk_at dksX1_surely_1 14 rfl rfl)
theorem dX1_surely_39 : decode cX1_surely 39 = .ok (.iload_n 1, 1) := dk_27 (dk_at dksX1_surely_1 17 rfl rfl)
theorem dX1_surely_40 : decode cX1_surely 40 = .ok (.iload_n 2, 1) := dk_28 (dk_at dksX1_surely_1 18 rfl rfl)
theorem dX1_surely_41 : decode cX1_surely 41 = .ok (.invokevirtual 377, 3) := dk_182 1 121 (dk_at dksX1_surely_1 19 rfl rfl)
theorem dX1_surely_44 : decode cX1_surely 44 = .ok (.ifCond .eq 7, 3) := dk_153 0 7 (dk_at dksX1_surely_2 0 rfl rfl)
theorem dX1_surely_47 : decode cX1_surely 47 = .ok (.iconst 1, 1) := dk_4 (dk_at dksX1_surely_2 3 rfl rfl)
theorem dX1_surely_48 : decode cX1_surely 48 = .ok (.goto 4, 3) := dk_167 0 4 (dk_at dksX1_surely_2 4 rfl rfl)
theorem dX1_surely_51 : decode cX1_surely 51 = .ok (.iconst 0, 1) := dk_3 (dk_at dksX1_surely_2 7 rfl rfl)
theorem dX1_surely_52 : decode cX1_surely 52 = .ok (.ireturn, 1) := dk_172 (dk_at dksX1_surely_2 8 rfl rfl)
abbrev cX1_years : ByteArray := prog_1_method_57_code
def yX1_years : MethodName := ⟨RX1, "years", "(I)I"⟩
def dkwX1_years_3 : List UInt8 := [180, 0, 29, 182, 1, 46, 172]
abbrev dktX1_years_3 : List UInt8 := dkwX1_years_3 ++ []
def dkwX1_years_2 : List UInt8 := [42, 6, 182, 0, 81, 172, 42, 182, 1, 124, 42, 180, 0, 29, 27, 182, 1, 37, 42, 182, 1, 127, 87, 42]
abbrev dktX1_years_2 : List UInt8 := dkwX1_years_2 ++ dktX1_years_3
def dkwX1_years_1 : List UInt8 := [154, 0, 9, 42, 5, 182, 0, 81, 172, 42, 180, 0, 29, 180, 1, 99, 27, 96, 17, 3, 231, 164, 0, 9]
abbrev dktX1_years_1 : List UInt8 := dkwX1_years_1 ++ dktX1_years_2
def dkwX1_years_0 : List UInt8 := [42, 182, 0, 67, 42, 180, 0, 92, 199, 0, 9, 42, 4, 182, 0, 81, 172, 27, 4, 16, 20, 184, 0, 77]
abbrev dktX1_years_0 : List UInt8 := dkwX1_years_0 ++ dktX1_years_1
theorem dksX1_years_0 : cX1_years.data.toList.drop 0 = dktX1_years_0 := by decide +kernel
theorem dksX1_years_1 : cX1_years.data.toList.drop 24 = dktX1_years_1 := dk_seg dksX1_years_0 24 rfl rfl
theorem dksX1_years_2 : cX1_years.data.toList.drop 48 = dktX1_years_2 := dk_seg dksX1_years_1 24 rfl rfl
theorem dksX1_years_3 : cX1_years.data.toList.drop 72 = dktX1_years_3 := dk_seg dksX1_years_2 24 rfl rfl
theorem dX1_years_0 : decode cX1_years 0 = .ok (.aload_n 0, 1) := dk_42 (dk_at dksX1_years_0 0 rfl rfl)
theorem dX1_years_1 : decode cX1_years 1 = .ok (.invokevirtual 67, 3) := dk_182 0 67 (dk_at dksX1_years_0 1 rfl rfl)
theorem dX1_years_4 : decode cX1_years 4 = .ok (.aload_n 0, 1) := dk_42 (dk_at dksX1_years_0 4 rfl rfl)
theorem dX1_years_5 : decode cX1_years 5 = .ok (.getfield 92, 3) := dk_180 0 92 (dk_at dksX1_years_0 5 rfl rfl)
theorem dX1_years_8 : decode cX1_years 8 = .ok (.ifnonnull 9, 3) := dk_199 0 9 (dk_at dksX1_years_0 8 rfl rfl)
theorem dX1_years_11 : decode cX1_years 11 = .ok (.aload_n 0, 1) := dk_42 (dk_at dksX1_years_0 11 rfl rfl)
theorem dX1_years_12 : decode cX1_years 12 = .ok (.iconst 1, 1) := dk_4 (dk_at dksX1_years_0 12 rfl rfl)
theorem dX1_years_13 : decode cX1_years 13 = .ok (.invokevirtual 81, 3) := dk_182 0 81 (dk_at dksX1_years_0 13 rfl rfl)
theorem dX1_years_16 : decode cX1_years 16 = .ok (.ireturn, 1) := dk_172 (dk_at dksX1_years_0 16 rfl rfl)
theorem dX1_years_17 : decode cX1_years 17 = .ok (.iload_n 1, 1) := dk_27 (dk_at dksX1_years_0 17 rfl rfl)
theorem dX1_years_18 : decode cX1_years 18 = .ok (.iconst 1, 1) := dk_4 (dk_at dksX1_years_0 18 rfl rfl)
theorem dX1_years_19 : decode cX1_years 19 = .ok (.bipush 20, 2) := dk_16 20 (dk_at dksX1_years_0 19 rfl rfl)
theorem dX1_years_21 : decode cX1_years 21 = .ok (.invokestatic 77, 3) := dk_184 0 77 (dk_at dksX1_years_0 21 rfl rfl)
theorem dX1_years_24 : decode cX1_years 24 = .ok (.ifCond .ne 9, 3) := dk_154 0 9 (dk_at dksX1_years_1 0 rfl rfl)
theorem dX1_years_27 : decode cX1_years 27 = .ok (.aload_n 0, 1) := dk_42 (dk_at dksX1_years_1 3 rfl rfl)
theorem dX1_years_28 : decode cX1_years 28 = .ok (.iconst 2, 1) := dk_5 (dk_at dksX1_years_1 4 rfl rfl)
theorem dX1_years_29 : decode cX1_years 29 = .ok (.invokevirtual 81, 3) := dk_182 0 81 (dk_at dksX1_years_1 5 rfl rfl)
theorem dX1_years_32 : decode cX1_years 32 = .ok (.ireturn, 1) := dk_172 (dk_at dksX1_years_1 8 rfl rfl)
theorem dX1_years_33 : decode cX1_years 33 = .ok (.aload_n 0, 1) := dk_42 (dk_at dksX1_years_1 9 rfl rfl)
theorem dX1_years_34 : decode cX1_years 34 = .ok (.getfield 29, 3) := dk_180 0 29 (dk_at dksX1_years_1 10 rfl rfl)
theorem dX1_years_37 : decode cX1_years 37 = .ok (.getfield 355, 3) := dk_180 1 99 (dk_at dksX1_years_1 13 rfl rfl)
theorem dX1_years_40 : decode cX1_years 40 = .ok (.iload_n 1, 1) := dk_27 (dk_at dksX1_years_1 16 rfl rfl)
theorem dX1_years_41 : decode cX1_years 41 = .ok (.iadd, 1) := dk_96 (dk_at dksX1_years_1 17 rfl rfl)
theorem dX1_years_42 : decode cX1_years 42 = .ok (.sipush 999, 3) := dk_17 3 231 (dk_at dksX1_years_1 18 rfl rfl)
theorem dX1_years_45 : decode cX1_years 45 = .ok (.if_icmp .le 9, 3) := dk_164 0 9 (dk_at dksX1_years_1 21 rfl rfl)
theorem dX1_years_48 : decode cX1_years 48 = .ok (.aload_n 0, 1) := dk_42 (dk_at dksX1_years_2 0 rfl rfl)
theorem dX1_years_49 : decode cX1_years 49 = .ok (.iconst 3, 1) := dk_6 (dk_at dksX1_years_2 1 rfl rfl)
theorem dX1_years_50 : decode cX1_years 50 = .ok (.invokevirtual 81, 3) := dk_182 0 81 (dk_at dksX1_years_2 2 rfl rfl)
theorem dX1_years_53 : decode cX1_years 53 = .ok (.ireturn, 1) := dk_172 (dk_at dksX1_years_2 5 rfl rfl)
theorem dX1_years_54 : decode cX1_years 54 = .ok (.aload_n 0, 1) := dk_42 (dk_at dksX1_years_2 6 rfl rfl)
theorem dX1_years_55 : decode cX1_years 55 = .ok (.invokevirtual 380, 3) := dk_182 1 124 (dk_at dksX1_years_2 7 rfl rfl)
theorem dX1_years_58 : decode cX1_years 58 = .ok (.aload_n 0, 1) := dk_42 (dk_at dksX1_years_2 10 rfl rfl)
theorem dX1_years_59 : decode cX1_years 59 = .ok (.getfield 29, 3) := dk_180 0 29 (dk_at dksX1_years_2 11 rfl rfl)
theorem dX1_years_62 : decode cX1_years 62 = .ok (.iload_n 1, 1) := dk_27 (dk_at dksX1_years_2 14 rfl rfl)
theorem dX1_years_63 : decode cX1_years 63 = .ok (.invokevirtual 293, 3) := dk_182 1 37 (dk_at dksX1_years_2 15 rfl rfl)
theorem dX1_years_66 : decode cX1_years 66 = .ok (.aload_n 0, 1) := dk_42 (dk_at dksX1_years_2 18 rfl rfl)
theorem dX1_years_67 : decode cX1_years 67 = .ok (.invokevirtual 383, 3) := dk_182 1 127 (dk_at dksX1_years_2 19 rfl rfl)
theorem dX1_years_70 : decode cX1_years 70 = .ok (.pop, 1) := dk_87 (dk_at dksX1_years_2 22 rfl rfl)
theorem dX1_years_71 : decode cX1_years 71 = .ok (.aload_n 0, 1) := dk_42 (dk_at dksX1_years_2 23 rfl rfl)
theorem dX1_years_72 : decode cX1_years 72 = .ok (.getfield 29, 3) := dk_180 0 29 (dk_at dksX1_years_3 0 rfl rfl)
theorem dX1_years_75 : decode cX1_years 75 = .ok (.invokevirtual 302, 3) := dk_182 1 46 (dk_at dksX1_years_3 3 rfl rfl)
theorem dX1_years_78 : decode cX1_years 78 = .ok (.ireturn, 1) := dk_172 (dk_at dksX1_years_3 6 rfl rfl)
abbrev cX1_note : ByteArray := prog_1_method_55_code
def yX1_note : MethodName := ⟨RX1, "note", "()V"⟩
def dkwX1_note_0 : List UInt8 := [42, 180, 0, 33, 42, 180, 0, 29, 182, 0, 105, 177]
abbrev dktX1_note_0 : List UInt8 := dkwX1_note_0 ++ []
theorem dksX1_note_0 : cX1_note.data.toList.drop 0 = dktX1_note_0 := by decide +kernel
theorem dX1_note_0 : decode cX1_note 0 = .ok (.aload_n 0, 1) := dk_42 (dk_at dksX1_note_0 0 rfl rfl)
theorem dX1_note_1 : decode cX1_note 1 = .ok (.getfield 33, 3) := dk_180 0 33 (dk_at dksX1_note_0 1 rfl rfl)
theorem dX1_note_4 : decode cX1_note 4 = .ok (.aload_n 0, 1) := dk_42 (dk_at dksX1_note_0 4 rfl rfl)
theorem dX1_note_5 : decode cX1_note 5 = .ok (.getfield 29, 3) := dk_180 0 29 (dk_at dksX1_note_0 5 rfl rfl)
theorem dX1_note_8 : decode cX1_note 8 = .ok (.invokevirtual 105, 3) := dk_182 0 105 (dk_at dksX1_note_0 8 rfl rfl)
theorem dX1_note_11 : decode cX1_note 11 = .ok (.return_, 1) := dk_177 (dk_at dksX1_note_0 11 rfl rfl)
abbrev cX1_done : ByteArray := prog_1_method_56_code
def yX1_done : MethodName := ⟨RX1, "done", "()Z"⟩
def dkwX1_done_3 : List UInt8 := [180, 0, 33, 182, 0, 105, 42, 89, 180, 0, 109, 4, 96, 181, 0, 109, 4, 172]
abbrev dktX1_done_3 : List UInt8 := dkwX1_done_3 ++ []
def dkwX1_done_2 : List UInt8 := [16, 9, 43, 83, 42, 89, 180, 0, 109, 4, 100, 181, 0, 109, 42, 180, 0, 53, 42, 180, 0, 109, 50, 42]
abbrev dktX1_done_2 : List UInt8 := dkwX1_done_2 ++ dktX1_done_3
def dkwX1_done_1 : List UInt8 := [42, 180, 0, 53, 28, 4, 100, 42, 180, 0, 53, 28, 50, 83, 132, 2, 1, 167, 255, 233, 42, 180, 0, 53]
abbrev dktX1_done_1 : List UInt8 := dkwX1_done_1 ++ dktX1_done_2
def dkwX1_done_0 : List UInt8 := [42, 180, 0, 109, 16, 10, 160, 0, 56, 42, 180, 0, 53, 3, 50, 76, 4, 61, 28, 16, 10, 162, 0, 23]
abbrev dktX1_done_0 : List UInt8 := dkwX1_done_0 ++ dktX1_done_1
theorem dksX1_done_0 : cX1_done.data.toList.drop 0 = dktX1_done_0 := by decide +kernel
theorem dksX1_done_1 : cX1_done.data.toList.drop 24 = dktX1_done_1 := dk_seg dksX1_done_0 24 rfl rfl
theorem dksX1_done_2 : cX1_done.data.toList.drop 48 = dktX1_done_2 := dk_seg dksX1_done_1 24 rfl rfl
theorem dksX1_done_3 : cX1_done.data.toList.drop 72 = dktX1_done_3 := dk_seg dksX1_done_2 24 rfl rfl
theorem dX1_done_0 : decode cX1_done 0 = .ok (.aload_n 0, 1) := dk_42 (dk_at dksX1_done_0 0 rfl rfl)
theorem dX1_done_1 : decode cX1_done 1 = .ok (.getfield 109, 3) := dk_180 0 109 (dk_at dksX1_done_0 1 rfl rfl)
theorem dX1_done_4 : decode cX1_done 4 = .ok (.bipush 10, 2) := dk_16 10 (dk_at dksX1_done_0 4 rfl rfl)
theorem dX1_done_6 : decode cX1_done 6 = .ok (.if_icmp .ne 56, 3) := dk_160 0 56 (dk_at dksX1_done_0 6 rfl rfl)
theorem dX1_done_9 : decode cX1_done 9 = .ok (.aload_n 0, 1) := dk_42 (dk_at dksX1_done_0 9 rfl rfl)
theorem dX1_done_10 : decode cX1_done 10 = .ok (.getfield 53, 3) := dk_180 0 53 (dk_at dksX1_done_0 10 rfl rfl)
theorem dX1_done_13 : decode cX1_done 13 = .ok (.iconst 0, 1) := dk_3 (dk_at dksX1_done_0 13 rfl rfl)
theorem dX1_done_14 : decode cX1_done 14 = .ok (.aaload, 1) := dk_50 (dk_at dksX1_done_0 14 rfl rfl)
theorem dX1_done_15 : decode cX1_done 15 = .ok (.astore_n 1, 1) := dk_76 (dk_at dksX1_done_0 15 rfl rfl)
theorem dX1_done_16 : decode cX1_done 16 = .ok (.iconst 1, 1) := dk_4 (dk_at dksX1_done_0 16 rfl rfl)
theorem dX1_done_17 : decode cX1_done 17 = .ok (.istore_n 2, 1) := dk_61 (dk_at dksX1_done_0 17 rfl rfl)
theorem dX1_done_18 : decode cX1_done 18 = .ok (.iload_n 2, 1) := dk_28 (dk_at dksX1_done_0 18 rfl rfl)
theorem dX1_done_19 : decode cX1_done 19 = .ok (.bipush 10, 2) := dk_16 10 (dk_at dksX1_done_0 19 rfl rfl)
theorem dX1_done_21 : decode cX1_done 21 = .ok (.if_icmp .ge 23, 3) := dk_162 0 23 (dk_at dksX1_done_0 21 rfl rfl)
theorem dX1_done_24 : decode cX1_done 24 = .ok (.aload_n 0, 1) := dk_42 (dk_at dksX1_done_1 0 rfl rfl)
theorem dX1_done_25 : decode cX1_done 25 = .ok (.getfield 53, 3) := dk_180 0 53 (dk_at dksX1_done_1 1 rfl rfl)
theorem dX1_done_28 : decode cX1_done 28 = .ok (.iload_n 2, 1) := dk_28 (dk_at dksX1_done_1 4 rfl rfl)
theorem dX1_done_29 : decode cX1_done 29 = .ok (.iconst 1, 1) := dk_4 (dk_at dksX1_done_1 5 rfl rfl)
theorem dX1_done_30 : decode cX1_done 30 = .ok (.isub, 1) := dk_100 (dk_at dksX1_done_1 6 rfl rfl)
theorem dX1_done_31 : decode cX1_done 31 = .ok (.aload_n 0, 1) := dk_42 (dk_at dksX1_done_1 7 rfl rfl)
theorem dX1_done_32 : decode cX1_done 32 = .ok (.getfield 53, 3) := dk_180 0 53 (dk_at dksX1_done_1 8 rfl rfl)
theorem dX1_done_35 : decode cX1_done 35 = .ok (.iload_n 2, 1) := dk_28 (dk_at dksX1_done_1 11 rfl rfl)
theorem dX1_done_36 : decode cX1_done 36 = .ok (.aaload, 1) := dk_50 (dk_at dksX1_done_1 12 rfl rfl)
theorem dX1_done_37 : decode cX1_done 37 = .ok (.aastore, 1) := dk_83 (dk_at dksX1_done_1 13 rfl rfl)
theorem dX1_done_38 : decode cX1_done 38 = .ok (.iinc 2 1, 3) := dk_132 2 1 (dk_at dksX1_done_1 14 rfl rfl)
theorem dX1_done_41 : decode cX1_done 41 = .ok (.goto (-23), 3) := dk_167 255 233 (dk_at dksX1_done_1 17 rfl rfl)
theorem dX1_done_44 : decode cX1_done 44 = .ok (.aload_n 0, 1) := dk_42 (dk_at dksX1_done_1 20 rfl rfl)
theorem dX1_done_45 : decode cX1_done 45 = .ok (.getfield 53, 3) := dk_180 0 53 (dk_at dksX1_done_1 21 rfl rfl)
theorem dX1_done_48 : decode cX1_done 48 = .ok (.bipush 9, 2) := dk_16 9 (dk_at dksX1_done_2 0 rfl rfl)
theorem dX1_done_50 : decode cX1_done 50 = .ok (.aload_n 1, 1) := dk_43 (dk_at dksX1_done_2 2 rfl rfl)
theorem dX1_done_51 : decode cX1_done 51 = .ok (.aastore, 1) := dk_83 (dk_at dksX1_done_2 3 rfl rfl)
theorem dX1_done_52 : decode cX1_done 52 = .ok (.aload_n 0, 1) := dk_42 (dk_at dksX1_done_2 4 rfl rfl)
theorem dX1_done_53 : decode cX1_done 53 = .ok (.dup, 1) := dk_89 (dk_at dksX1_done_2 5 rfl rfl)
theorem dX1_done_54 : decode cX1_done 54 = .ok (.getfield 109, 3) := dk_180 0 109 (dk_at dksX1_done_2 6 rfl rfl)
theorem dX1_done_57 : decode cX1_done 57 = .ok (.iconst 1, 1) := dk_4 (dk_at dksX1_done_2 9 rfl rfl)
theorem dX1_done_58 : decode cX1_done 58 = .ok (.isub, 1) := dk_100 (dk_at dksX1_done_2 10 rfl rfl)
theorem dX1_done_59 : decode cX1_done 59 = .ok (.putfield 109, 3) := dk_181 0 109 (dk_at dksX1_done_2 11 rfl rfl)
theorem dX1_done_62 : decode cX1_done 62 = .ok (.aload_n 0, 1) := dk_42 (dk_at dksX1_done_2 14 rfl rfl)
theorem dX1_done_63 : decode cX1_done 63 = .ok (.getfield 53, 3) := dk_180 0 53 (dk_at dksX1_done_2 15 rfl rfl)
theorem dX1_done_66 : decode cX1_done 66 = .ok (.aload_n 0, 1) := dk_42 (dk_at dksX1_done_2 18 rfl rfl)
theorem dX1_done_67 : decode cX1_done 67 = .ok (.getfield 109, 3) := dk_180 0 109 (dk_at dksX1_done_2 19 rfl rfl)
theorem dX1_done_70 : decode cX1_done 70 = .ok (.aaload, 1) := dk_50 (dk_at dksX1_done_2 22 rfl rfl)
theorem dX1_done_71 : decode cX1_done 71 = .ok (.aload_n 0, 1) := dk_42 (dk_at dksX1_done_2 23 rfl rfl)
theorem dX1_done_72 : decode cX1_done 72 = .ok (.getfield 33, 3) := dk_180 0 33 (dk_at dksX1_done_3 0 rfl rfl)
theorem dX1_done_75 : decode cX1_done 75 = .ok (.invokevirtual 105, 3) := dk_182 0 105 (dk_at dksX1_done_3 3 rfl rfl)
theorem dX1_done_78 : decode cX1_done 78 = .ok (.aload_n 0, 1) := dk_42 (dk_at dksX1_done_3 6 rfl rfl)
theorem dX1_done_79 : decode cX1_done 79 = .ok (.dup, 1) := dk_89 (dk_at dksX1_done_3 7 rfl rfl)
theorem dX1_done_80 : decode cX1_done 80 = .ok (.getfield 109, 3) := dk_180 0 109 (dk_at dksX1_done_3 8 rfl rfl)
theorem dX1_done_83 : decode cX1_done 83 = .ok (.iconst 1, 1) := dk_4 (dk_at dksX1_done_3 11 rfl rfl)
theorem dX1_done_84 : decode cX1_done 84 = .ok (.iadd, 1) := dk_96 (dk_at dksX1_done_3 12 rfl rfl)
theorem dX1_done_85 : decode cX1_done 85 = .ok (.putfield 109, 3) := dk_181 0 109 (dk_at dksX1_done_3 13 rfl rfl)
theorem dX1_done_88 : decode cX1_done 88 = .ok (.iconst 1, 1) := dk_4 (dk_at dksX1_done_3 16 rfl rfl)
theorem dX1_done_89 : decode cX1_done 89 = .ok (.ireturn, 1) := dk_172 (dk_at dksX1_done_3 17 rfl rfl)
abbrev cX1_build : ByteArray := prog_1_method_58_code
def yX1_build : MethodName := ⟨RX1, "build", "(IIIII)I"⟩
def dkwX1_build_8 : List UInt8 := [21, 5, 42, 180, 0, 29, 180, 1, 99, 182, 1, 55, 42, 182, 1, 127, 87, 21, 7, 172]
abbrev dktX1_build_8 : List UInt8 := dkwX1_build_8 ++ []
def dkwX1_build_7 : List UInt8 := [180, 0, 178, 21, 7, 100, 181, 0, 178, 25, 6, 42, 180, 0, 92, 180, 1, 10, 28, 50, 29, 21, 4]
abbrev dktX1_build_7 : List UInt8 := dkwX1_build_7 ++ dktX1_build_8
def dkwX1_build_6 : List UInt8 := [180, 0, 178, 21, 7, 162, 0, 10, 42, 16, 6, 182, 0, 81, 172, 42, 182, 1, 124, 25, 6, 89]
abbrev dktX1_build_6 : List UInt8 := dkwX1_build_6 ++ dktX1_build_7
def dkwX1_build_5 : List UInt8 := [42, 8, 182, 0, 81, 172, 25, 6, 42, 180, 0, 92, 180, 1, 10, 28, 50, 182, 1, 14, 54, 7, 25, 6]
abbrev dktX1_build_5 : List UInt8 := dkwX1_build_5 ++ dktX1_build_6
def dkwX1_build_4 : List UInt8 := [180, 0, 29, 27, 182, 0, 251, 153, 0, 17, 42, 180, 0, 29, 27, 29, 21, 4, 182, 1, 130, 154, 0, 9]
abbrev dktX1_build_4 : List UInt8 := dkwX1_build_4 ++ dktX1_build_5
def dkwX1_build_3 : List UInt8 := [184, 0, 77, 153, 0, 14, 21, 5, 3, 16, 99, 184, 0, 77, 154, 0, 9, 42, 5, 182, 0, 81, 172, 42]
abbrev dktX1_build_3 : List UInt8 := dkwX1_build_3 ++ dktX1_build_4
def dkwX1_build_2 : List UInt8 := [180, 0, 126, 16, 6, 160, 0, 9, 42, 6, 182, 0, 81, 172, 21, 4, 3, 5, 25, 6, 180, 0, 126, 104]
abbrev dktX1_build_2 : List UInt8 := dkwX1_build_2 ++ dktX1_build_3
def dkwX1_build_1 : List UInt8 := [184, 0, 77, 154, 0, 9, 42, 4, 182, 0, 81, 172, 42, 180, 0, 29, 27, 182, 0, 122, 58, 6, 25, 6]
abbrev dktX1_build_1 : List UInt8 := dkwX1_build_1 ++ dktX1_build_2
def dkwX1_build_0 : List UInt8 := [42, 182, 0, 67, 42, 27, 182, 0, 118, 153, 0, 20, 42, 28, 182, 1, 7, 153, 0, 12, 29, 3, 6]
abbrev dktX1_build_0 : List UInt8 := dkwX1_build_0 ++ dktX1_build_1
theorem dksX1_build_0 : cX1_build.data.toList.drop 0 = dktX1_build_0 := by decide +kernel
theorem dksX1_build_1 : cX1_build.data.toList.drop 23 = dktX1_build_1 := dk_seg dksX1_build_0 23 rfl rfl
theorem dksX1_build_2 : cX1_build.data.toList.drop 47 = dktX1_build_2 := dk_seg dksX1_build_1 24 rfl rfl
theorem dksX1_build_3 : cX1_build.data.toList.drop 71 = dktX1_build_3 := dk_seg dksX1_build_2 24 rfl rfl
theorem dksX1_build_4 : cX1_build.data.toList.drop 95 = dktX1_build_4 := dk_seg dksX1_build_3 24 rfl rfl
theorem dksX1_build_5 : cX1_build.data.toList.drop 119 = dktX1_build_5 := dk_seg dksX1_build_4 24 rfl rfl
theorem dksX1_build_6 : cX1_build.data.toList.drop 143 = dktX1_build_6 := dk_seg dksX1_build_5 24 rfl rfl
theorem dksX1_build_7 : cX1_build.data.toList.drop 165 = dktX1_build_7 := dk_seg dksX1_build_6 22 rfl rfl
theorem dksX1_build_8 : cX1_build.data.toList.drop 188 = dktX1_build_8 := dk_seg dksX1_build_7 23 rfl rfl
theorem dX1_build_0 : decode cX1_build 0 = .ok (.aload_n 0, 1) := dk_42 (dk_at dksX1_build_0 0 rfl rfl)
theorem dX1_build_1 : decode cX1_build 1 = .ok (.invokevirtual 67, 3) := dk_182 0 67 (dk_at dksX1_build_0 1 rfl rfl)
theorem dX1_build_4 : decode cX1_build 4 = .ok (.aload_n 0, 1) := dk_42 (dk_at dksX1_build_0 4 rfl rfl)
theorem dX1_build_5 : decode cX1_build 5 = .ok (.iload_n 1, 1) := dk_27 (dk_at dksX1_build_0 5 rfl rfl)
theorem dX1_build_6 : decode cX1_build 6 = .ok (.invokevirtual 118, 3) := dk_182 0 118 (dk_at dksX1_build_0 6 rfl rfl)
theorem dX1_build_9 : decode cX1_build 9 = .ok (.ifCond .eq 20, 3) := dk_153 0 20 (dk_at dksX1_build_0 9 rfl rfl)
theorem dX1_build_12 : decode cX1_build 12 = .ok (.aload_n 0, 1) := dk_42 (dk_at dksX1_build_0 12 rfl rfl)
theorem dX1_build_13 : decode cX1_build 13 = .ok (.iload_n 2, 1) := dk_28 (dk_at dksX1_build_0 13 rfl rfl)
theorem dX1_build_14 : decode cX1_build 14 = .ok (.invokevirtual 263, 3) := dk_182 1 7 (dk_at dksX1_build_0 14 rfl rfl)
theorem dX1_build_17 : decode cX1_build 17 = .ok (.ifCond .eq 12, 3) := dk_153 0 12 (dk_at dksX1_build_0 17 rfl rfl)
theorem dX1_build_20 : decode cX1_build 20 = .ok (.iload_n 3, 1) := dk_29 (dk_at dksX1_build_0 20 rfl rfl)
theorem dX1_build_21 : decode cX1_build 21 = .ok (.iconst 0, 1) := dk_3 (dk_at dksX1_build_0 21 rfl rfl)
theorem dX1_build_22 : decode cX1_build 22 = .ok (.iconst 3, 1) := dk_6 (dk_at dksX1_build_0 22 rfl rfl)
theorem dX1_build_23 : decode cX1_build 23 = .ok (.invokestatic 77, 3) := dk_184 0 77 (dk_at dksX1_build_1 0 rfl rfl)
theorem dX1_build_26 : decode cX1_build 26 = .ok (.ifCond .ne 9, 3) := dk_154 0 9 (dk_at dksX1_build_1 3 rfl rfl)
theorem dX1_build_29 : decode cX1_build 29 = .ok (.aload_n 0, 1) := dk_42 (dk_at dksX1_build_1 6 rfl rfl)
theorem dX1_build_30 : decode cX1_build 30 = .ok (.iconst 1, 1) := dk_4 (dk_at dksX1_build_1 7 rfl rfl)
theorem dX1_build_31 : decode cX1_build 31 = .ok (.invokevirtual 81, 3) := dk_182 0 81 (dk_at dksX1_build_1 8 rfl rfl)
theorem dX1_build_34 : decode cX1_build 34 = .ok (.ireturn, 1) := dk_172 (dk_at dksX1_build_1 11 rfl rfl)
theorem dX1_build_35 : decode cX1_build 35 = .ok (.aload_n 0, 1) := dk_42 (dk_at dksX1_build_1 12 rfl rfl)
theorem dX1_build_36 : decode cX1_build 36 = .ok (.getfield 29, 3) := dk_180 0 29 (dk_at dksX1_build_1 13 rfl rfl)
theorem dX1_build_39 : decode cX1_build 39 = .ok (.iload_n 1, 1) := dk_27 (dk_at dksX1_build_1 16 rfl rfl)
theorem dX1_build_40 : decode cX1_build 40 = .ok (.invokevirtual 122, 3) := dk_182 0 122 (dk_at dksX1_build_1 17 rfl rfl)
theorem dX1_build_43 : decode cX1_build 43 = .ok (.astore 6, 2) := dk_58 6 (dk_at dksX1_build_1 20 rfl rfl)
theorem dX1_build_45 : decode cX1_build 45 = .ok (.aload 6, 2) := dk_25 6 (dk_at dksX1_build_1 22 rfl rfl)
theorem dX1_build_47 : decode cX1_build 47 = .ok (.getfield 126, 3) := dk_180 0 126 (dk_at dksX1_build_2 0 rfl rfl)
theorem dX1_build_50 : decode cX1_build 50 = .ok (.bipush 6, 2) := dk_16 6 (dk_at dksX1_build_2 3 rfl rfl)
theorem dX1_build_52 : decode cX1_build 52 = .ok (.if_icmp .ne 9, 3) := dk_160 0 9 (dk_at dksX1_build_2 5 rfl rfl)
theorem dX1_build_55 : decode cX1_build 55 = .ok (.aload_n 0, 1) := dk_42 (dk_at dksX1_build_2 8 rfl rfl)
theorem dX1_build_56 : decode cX1_build 56 = .ok (.iconst 3, 1) := dk_6 (dk_at dksX1_build_2 9 rfl rfl)
theorem dX1_build_57 : decode cX1_build 57 = .ok (.invokevirtual 81, 3) := dk_182 0 81 (dk_at dksX1_build_2 10 rfl rfl)
theorem dX1_build_60 : decode cX1_build 60 = .ok (.ireturn, 1) := dk_172 (dk_at dksX1_build_2 13 rfl rfl)
theorem dX1_build_61 : decode cX1_build 61 = .ok (.iload 4, 2) := dk_21 4 (dk_at dksX1_build_2 14 rfl rfl)
theorem dX1_build_63 : decode cX1_build 63 = .ok (.iconst 0, 1) := dk_3 (dk_at dksX1_build_2 16 rfl rfl)
theorem dX1_build_64 : decode cX1_build 64 = .ok (.iconst 2, 1) := dk_5 (dk_at dksX1_build_2 17 rfl rfl)
theorem dX1_build_65 : decode cX1_build 65 = .ok (.aload 6, 2) := dk_25 6 (dk_at dksX1_build_2 18 rfl rfl)
theorem dX1_build_67 : decode cX1_build 67 = .ok (.getfield 126, 3) := dk_180 0 126 (dk_at dksX1_build_2 20 rfl rfl)
theorem dX1_build_70 : decode cX1_build 70 = .ok (.imul, 1) := dk_104 (dk_at dksX1_build_2 23 rfl rfl)
theorem dX1_build_71 : decode cX1_build 71 = .ok (.invokestatic 77, 3) := dk_184 0 77 (dk_at dksX1_build_3 0 rfl rfl)
theorem dX1_build_74 : decode cX1_build 74 = .ok (.ifCond .eq 14, 3) := dk_153 0 14 (dk_at dksX1_build_3 3 rfl rfl)
theorem dX1_build_77 : decode cX1_build 77 = .ok (.iload 5, 2) := dk_21 5 (dk_at dksX1_build_3 6 rfl rfl)
theorem dX1_build_79 : decode cX1_build 79 = .ok (.iconst 0, 1) := dk_3 (dk_at dksX1_build_3 8 rfl rfl)
theorem dX1_build_80 : decode cX1_build 80 = .ok (.bipush 99, 2) := dk_16 99 (dk_at dksX1_build_3 9 rfl rfl)
theorem dX1_build_82 : decode cX1_build 82 = .ok (.invokestatic 77, 3) := dk_184 0 77 (dk_at dksX1_build_3 11 rfl rfl)
theorem dX1_build_85 : decode cX1_build 85 = .ok (.ifCond .ne 9, 3) := dk_154 0 9 (dk_at dksX1_build_3 14 rfl rfl)
theorem dX1_build_88 : decode cX1_build 88 = .ok (.aload_n 0, 1) := dk_42 (dk_at dksX1_build_3 17 rfl rfl)
theorem dX1_build_89 : decode cX1_build 89 = .ok (.iconst 2, 1) := dk_5 (dk_at dksX1_build_3 18 rfl rfl)
theorem dX1_build_90 : decode cX1_build 90 = .ok (.invokevirtual 81, 3) := dk_182 0 81 (dk_at dksX1_build_3 19 rfl rfl)
theorem dX1_build_93 : decode cX1_build 93 = .ok (.ireturn, 1) := dk_172 (dk_at dksX1_build_3 22 rfl rfl)
theorem dX1_build_94 : decode cX1_build 94 = .ok (.aload_n 0, 1) := dk_42 (dk_at dksX1_build_3 23 rfl rfl)
theorem dX1_build_95 : decode cX1_build 95 = .ok (.getfield 29, 3) := dk_180 0 29 (dk_at dksX1_build_4 0 rfl rfl)
theorem dX1_build_98 : decode cX1_build 98 = .ok (.iload_n 1, 1) := dk_27 (dk_at dksX1_build_4 3 rfl rfl)
theorem dX1_build_99 : decode cX1_build 99 = .ok (.invokevirtual 251, 3) := dk_182 0 251 (dk_at dksX1_build_4 4 rfl rfl)
theorem dX1_build_102 : decode cX1_build 102 = .ok (.ifCond .eq 17, 3) := dk_153 0 17 (dk_at dksX1_build_4 7 rfl rfl)
theorem dX1_build_105 : decode cX1_build 105 = .ok (.aload_n 0, 1) := dk_42 (dk_at dksX1_build_4 10 rfl rfl)
theorem dX1_build_106 : decode cX1_build 106 = .ok (.getfield 29, 3) := dk_180 0 29 (dk_at dksX1_build_4 11 rfl rfl)
theorem dX1_build_109 : decode cX1_build 109 = .ok (.iload_n 1, 1) := dk_27 (dk_at dksX1_build_4 14 rfl rfl)
theorem dX1_build_110 : decode cX1_build 110 = .ok (.iload_n 3, 1) := dk_29 (dk_at dksX1_build_4 15 rfl rfl)
theorem dX1_build_111 : decode cX1_build 111 = .ok (.iload 4, 2) := dk_21 4 (dk_at dksX1_build_4 16 rfl rfl)
theorem dX1_build_113 : decode cX1_build 113 = .ok (.invokevirtual 386, 3) := dk_182 1 130 (dk_at dksX1_build_4 18 rfl rfl)
theorem dX1_build_116 : decode cX1_build 116 = .ok (.ifCond .ne 9, 3) := dk_154 0 9 (dk_at dksX1_build_4 21 rfl rfl)
theorem dX1_build_119 : decode cX1_build 119 = .ok (.aload_n 0, 1) := dk_42 (dk_at dksX1_build_5 0 rfl rfl)
theorem dX1_build_120 : decode cX1_build 120 = .ok (.iconst 5, 1) := dk_8 (dk_at dksX1_build_5 1 rfl rfl)
theorem dX1_build_121 : decode cX1_build 121 = .ok (.invokevirtual 81, 3) := dk_182 0 81 (dk_at dksX1_build_5 2 rfl rfl)
theorem dX1_build_124 : decode cX1_build 124 = .ok (.ireturn, 1) := dk_172 (dk_at dksX1_build_5 5 rfl rfl)
theorem dX1_build_125 : decode cX1_build 125 = .ok (.aload 6, 2) := dk_25 6 (dk_at dksX1_build_5 6 rfl rfl)
theorem dX1_build_127 : decode cX1_build 127 = .ok (.aload_n 0, 1) := dk_42 (dk_at dksX1_build_5 8 rfl rfl)
theorem dX1_build_128 : decode cX1_build 128 = .ok (.getfield 92, 3) := dk_180 0 92 (dk_at dksX1_build_5 9 rfl rfl)
theorem dX1_build_131 : decode cX1_build 131 = .ok (.getfield 266, 3) := dk_180 1 10 (dk_at dksX1_build_5 12 rfl rfl)
theorem dX1_build_134 : decode cX1_build 134 = .ok (.iload_n 2, 1) := dk_28 (dk_at dksX1_build_5 15 rfl rfl)
theorem dX1_build_135 : decode cX1_build 135 = .ok (.aaload, 1) := dk_50 (dk_at dksX1_build_5 16 rfl rfl)
theorem dX1_build_136 : decode cX1_build 136 = .ok (.invokevirtual 270, 3) := dk_182 1 14 (dk_at dksX1_build_5 17 rfl rfl)
theorem dX1_build_139 : decode cX1_build 139 = .ok (.istore 7, 2) := dk_54 7 (dk_at dksX1_build_5 20 rfl rfl)
theorem dX1_build_141 : decode cX1_build 141 = .ok (.aload 6, 2) := dk_25 6 (dk_at dksX1_build_5 22 rfl rfl)
theorem dX1_build_143 : decode cX1_build 143 = .ok (.getfield 178, 3) := dk_180 0 178 (dk_at dksX1_build_6 0 rfl rfl)
theorem dX1_build_146 : decode cX1_build 146 = .ok (.iload 7, 2) := dk_21 7 (dk_at dksX1_build_6 3 rfl rfl)
theorem dX1_build_148 : decode cX1_build 148 = .ok (.if_icmp .ge 10, 3) := dk_162 0 10 (dk_at dksX1_build_6 5 rfl rfl)
theorem dX1_build_151 : decode cX1_build 151 = .ok (.aload_n 0, 1) := dk_42 (dk_at dksX1_build_6 8 rfl rfl)
theorem dX1_build_152 : decode cX1_build 152 = .ok (.bipush 6, 2) := dk_16 6 (dk_at dksX1_build_6 9 rfl rfl)
theorem dX1_build_154 : decode cX1_build 154 = .ok (.invokevirtual 81, 3) := dk_182 0 81 (dk_at dksX1_build_6 11 rfl rfl)
theorem dX1_build_157 : decode cX1_build 157 = .ok (.ireturn, 1) := dk_172 (dk_at dksX1_build_6 14 rfl rfl)
theorem dX1_build_158 : decode cX1_build 158 = .ok (.aload_n 0, 1) := dk_42 (dk_at dksX1_build_6 15 rfl rfl)
theorem dX1_build_159 : decode cX1_build 159 = .ok (.invokevirtual 380, 3) := dk_182 1 124 (dk_at dksX1_build_6 16 rfl rfl)
theorem dX1_build_162 : decode cX1_build 162 = .ok (.aload 6, 2) := dk_25 6 (dk_at dksX1_build_6 19 rfl rfl)
theorem dX1_build_164 : decode cX1_build 164 = .ok (.dup, 1) := dk_89 (dk_at dksX1_build_6 21 rfl rfl)
theorem dX1_build_165 : decode cX1_build 165 = .ok (.getfield 178, 3) := dk_180 0 178 (dk_at dksX1_build_7 0 rfl rfl)
theorem dX1_build_168 : decode cX1_build 168 = .ok (.iload 7, 2) := dk_21 7 (dk_at dksX1_build_7 3 rfl rfl)
theorem dX1_build_170 : decode cX1_build 170 = .ok (.isub, 1) := dk_100 (dk_at dksX1_build_7 5 rfl rfl)
theorem dX1_build_171 : decode cX1_build 171 = .ok (.putfield 178, 3) := dk_181 0 178 (dk_at dksX1_build_7 6 rfl rfl)
theorem dX1_build_174 : decode cX1_build 174 = .ok (.aload 6, 2) := dk_25 6 (dk_at dksX1_build_7 9 rfl rfl)
theorem dX1_build_176 : decode cX1_build 176 = .ok (.aload_n 0, 1) := dk_42 (dk_at dksX1_build_7 11 rfl rfl)
theorem dX1_build_177 : decode cX1_build 177 = .ok (.getfield 92, 3) := dk_180 0 92 (dk_at dksX1_build_7 12 rfl rfl)
theorem dX1_build_180 : decode cX1_build 180 = .ok (.getfield 266, 3) := dk_180 1 10 (dk_at dksX1_build_7 15 rfl rfl)
theorem dX1_build_183 : decode cX1_build 183 = .ok (.iload_n 2, 1) := dk_28 (dk_at dksX1_build_7 18 rfl rfl)
theorem dX1_build_184 : decode cX1_build 184 = .ok (.aaload, 1) := dk_50 (dk_at dksX1_build_7 19 rfl rfl)
theorem dX1_build_185 : decode cX1_build 185 = .ok (.iload_n 3, 1) := dk_29 (dk_at dksX1_build_7 20 rfl rfl)
theorem dX1_build_186 : decode cX1_build 186 = .ok (.iload 4, 2) := dk_21 4 (dk_at dksX1_build_7 21 rfl rfl)
theorem dX1_build_188 : decode cX1_build 188 = .ok (.iload 5, 2) := dk_21 5 (dk_at dksX1_build_8 0 rfl rfl)
theorem dX1_build_190 : decode cX1_build 190 = .ok (.aload_n 0, 1) := dk_42 (dk_at dksX1_build_8 2 rfl rfl)
theorem dX1_build_191 : decode cX1_build 191 = .ok (.getfield 29, 3) := dk_180 0 29 (dk_at dksX1_build_8 3 rfl rfl)
theorem dX1_build_194 : decode cX1_build 194 = .ok (.getfield 355, 3) := dk_180 1 99 (dk_at dksX1_build_8 6 rfl rfl)
theorem dX1_build_197 : decode cX1_build 197 = .ok (.invokevirtual 311, 3) := dk_182 1 55 (dk_at dksX1_build_8 9 rfl rfl)
theorem dX1_build_200 : decode cX1_build 200 = .ok (.aload_n 0, 1) := dk_42 (dk_at dksX1_build_8 12 rfl rfl)
theorem dX1_build_201 : decode cX1_build 201 = .ok (.invokevirtual 383, 3) := dk_182 1 127 (dk_at dksX1_build_8 13 rfl rfl)
theorem dX1_build_204 : decode cX1_build 204 = .ok (.pop, 1) := dk_87 (dk_at dksX1_build_8 16 rfl rfl)
theorem dX1_build_205 : decode cX1_build 205 = .ok (.iload 7, 2) := dk_21 7 (dk_at dksX1_build_8 17 rfl rfl)
theorem dX1_build_207 : decode cX1_build 207 = .ok (.ireturn, 1) := dk_172 (dk_at dksX1_build_8 19 rfl rfl)
abbrev cX1_fill : ByteArray := prog_1_method_59_code
def yX1_fill : MethodName := ⟨RX1, "fill", "(II)Z"⟩
def dkwX1_fill_3 : List UInt8 := [28, 182, 0, 200, 4, 181, 0, 223, 42, 182, 1, 127, 172]
abbrev dktX1_fill_3 : List UInt8 := dkwX1_fill_3 ++ []
def dkwX1_fill_2 : List UInt8 := [167, 0, 4, 3, 182, 1, 136, 154, 0, 5, 3, 172, 42, 182, 1, 124, 42, 180, 0, 29, 27, 182, 0, 122]
abbrev dktX1_fill_2 : List UInt8 := dkwX1_fill_2 ++ dktX1_fill_3
def dkwX1_fill_1 : List UInt8 := [182, 0, 200, 182, 1, 133, 153, 0, 15, 42, 180, 0, 29, 27, 28, 182, 1, 96, 153, 0, 7, 8]
abbrev dktX1_fill_1 : List UInt8 := dkwX1_fill_1 ++ dktX1_fill_2
def dkwX1_fill_0 : List UInt8 := [42, 42, 27, 28, 182, 0, 197, 154, 0, 7, 4, 167, 0, 38, 42, 180, 0, 29, 27, 182, 0, 122, 28]
abbrev dktX1_fill_0 : List UInt8 := dkwX1_fill_0 ++ dktX1_fill_1
theorem dksX1_fill_0 : cX1_fill.data.toList.drop 0 = dktX1_fill_0 := by decide +kernel
theorem dksX1_fill_1 : cX1_fill.data.toList.drop 23 = dktX1_fill_1 := dk_seg dksX1_fill_0 23 rfl rfl
theorem dksX1_fill_2 : cX1_fill.data.toList.drop 45 = dktX1_fill_2 := dk_seg dksX1_fill_1 22 rfl rfl
theorem dksX1_fill_3 : cX1_fill.data.toList.drop 69 = dktX1_fill_3 := dk_seg dksX1_fill_2 24 rfl rfl
theorem dX1_fill_0 : decode cX1_fill 0 = .ok (.aload_n 0, 1) := dk_42 (dk_at dksX1_fill_0 0 rfl rfl)
theorem dX1_fill_1 : decode cX1_fill 1 = .ok (.aload_n 0, 1) := dk_42 (dk_at dksX1_fill_0 1 rfl rfl)
theorem dX1_fill_2 : decode cX1_fill 2 = .ok (.iload_n 1, 1) := dk_27 (dk_at dksX1_fill_0 2 rfl rfl)
theorem dX1_fill_3 : decode cX1_fill 3 = .ok (.iload_n 2, 1) := dk_28 (dk_at dksX1_fill_0 3 rfl rfl)
theorem dX1_fill_4 : decode cX1_fill 4 = .ok (.invokevirtual 197, 3) := dk_182 0 197 (dk_at dksX1_fill_0 4 rfl rfl)
theorem dX1_fill_7 : decode cX1_fill 7 = .ok (.ifCond .ne 7, 3) := dk_154 0 7 (dk_at dksX1_fill_0 7 rfl rfl)
theorem dX1_fill_10 : decode cX1_fill 10 = .ok (.iconst 1, 1) := dk_4 (dk_at dksX1_fill_0 10 rfl rfl)
theorem dX1_fill_11 : decode cX1_fill 11 = .ok (.goto 38, 3) := dk_167 0 38 (dk_at dksX1_fill_0 11 rfl rfl)
theorem dX1_fill_14 : decode cX1_fill 14 = .ok (.aload_n 0, 1) := dk_42 (dk_at dksX1_fill_0 14 rfl rfl)
theorem dX1_fill_15 : decode cX1_fill 15 = .ok (.getfield 29, 3) := dk_180 0 29 (dk_at dksX1_fill_0 15 rfl rfl)
theorem dX1_fill_18 : decode cX1_fill 18 = .ok (.iload_n 1, 1) := dk_27 (dk_at dksX1_fill_0 18 rfl rfl)
theorem dX1_fill_19 : decode cX1_fill 19 = .ok (.invokevirtual 122, 3) := dk_182 0 122 (dk_at dksX1_fill_0 19 rfl rfl)
theorem dX1_fill_22 : decode cX1_fill 22 = .ok (.iload_n 2, 1) := dk_28 (dk_at dksX1_fill_0 22 rfl rfl)
theorem dX1_fill_23 : decode cX1_fill 23 = .ok (.invokevirtual 200, 3) := dk_182 0 200 (dk_at dksX1_fill_1 0 rfl rfl)
theorem dX1_fill_26 : decode cX1_fill 26 = .ok (.invokevirtual 389, 3) := dk_182 1 133 (dk_at dksX1_fill_1 3 rfl rfl)
theorem dX1_fill_29 : decode cX1_fill 29 = .ok (.ifCond .eq 15, 3) := dk_153 0 15 (dk_at dksX1_fill_1 6 rfl rfl)
theorem dX1_fill_32 : decode cX1_fill 32 = .ok (.aload_n 0, 1) := dk_42 (dk_at dksX1_fill_1 9 rfl rfl)
theorem dX1_fill_33 : decode cX1_fill 33 = .ok (.getfield 29, 3) := dk_180 0 29 (dk_at dksX1_fill_1 10 rfl rfl)
theorem dX1_fill_36 : decode cX1_fill 36 = .ok (.iload_n 1, 1) := dk_27 (dk_at dksX1_fill_1 13 rfl rfl)
theorem dX1_fill_37 : decode cX1_fill 37 = .ok (.iload_n 2, 1) := dk_28 (dk_at dksX1_fill_1 14 rfl rfl)
theorem dX1_fill_38 : decode cX1_fill 38 = .ok (.invokevirtual 352, 3) := dk_182 1 96 (dk_at dksX1_fill_1 15 rfl rfl)
theorem dX1_fill_41 : decode cX1_fill 41 = .ok (.ifCond .eq 7, 3) := dk_153 0 7 (dk_at dksX1_fill_1 18 rfl rfl)
theorem dX1_fill_44 : decode cX1_fill 44 = .ok (.iconst 5, 1) := dk_8 (dk_at dksX1_fill_1 21 rfl rfl)
theorem dX1_fill_45 : decode cX1_fill 45 = .ok (.goto 4, 3) := dk_167 0 4 (dk_at dksX1_fill_2 0 rfl rfl)
theorem dX1_fill_48 : decode cX1_fill 48 = .ok (.iconst 0, 1) := dk_3 (dk_at dksX1_fill_2 3 rfl rfl)
theorem dX1_fill_49 : decode cX1_fill 49 = .ok (.invokevirtual 392, 3) := dk_182 1 136 (dk_at dksX1_fill_2 4 rfl rfl)
theorem dX1_fill_52 : decode cX1_fill 52 = .ok (.ifCond .ne 5, 3) := dk_154 0 5 (dk_at dksX1_fill_2 7 rfl rfl)
theorem dX1_fill_55 : decode cX1_fill 55 = .ok (.iconst 0, 1) := dk_3 (dk_at dksX1_fill_2 10 rfl rfl)
theorem dX1_fill_56 : decode cX1_fill 56 = .ok (.ireturn, 1) := dk_172 (dk_at dksX1_fill_2 11 rfl rfl)
theorem dX1_fill_57 : decode cX1_fill 57 = .ok (.aload_n 0, 1) := dk_42 (dk_at dksX1_fill_2 12 rfl rfl)
theorem dX1_fill_58 : decode cX1_fill 58 = .ok (.invokevirtual 380, 3) := dk_182 1 124 (dk_at dksX1_fill_2 13 rfl rfl)
theorem dX1_fill_61 : decode cX1_fill 61 = .ok (.aload_n 0, 1) := dk_42 (dk_at dksX1_fill_2 16 rfl rfl)
theorem dX1_fill_62 : decode cX1_fill 62 = .ok (.getfield 29, 3) := dk_180 0 29 (dk_at dksX1_fill_2 17 rfl rfl)
theorem dX1_fill_65 : decode cX1_fill 65 = .ok (.iload_n 1, 1) := dk_27 (dk_at dksX1_fill_2 20 rfl rfl)
theorem dX1_fill_66 : decode cX1_fill 66 = .ok (.invokevirtual 122, 3) := dk_182 0 122 (dk_at dksX1_fill_2 21 rfl rfl)
theorem dX1_fill_69 : decode cX1_fill 69 = .ok (.iload_n 2, 1) := dk_28 (dk_at dksX1_fill_3 0 rfl rfl)
theorem dX1_fill_70 : decode cX1_fill 70 = .ok (.invokevirtual 200, 3) := dk_182 0 200 (dk_at dksX1_fill_3 1 rfl rfl)
theorem dX1_fill_73 : decode cX1_fill 73 = .ok (.iconst 1, 1) := dk_4 (dk_at dksX1_fill_3 4 rfl rfl)
theorem dX1_fill_74 : decode cX1_fill 74 = .ok (.putfield 223, 3) := dk_181 0 223 (dk_at dksX1_fill_3 5 rfl rfl)
theorem dX1_fill_77 : decode cX1_fill 77 = .ok (.aload_n 0, 1) := dk_42 (dk_at dksX1_fill_3 8 rfl rfl)
theorem dX1_fill_78 : decode cX1_fill 78 = .ok (.invokevirtual 383, 3) := dk_182 1 127 (dk_at dksX1_fill_3 9 rfl rfl)
theorem dX1_fill_81 : decode cX1_fill 81 = .ok (.ireturn, 1) := dk_172 (dk_at dksX1_fill_3 12 rfl rfl)
abbrev cX1_yes : ByteArray := prog_1_method_6_code
def yX1_yes : MethodName := ⟨RX1, "yes", "(I)Z"⟩
def dkwX1_yes_0 : List UInt8 := [42, 182, 0, 67, 42, 27, 181, 0, 64, 27, 154, 0, 7, 4, 167, 0, 4, 3, 172]
abbrev dktX1_yes_0 : List UInt8 := dkwX1_yes_0 ++ []
theorem dksX1_yes_0 : cX1_yes.data.toList.drop 0 = dktX1_yes_0 := by decide +kernel
theorem dX1_yes_0 : decode cX1_yes 0 = .ok (.aload_n 0, 1) := dk_42 (dk_at dksX1_yes_0 0 rfl rfl)
theorem dX1_yes_1 : decode cX1_yes 1 = .ok (.invokevirtual 67, 3) := dk_182 0 67 (dk_at dksX1_yes_0 1 rfl rfl)
theorem dX1_yes_4 : decode cX1_yes 4 = .ok (.aload_n 0, 1) := dk_42 (dk_at dksX1_yes_0 4 rfl rfl)
theorem dX1_yes_5 : decode cX1_yes 5 = .ok (.iload_n 1, 1) := dk_27 (dk_at dksX1_yes_0 5 rfl rfl)
theorem dX1_yes_6 : decode cX1_yes 6 = .ok (.putfield 64, 3) := dk_181 0 64 (dk_at dksX1_yes_0 6 rfl rfl)
theorem dX1_yes_9 : decode cX1_yes 9 = .ok (.iload_n 1, 1) := dk_27 (dk_at dksX1_yes_0 9 rfl rfl)
theorem dX1_yes_10 : decode cX1_yes 10 = .ok (.ifCond .ne 7, 3) := dk_154 0 7 (dk_at dksX1_yes_0 10 rfl rfl)
theorem dX1_yes_13 : decode cX1_yes 13 = .ok (.iconst 1, 1) := dk_4 (dk_at dksX1_yes_0 13 rfl rfl)
theorem dX1_yes_14 : decode cX1_yes 14 = .ok (.goto 4, 3) := dk_167 0 4 (dk_at dksX1_yes_0 14 rfl rfl)
theorem dX1_yes_17 : decode cX1_yes 17 = .ok (.iconst 0, 1) := dk_3 (dk_at dksX1_yes_0 17 rfl rfl)
theorem dX1_yes_18 : decode cX1_yes 18 = .ok (.ireturn, 1) := dk_172 (dk_at dksX1_yes_0 18 rfl rfl)
abbrev cX1_take : ByteArray := prog_1_method_60_code
def yX1_take : MethodName := ⟨RX1, "take", "(I)I"⟩
def dkwX1_take_4 : List UInt8 := [4, 181, 0, 219, 44, 29, 182, 0, 200, 3, 181, 0, 223, 42, 182, 1, 127, 87, 21, 4, 172]
abbrev dktX1_take_4 : List UInt8 := dkwX1_take_4 ++ []
def dkwX1_take_3 : List UInt8 := [54, 4, 44, 17, 3, 231, 44, 180, 0, 178, 21, 4, 96, 184, 1, 139, 181, 0, 178, 44, 29, 182, 0, 200]
abbrev dktX1_take_3 : List UInt8 := dkwX1_take_3 ++ dktX1_take_4
def dkwX1_take_2 : List UInt8 := [27, 29, 182, 1, 96, 153, 0, 9, 42, 8, 182, 0, 81, 172, 42, 182, 1, 124, 44, 29, 184, 1, 92]
abbrev dktX1_take_2 : List UInt8 := dkwX1_take_2 ++ dktX1_take_3
def dkwX1_take_1 : List UInt8 := [182, 0, 122, 77, 44, 182, 1, 89, 62, 29, 154, 0, 10, 42, 16, 6, 182, 0, 81, 172, 42, 180, 0, 29]
abbrev dktX1_take_1 : List UInt8 := dkwX1_take_1 ++ dktX1_take_2
def dkwX1_take_0 : List UInt8 := [42, 182, 0, 67, 42, 27, 182, 0, 118, 154, 0, 9, 42, 4, 182, 0, 81, 172, 42, 180, 0, 29, 27]
abbrev dktX1_take_0 : List UInt8 := dkwX1_take_0 ++ dktX1_take_1
theorem dksX1_take_0 : cX1_take.data.toList.drop 0 = dktX1_take_0 := by decide +kernel
theorem dksX1_take_1 : cX1_take.data.toList.drop 23 = dktX1_take_1 := dk_seg dksX1_take_0 23 rfl rfl
theorem dksX1_take_2 : cX1_take.data.toList.drop 47 = dktX1_take_2 := dk_seg dksX1_take_1 24 rfl rfl
theorem dksX1_take_3 : cX1_take.data.toList.drop 70 = dktX1_take_3 := dk_seg dksX1_take_2 23 rfl rfl
theorem dksX1_take_4 : cX1_take.data.toList.drop 94 = dktX1_take_4 := dk_seg dksX1_take_3 24 rfl rfl
theorem dX1_take_0 : decode cX1_take 0 = .ok (.aload_n 0, 1) := dk_42 (dk_at dksX1_take_0 0 rfl rfl)
theorem dX1_take_1 : decode cX1_take 1 = .ok (.invokevirtual 67, 3) := dk_182 0 67 (dk_at dksX1_take_0 1 rfl rfl)
theorem dX1_take_4 : decode cX1_take 4 = .ok (.aload_n 0, 1) := dk_42 (dk_at dksX1_take_0 4 rfl rfl)
theorem dX1_take_5 : decode cX1_take 5 = .ok (.iload_n 1, 1) := dk_27 (dk_at dksX1_take_0 5 rfl rfl)
theorem dX1_take_6 : decode cX1_take 6 = .ok (.invokevirtual 118, 3) := dk_182 0 118 (dk_at dksX1_take_0 6 rfl rfl)
theorem dX1_take_9 : decode cX1_take 9 = .ok (.ifCond .ne 9, 3) := dk_154 0 9 (dk_at dksX1_take_0 9 rfl rfl)
theorem dX1_take_12 : decode cX1_take 12 = .ok (.aload_n 0, 1) := dk_42 (dk_at dksX1_take_0 12 rfl rfl)
theorem dX1_take_13 : decode cX1_take 13 = .ok (.iconst 1, 1) := dk_4 (dk_at dksX1_take_0 13 rfl rfl)
theorem dX1_take_14 : decode cX1_take 14 = .ok (.invokevirtual 81, 3) := dk_182 0 81 (dk_at dksX1_take_0 14 rfl rfl)
theorem dX1_take_17 : decode cX1_take 17 = .ok (.ireturn, 1) := dk_172 (dk_at dksX1_take_0 17 rfl rfl)
theorem dX1_take_18 : decode cX1_take 18 = .ok (.aload_n 0, 1) := dk_42 (dk_at dksX1_take_0 18 rfl rfl)
theorem dX1_take_19 : decode cX1_take 19 = .ok (.getfield 29, 3) := dk_180 0 29 (dk_at dksX1_take_0 19 rfl rfl)
theorem dX1_take_22 : decode cX1_take 22 = .ok (.iload_n 1, 1) := dk_27 (dk_at dksX1_take_0 22 rfl rfl)
theorem dX1_take_23 : decode cX1_take 23 = .ok (.invokevirtual 122, 3) := dk_182 0 122 (dk_at dksX1_take_1 0 rfl rfl)
theorem dX1_take_26 : decode cX1_take 26 = .ok (.astore_n 2, 1) := dk_77 (dk_at dksX1_take_1 3 rfl rfl)
theorem dX1_take_27 : decode cX1_take 27 = .ok (.aload_n 2, 1) := dk_44 (dk_at dksX1_take_1 4 rfl rfl)
theorem dX1_take_28 : decode cX1_take 28 = .ok (.invokevirtual 345, 3) := dk_182 1 89 (dk_at dksX1_take_1 5 rfl rfl)
theorem dX1_take_31 : decode cX1_take 31 = .ok (.istore_n 3, 1) := dk_62 (dk_at dksX1_take_1 8 rfl rfl)
theorem dX1_take_32 : decode cX1_take 32 = .ok (.iload_n 3, 1) := dk_29 (dk_at dksX1_take_1 9 rfl rfl)
theorem dX1_take_33 : decode cX1_take 33 = .ok (.ifCond .ne 10, 3) := dk_154 0 10 (dk_at dksX1_take_1 10 rfl rfl)
theorem dX1_take_36 : decode cX1_take 36 = .ok (.aload_n 0, 1) := dk_42 (dk_at dksX1_take_1 13 rfl rfl)
theorem dX1_take_37 : decode cX1_take 37 = .ok (.bipush 6, 2) := dk_16 6 (dk_at dksX1_take_1 14 rfl rfl)
theorem dX1_take_39 : decode cX1_take 39 = .ok (.invokevirtual 81, 3) := dk_182 0 81 (dk_at dksX1_take_1 16 rfl rfl)
theorem dX1_take_42 : decode cX1_take 42 = .ok (.ireturn, 1) := dk_172 (dk_at dksX1_take_1 19 rfl rfl)
theorem dX1_take_43 : decode cX1_take 43 = .ok (.aload_n 0, 1) := dk_42 (dk_at dksX1_take_1 20 rfl rfl)
theorem dX1_take_44 : decode cX1_take 44 = .ok (.getfield 29, 3) := dk_180 0 29 (dk_at dksX1_take_1 21 rfl rfl)
theorem dX1_take_47 : decode cX1_take 47 = .ok (.iload_n 1, 1) := dk_27 (dk_at dksX1_take_2 0 rfl rfl)
theorem dX1_take_48 : decode cX1_take 48 = .ok (.iload_n 3, 1) := dk_29 (dk_at dksX1_take_2 1 rfl rfl)
theorem dX1_take_49 : decode cX1_take 49 = .ok (.invokevirtual 352, 3) := dk_182 1 96 (dk_at dksX1_take_2 2 rfl rfl)
theorem dX1_take_52 : decode cX1_take 52 = .ok (.ifCond .eq 9, 3) := dk_153 0 9 (dk_at dksX1_take_2 5 rfl rfl)
theorem dX1_take_55 : decode cX1_take 55 = .ok (.aload_n 0, 1) := dk_42 (dk_at dksX1_take_2 8 rfl rfl)
theorem dX1_take_56 : decode cX1_take 56 = .ok (.iconst 5, 1) := dk_8 (dk_at dksX1_take_2 9 rfl rfl)
theorem dX1_take_57 : decode cX1_take 57 = .ok (.invokevirtual 81, 3) := dk_182 0 81 (dk_at dksX1_take_2 10 rfl rfl)
theorem dX1_take_60 : decode cX1_take 60 = .ok (.ireturn, 1) := dk_172 (dk_at dksX1_take_2 13 rfl rfl)
theorem dX1_take_61 : decode cX1_take 61 = .ok (.aload_n 0, 1) := dk_42 (dk_at dksX1_take_2 14 rfl rfl)
theorem dX1_take_62 : decode cX1_take 62 = .ok (.invokevirtual 380, 3) := dk_182 1 124 (dk_at dksX1_take_2 15 rfl rfl)
theorem dX1_take_65 : decode cX1_take 65 = .ok (.aload_n 2, 1) := dk_44 (dk_at dksX1_take_2 18 rfl rfl)
theorem dX1_take_66 : decode cX1_take 66 = .ok (.iload_n 3, 1) := dk_29 (dk_at dksX1_take_2 19 rfl rfl)
theorem dX1_take_67 : decode cX1_take 67 = .ok (.invokestatic 348, 3) := dk_184 1 92 (dk_at dksX1_take_2 20 rfl rfl)
theorem dX1_take_70 : decode cX1_take 70 = .ok (.istore 4, 2) := dk_54 4 (dk_at dksX1_take_3 0 rfl rfl)
theorem dX1_take_72 : decode cX1_take 72 = .ok (.aload_n 2, 1) := dk_44 (dk_at dksX1_take_3 2 rfl rfl)
theorem dX1_take_73 : decode cX1_take 73 = .ok (.sipush 999, 3) := dk_17 3 231 (dk_at dksX1_take_3 3 rfl rfl)
theorem dX1_take_76 : decode cX1_take 76 = .ok (.aload_n 2, 1) := dk_44 (dk_at dksX1_take_3 6 rfl rfl)
theorem dX1_take_77 : decode cX1_take 77 = .ok (.getfield 178, 3) := dk_180 0 178 (dk_at dksX1_take_3 7 rfl rfl)
theorem dX1_take_80 : decode cX1_take 80 = .ok (.iload 4, 2) := dk_21 4 (dk_at dksX1_take_3 10 rfl rfl)
theorem dX1_take_82 : decode cX1_take 82 = .ok (.iadd, 1) := dk_96 (dk_at dksX1_take_3 12 rfl rfl)
theorem dX1_take_83 : decode cX1_take 83 = .ok (.invokestatic 395, 3) := dk_184 1 139 (dk_at dksX1_take_3 13 rfl rfl)
theorem dX1_take_86 : decode cX1_take 86 = .ok (.putfield 178, 3) := dk_181 0 178 (dk_at dksX1_take_3 16 rfl rfl)
theorem dX1_take_89 : decode cX1_take 89 = .ok (.aload_n 2, 1) := dk_44 (dk_at dksX1_take_3 19 rfl rfl)
theorem dX1_take_90 : decode cX1_take 90 = .ok (.iload_n 3, 1) := dk_29 (dk_at dksX1_take_3 20 rfl rfl)
theorem dX1_take_91 : decode cX1_take 91 = .ok (.invokevirtual 200, 3) := dk_182 0 200 (dk_at dksX1_take_3 21 rfl rfl)
theorem dX1_take_94 : decode cX1_take 94 = .ok (.iconst 1, 1) := dk_4 (dk_at dksX1_take_4 0 rfl rfl)
theorem dX1_take_95 : decode cX1_take 95 = .ok (.putfield 219, 3) := dk_181 0 219 (dk_at dksX1_take_4 1 rfl rfl)
theorem dX1_take_98 : decode cX1_take 98 = .ok (.aload_n 2, 1) := dk_44 (dk_at dksX1_take_4 4 rfl rfl)
theorem dX1_take_99 : decode cX1_take 99 = .ok (.iload_n 3, 1) := dk_29 (dk_at dksX1_take_4 5 rfl rfl)
theorem dX1_take_100 : decode cX1_take 100 = .ok (.invokevirtual 200, 3) := dk_182 0 200 (dk_at dksX1_take_4 6 rfl rfl)
theorem dX1_take_103 : decode cX1_take 103 = .ok (.iconst 0, 1) := dk_3 (dk_at dksX1_take_4 9 rfl rfl)
theorem dX1_take_104 : decode cX1_take 104 = .ok (.putfield 223, 3) := dk_181 0 223 (dk_at dksX1_take_4 10 rfl rfl)
theorem dX1_take_107 : decode cX1_take 107 = .ok (.aload_n 0, 1) := dk_42 (dk_at dksX1_take_4 13 rfl rfl)
theorem dX1_take_108 : decode cX1_take 108 = .ok (.invokevirtual 383, 3) := dk_182 1 127 (dk_at dksX1_take_4 14 rfl rfl)
theorem dX1_take_111 : decode cX1_take 111 = .ok (.pop, 1) := dk_87 (dk_at dksX1_take_4 17 rfl rfl)
theorem dX1_take_112 : decode cX1_take 112 = .ok (.iload 4, 2) := dk_21 4 (dk_at dksX1_take_4 18 rfl rfl)
theorem dX1_take_114 : decode cX1_take 114 = .ok (.ireturn, 1) := dk_172 (dk_at dksX1_take_4 20 rfl rfl)
abbrev cX1_lock : ByteArray := prog_1_method_61_code
def yX1_lock : MethodName := ⟨RX1, "lock", "(III)Z"⟩
def dkwX1_lock_3 : List UInt8 := [28, 182, 0, 200, 29, 181, 0, 213, 42, 182, 1, 127, 172]
abbrev dktX1_lock_3 : List UInt8 := dkwX1_lock_3 ++ []
def dkwX1_lock_2 : List UInt8 := [167, 0, 4, 3, 182, 1, 136, 154, 0, 5, 3, 172, 42, 182, 1, 124, 42, 180, 0, 29, 27, 182, 0, 122]
abbrev dktX1_lock_2 : List UInt8 := dkwX1_lock_2 ++ dktX1_lock_3
def dkwX1_lock_1 : List UInt8 := [5, 167, 0, 27, 42, 180, 0, 29, 27, 182, 0, 122, 28, 182, 0, 200, 180, 0, 213, 29, 160, 0, 7, 8]
abbrev dktX1_lock_1 : List UInt8 := dkwX1_lock_1 ++ dktX1_lock_2
def dkwX1_lock_0 : List UInt8 := [42, 42, 27, 28, 182, 0, 197, 154, 0, 7, 4, 167, 0, 41, 29, 3, 16, 99, 184, 0, 77, 154, 0, 7]
abbrev dktX1_lock_0 : List UInt8 := dkwX1_lock_0 ++ dktX1_lock_1
theorem dksX1_lock_0 : cX1_lock.data.toList.drop 0 = dktX1_lock_0 := by decide +kernel
theorem dksX1_lock_1 : cX1_lock.data.toList.drop 24 = dktX1_lock_1 := dk_seg dksX1_lock_0 24 rfl rfl
theorem dksX1_lock_2 : cX1_lock.data.toList.drop 48 = dktX1_lock_2 := dk_seg dksX1_lock_1 24 rfl rfl
theorem dksX1_lock_3 : cX1_lock.data.toList.drop 72 = dktX1_lock_3 := dk_seg dksX1_lock_2 24 rfl rfl
theorem dX1_lock_0 : decode cX1_lock 0 = .ok (.aload_n 0, 1) := dk_42 (dk_at dksX1_lock_0 0 rfl rfl)
theorem dX1_lock_1 : decode cX1_lock 1 = .ok (.aload_n 0, 1) := dk_42 (dk_at dksX1_lock_0 1 rfl rfl)
theorem dX1_lock_2 : decode cX1_lock 2 = .ok (.iload_n 1, 1) := dk_27 (dk_at dksX1_lock_0 2 rfl rfl)
theorem dX1_lock_3 : decode cX1_lock 3 = .ok (.iload_n 2, 1) := dk_28 (dk_at dksX1_lock_0 3 rfl rfl)
theorem dX1_lock_4 : decode cX1_lock 4 = .ok (.invokevirtual 197, 3) := dk_182 0 197 (dk_at dksX1_lock_0 4 rfl rfl)
theorem dX1_lock_7 : decode cX1_lock 7 = .ok (.ifCond .ne 7, 3) := dk_154 0 7 (dk_at dksX1_lock_0 7 rfl rfl)
theorem dX1_lock_10 : decode cX1_lock 10 = .ok (.iconst 1, 1) := dk_4 (dk_at dksX1_lock_0 10 rfl rfl)
theorem dX1_lock_11 : decode cX1_lock 11 = .ok (.goto 41, 3) := dk_167 0 41 (dk_at dksX1_lock_0 11 rfl rfl)
theorem dX1_lock_14 : decode cX1_lock 14 = .ok (.iload_n 3, 1) := dk_29 (dk_at dksX1_lock_0 14 rfl rfl)
theorem dX1_lock_15 : decode cX1_lock 15 = .ok (.iconst 0, 1) := dk_3 (dk_at dksX1_lock_0 15 rfl rfl)
theorem dX1_lock_16 : decode cX1_lock 16 = .ok (.bipush 99, 2) := dk_16 99 (dk_at dksX1_lock_0 16 rfl rfl)
theorem dX1_lock_18 : decode cX1_lock 18 = .ok (.invokestatic 77, 3) := dk_184 0 77 (dk_at dksX1_lock_0 18 rfl rfl)
theorem dX1_lock_21 : decode cX1_lock 21 = .ok (.ifCond .ne 7, 3) := dk_154 0 7 (dk_at dksX1_lock_0 21 rfl rfl)
theorem dX1_lock_24 : decode cX1_lock 24 = .ok (.iconst 2, 1) := dk_5 (dk_at dksX1_lock_1 0 rfl rfl)
theorem dX1_lock_25 : decode cX1_lock 25 = .ok (.goto 27, 3) := dk_167 0 27 (dk_at dksX1_lock_1 1 rfl rfl)
theorem dX1_lock_28 : decode cX1_lock 28 = .ok (.aload_n 0, 1) := dk_42 (dk_at dksX1_lock_1 4 rfl rfl)
theorem dX1_lock_29 : decode cX1_lock 29 = .ok (.getfield 29, 3) := dk_180 0 29 (dk_at dksX1_lock_1 5 rfl rfl)
theorem dX1_lock_32 : decode cX1_lock 32 = .ok (.iload_n 1, 1) := dk_27 (dk_at dksX1_lock_1 8 rfl rfl)
theorem dX1_lock_33 : decode cX1_lock 33 = .ok (.invokevirtual 122, 3) := dk_182 0 122 (dk_at dksX1_lock_1 9 rfl rfl)
theorem dX1_lock_36 : decode cX1_lock 36 = .ok (.iload_n 2, 1) := dk_28 (dk_at dksX1_lock_1 12 rfl rfl)
theorem dX1_lock_37 : decode cX1_lock 37 = .ok (.invokevirtual 200, 3) := dk_182 0 200 (dk_at dksX1_lock_1 13 rfl rfl)
theorem dX1_lock_40 : decode cX1_lock 40 = .ok (.getfield 213, 3) := dk_180 0 213 (dk_at dksX1_lock_1 16 rfl rfl)
theorem dX1_lock_43 : decode cX1_lock 43 = .ok (.iload_n 3, 1) := dk_29 (dk_at dksX1_lock_1 19 rfl rfl)
theorem dX1_lock_44 : decode cX1_lock 44 = .ok (.if_icmp .ne 7, 3) := dk_160 0 7 (dk_at dksX1_lock_1 20 rfl rfl)
theorem dX1_lock_47 : decode cX1_lock 47 = .ok (.iconst 5, 1) := dk_8 (dk_at dksX1_lock_1 23 rfl rfl)
theorem dX1_lock_48 : decode cX1_lock 48 = .ok (.goto 4, 3) := dk_167 0 4 (dk_at dksX1_lock_2 0 rfl rfl)
theorem dX1_lock_51 : decode cX1_lock 51 = .ok (.iconst 0, 1) := dk_3 (dk_at dksX1_lock_2 3 rfl rfl)
theorem dX1_lock_52 : decode cX1_lock 52 = .ok (.invokevirtual 392, 3) := dk_182 1 136 (dk_at dksX1_lock_2 4 rfl rfl)
theorem dX1_lock_55 : decode cX1_lock 55 = .ok (.ifCond .ne 5, 3) := dk_154 0 5 (dk_at dksX1_lock_2 7 rfl rfl)
theorem dX1_lock_58 : decode cX1_lock 58 = .ok (.iconst 0, 1) := dk_3 (dk_at dksX1_lock_2 10 rfl rfl)
theorem dX1_lock_59 : decode cX1_lock 59 = .ok (.ireturn, 1) := dk_172 (dk_at dksX1_lock_2 11 rfl rfl)
theorem dX1_lock_60 : decode cX1_lock 60 = .ok (.aload_n 0, 1) := dk_42 (dk_at dksX1_lock_2 12 rfl rfl)
theorem dX1_lock_61 : decode cX1_lock 61 = .ok (.invokevirtual 380, 3) := dk_182 1 124 (dk_at dksX1_lock_2 13 rfl rfl)
theorem dX1_lock_64 : decode cX1_lock 64 = .ok (.aload_n 0, 1) := dk_42 (dk_at dksX1_lock_2 16 rfl rfl)
theorem dX1_lock_65 : decode cX1_lock 65 = .ok (.getfield 29, 3) := dk_180 0 29 (dk_at dksX1_lock_2 17 rfl rfl)
theorem dX1_lock_68 : decode cX1_lock 68 = .ok (.iload_n 1, 1) := dk_27 (dk_at dksX1_lock_2 20 rfl rfl)
theorem dX1_lock_69 : decode cX1_lock 69 = .ok (.invokevirtual 122, 3) := dk_182 0 122 (dk_at dksX1_lock_2 21 rfl rfl)
theorem dX1_lock_72 : decode cX1_lock 72 = .ok (.iload_n 2, 1) := dk_28 (dk_at dksX1_lock_3 0 rfl rfl)
theorem dX1_lock_73 : decode cX1_lock 73 = .ok (.invokevirtual 200, 3) := dk_182 0 200 (dk_at dksX1_lock_3 1 rfl rfl)
theorem dX1_lock_76 : decode cX1_lock 76 = .ok (.iload_n 3, 1) := dk_29 (dk_at dksX1_lock_3 4 rfl rfl)
theorem dX1_lock_77 : decode cX1_lock 77 = .ok (.putfield 213, 3) := dk_181 0 213 (dk_at dksX1_lock_3 5 rfl rfl)
theorem dX1_lock_80 : decode cX1_lock 80 = .ok (.aload_n 0, 1) := dk_42 (dk_at dksX1_lock_3 8 rfl rfl)
theorem dX1_lock_81 : decode cX1_lock 81 = .ok (.invokevirtual 383, 3) := dk_182 1 127 (dk_at dksX1_lock_3 9 rfl rfl)
theorem dX1_lock_84 : decode cX1_lock 84 = .ok (.ireturn, 1) := dk_172 (dk_at dksX1_lock_3 12 rfl rfl)
abbrev cX1_move : ByteArray := prog_1_method_62_code
def yX1_move : MethodName := ⟨RX1, "move", "(II)Z"⟩
def dkwX1_move_4 : List UInt8 := [172, 42, 182, 1, 124, 42, 180, 0, 29, 180, 0, 248, 27, 28, 79, 42, 182, 1, 127, 172]
abbrev dktX1_move_4 : List UInt8 := dkwX1_move_4 ++ []
def dkwX1_move_3 : List UInt8 := [182, 0, 200, 182, 1, 133, 154, 0, 7, 8, 167, 0, 4, 3, 62, 42, 29, 182, 1, 136, 154, 0, 5, 3]
abbrev dktX1_move_3 : List UInt8 := dkwX1_move_3 ++ dktX1_move_4
def dkwX1_move_2 : List UInt8 := [158, 0, 36, 42, 180, 0, 29, 42, 180, 0, 92, 180, 0, 240, 27, 50, 180, 0, 244, 182, 0, 122, 28]
abbrev dktX1_move_2 : List UInt8 := dkwX1_move_2 ++ dktX1_move_3
def dkwX1_move_1 : List UInt8 := [182, 0, 129, 154, 0, 7, 4, 167, 0, 54, 42, 180, 0, 29, 180, 0, 248, 27, 46, 28, 159, 0, 36, 28]
abbrev dktX1_move_1 : List UInt8 := dkwX1_move_1 ++ dktX1_move_2
def dkwX1_move_0 : List UInt8 := [42, 27, 182, 0, 237, 153, 0, 23, 42, 42, 180, 0, 92, 180, 0, 240, 27, 50, 180, 0, 244, 28]
abbrev dktX1_move_0 : List UInt8 := dkwX1_move_0 ++ dktX1_move_1
theorem dksX1_move_0 : cX1_move.data.toList.drop 0 = dktX1_move_0 := by decide +kernel
theorem dksX1_move_1 : cX1_move.data.toList.drop 22 = dktX1_move_1 := dk_seg dksX1_move_0 22 rfl rfl
theorem dksX1_move_2 : cX1_move.data.toList.drop 46 = dktX1_move_2 := dk_seg dksX1_move_1 24 rfl rfl
theorem dksX1_move_3 : cX1_move.data.toList.drop 69 = dktX1_move_3 := dk_seg dksX1_move_2 23 rfl rfl
theorem dksX1_move_4 : cX1_move.data.toList.drop 93 = dktX1_move_4 := dk_seg dksX1_move_3 24 rfl rfl
theorem dX1_move_0 : decode cX1_move 0 = .ok (.aload_n 0, 1) := dk_42 (dk_at dksX1_move_0 0 rfl rfl)
theorem dX1_move_1 : decode cX1_move 1 = .ok (.iload_n 1, 1) := dk_27 (dk_at dksX1_move_0 1 rfl rfl)
theorem dX1_move_2 : decode cX1_move 2 = .ok (.invokevirtual 237, 3) := dk_182 0 237 (dk_at dksX1_move_0 2 rfl rfl)
theorem dX1_move_5 : decode cX1_move 5 = .ok (.ifCond .eq 23, 3) := dk_153 0 23 (dk_at dksX1_move_0 5 rfl rfl)
theorem dX1_move_8 : decode cX1_move 8 = .ok (.aload_n 0, 1) := dk_42 (dk_at dksX1_move_0 8 rfl rfl)
theorem dX1_move_9 : decode cX1_move 9 = .ok (.aload_n 0, 1) := dk_42 (dk_at dksX1_move_0 9 rfl rfl)
theorem dX1_move_10 : decode cX1_move 10 = .ok (.getfield 92, 3) := dk_180 0 92 (dk_at dksX1_move_0 10 rfl rfl)
theorem dX1_move_13 : decode cX1_move 13 = .ok (.getfield 240, 3) := dk_180 0 240 (dk_at dksX1_move_0 13 rfl rfl)
theorem dX1_move_16 : decode cX1_move 16 = .ok (.iload_n 1, 1) := dk_27 (dk_at dksX1_move_0 16 rfl rfl)
theorem dX1_move_17 : decode cX1_move 17 = .ok (.aaload, 1) := dk_50 (dk_at dksX1_move_0 17 rfl rfl)
theorem dX1_move_18 : decode cX1_move 18 = .ok (.getfield 244, 3) := dk_180 0 244 (dk_at dksX1_move_0 18 rfl rfl)
theorem dX1_move_21 : decode cX1_move 21 = .ok (.iload_n 2, 1) := dk_28 (dk_at dksX1_move_0 21 rfl rfl)
theorem dX1_move_22 : decode cX1_move 22 = .ok (.invokevirtual 129, 3) := dk_182 0 129 (dk_at dksX1_move_1 0 rfl rfl)
theorem dX1_move_25 : decode cX1_move 25 = .ok (.ifCond .ne 7, 3) := dk_154 0 7 (dk_at dksX1_move_1 3 rfl rfl)
theorem dX1_move_28 : decode cX1_move 28 = .ok (.iconst 1, 1) := dk_4 (dk_at dksX1_move_1 6 rfl rfl)
theorem dX1_move_29 : decode cX1_move 29 = .ok (.goto 54, 3) := dk_167 0 54 (dk_at dksX1_move_1 7 rfl rfl)
theorem dX1_move_32 : decode cX1_move 32 = .ok (.aload_n 0, 1) := dk_42 (dk_at dksX1_move_1 10 rfl rfl)
theorem dX1_move_33 : decode cX1_move 33 = .ok (.getfield 29, 3) := dk_180 0 29 (dk_at dksX1_move_1 11 rfl rfl)
theorem dX1_move_36 : decode cX1_move 36 = .ok (.getfield 248, 3) := dk_180 0 248 (dk_at dksX1_move_1 14 rfl rfl)
theorem dX1_move_39 : decode cX1_move 39 = .ok (.iload_n 1, 1) := dk_27 (dk_at dksX1_move_1 17 rfl rfl)
theorem dX1_move_40 : decode cX1_move 40 = .ok (.iaload, 1) := dk_46 (dk_at dksX1_move_1 18 rfl rfl)
theorem dX1_move_41 : decode cX1_move 41 = .ok (.iload_n 2, 1) := dk_28 (dk_at dksX1_move_1 19 rfl rfl)
theorem dX1_move_42 : decode cX1_move 42 = .ok (.if_icmp .eq 36, 3) := dk_159 0 36 (dk_at dksX1_move_1 20 rfl rfl)
theorem dX1_move_45 : decode cX1_move 45 = .ok (.iload_n 2, 1) := dk_28 (dk_at dksX1_move_1 23 rfl rfl)
theorem dX1_move_46 : decode cX1_move 46 = .ok (.ifCond .le 36, 3) := dk_158 0 36 (dk_at dksX1_move_2 0 rfl rfl)
theorem dX1_move_49 : decode cX1_move 49 = .ok (.aload_n 0, 1) := dk_42 (dk_at dksX1_move_2 3 rfl rfl)
theorem dX1_move_50 : decode cX1_move 50 = .ok (.getfield 29, 3) := dk_180 0 29 (dk_at dksX1_move_2 4 rfl rfl)
theorem dX1_move_53 : decode cX1_move 53 = .ok (.aload_n 0, 1) := dk_42 (dk_at dksX1_move_2 7 rfl rfl)
theorem dX1_move_54 : decode cX1_move 54 = .ok (.getfield 92, 3) := dk_180 0 92 (dk_at dksX1_move_2 8 rfl rfl)
theorem dX1_move_57 : decode cX1_move 57 = .ok (.getfield 240, 3) := dk_180 0 240 (dk_at dksX1_move_2 11 rfl rfl)
theorem dX1_move_60 : decode cX1_move 60 = .ok (.iload_n 1, 1) := dk_27 (dk_at dksX1_move_2 14 rfl rfl)
theorem dX1_move_61 : decode cX1_move 61 = .ok (.aaload, 1) := dk_50 (dk_at dksX1_move_2 15 rfl rfl)
theorem dX1_move_62 : decode cX1_move 62 = .ok (.getfield 244, 3) := dk_180 0 244 (dk_at dksX1_move_2 16 rfl rfl)
theorem dX1_move_65 : decode cX1_move 65 = .ok (.invokevirtual 122, 3) := dk_182 0 122 (dk_at dksX1_move_2 19 rfl rfl)
theorem dX1_move_68 : decode cX1_move 68 = .ok (.iload_n 2, 1) := dk_28 (dk_at dksX1_move_2 22 rfl rfl)
theorem dX1_move_69 : decode cX1_move 69 = .ok (.invokevirtual 200, 3) := dk_182 0 200 (dk_at dksX1_move_3 0 rfl rfl)
theorem dX1_move_72 : decode cX1_move 72 = .ok (.invokevirtual 389, 3) := dk_182 1 133 (dk_at dksX1_move_3 3 rfl rfl)
theorem dX1_move_75 : decode cX1_move 75 = .ok (.ifCond .ne 7, 3) := dk_154 0 7 (dk_at dksX1_move_3 6 rfl rfl)
theorem dX1_move_78 : decode cX1_move 78 = .ok (.iconst 5, 1) := dk_8 (dk_at dksX1_move_3 9 rfl rfl)
theorem dX1_move_79 : decode cX1_move 79 = .ok (.goto 4, 3) := dk_167 0 4 (dk_at dksX1_move_3 10 rfl rfl)
theorem dX1_move_82 : decode cX1_move 82 = .ok (.iconst 0, 1) := dk_3 (dk_at dksX1_move_3 13 rfl rfl)
theorem dX1_move_83 : decode cX1_move 83 = .ok (.istore_n 3, 1) := dk_62 (dk_at dksX1_move_3 14 rfl rfl)
theorem dX1_move_84 : decode cX1_move 84 = .ok (.aload_n 0, 1) := dk_42 (dk_at dksX1_move_3 15 rfl rfl)
theorem dX1_move_85 : decode cX1_move 85 = .ok (.iload_n 3, 1) := dk_29 (dk_at dksX1_move_3 16 rfl rfl)
theorem dX1_move_86 : decode cX1_move 86 = .ok (.invokevirtual 392, 3) := dk_182 1 136 (dk_at dksX1_move_3 17 rfl rfl)
theorem dX1_move_89 : decode cX1_move 89 = .ok (.ifCond .ne 5, 3) := dk_154 0 5 (dk_at dksX1_move_3 20 rfl rfl)
theorem dX1_move_92 : decode cX1_move 92 = .ok (.iconst 0, 1) := dk_3 (dk_at dksX1_move_3 23 rfl rfl)
theorem dX1_move_93 : decode cX1_move 93 = .ok (.ireturn, 1) := dk_172 (dk_at dksX1_move_4 0 rfl rfl)
theorem dX1_move_94 : decode cX1_move 94 = .ok (.aload_n 0, 1) := dk_42 (dk_at dksX1_move_4 1 rfl rfl)
theorem dX1_move_95 : decode cX1_move 95 = .ok (.invokevirtual 380, 3) := dk_182 1 124 (dk_at dksX1_move_4 2 rfl rfl)
theorem dX1_move_98 : decode cX1_move 98 = .ok (.aload_n 0, 1) := dk_42 (dk_at dksX1_move_4 5 rfl rfl)
theorem dX1_move_99 : decode cX1_move 99 = .ok (.getfield 29, 3) := dk_180 0 29 (dk_at dksX1_move_4 6 rfl rfl)
theorem dX1_move_102 : decode cX1_move 102 = .ok (.getfield 248, 3) := dk_180 0 248 (dk_at dksX1_move_4 9 rfl rfl)
theorem dX1_move_105 : decode cX1_move 105 = .ok (.iload_n 1, 1) := dk_27 (dk_at dksX1_move_4 12 rfl rfl)
theorem dX1_move_106 : decode cX1_move 106 = .ok (.iload_n 2, 1) := dk_28 (dk_at dksX1_move_4 13 rfl rfl)
theorem dX1_move_107 : decode cX1_move 107 = .ok (.iastore, 1) := dk_79 (dk_at dksX1_move_4 14 rfl rfl)
theorem dX1_move_108 : decode cX1_move 108 = .ok (.aload_n 0, 1) := dk_42 (dk_at dksX1_move_4 15 rfl rfl)
theorem dX1_move_109 : decode cX1_move 109 = .ok (.invokevirtual 383, 3) := dk_182 1 127 (dk_at dksX1_move_4 16 rfl rfl)
theorem dX1_move_112 : decode cX1_move 112 = .ok (.ireturn, 1) := dk_172 (dk_at dksX1_move_4 19 rfl rfl)
abbrev cX1_give : ByteArray := prog_1_method_63_code
def yX1_give : MethodName := ⟨RX1, "give", "(III)Z"⟩
def dkwX1_give_5 : List UInt8 := [181, 0, 178, 42, 182, 1, 127, 172]
abbrev dktX1_give_5 : List UInt8 := dkwX1_give_5 ++ []
def dkwX1_give_4 : List UInt8 := [180, 0, 178, 29, 100, 181, 0, 178, 42, 180, 0, 29, 28, 182, 0, 122, 89, 180, 0, 178, 29, 96]
abbrev dktX1_give_4 : List UInt8 := dkwX1_give_4 ++ dktX1_give_5
def dkwX1_give_3 : List UInt8 := [21, 4, 182, 1, 136, 154, 0, 5, 3, 172, 42, 182, 1, 124, 42, 180, 0, 29, 27, 182, 0, 122, 89]
abbrev dktX1_give_3 : List UInt8 := dkwX1_give_3 ++ dktX1_give_4
def dkwX1_give_2 : List UInt8 := [182, 0, 122, 180, 0, 178, 100, 184, 1, 139, 184, 0, 77, 154, 0, 7, 5, 167, 0, 4, 3, 54, 4, 42]
abbrev dktX1_give_2 : List UInt8 := dkwX1_give_2 ++ dktX1_give_3
def dkwX1_give_1 : List UInt8 := [167, 0, 45, 29, 4, 42, 180, 0, 29, 27, 182, 0, 122, 180, 0, 178, 17, 3, 231, 42, 180, 0, 29, 28]
abbrev dktX1_give_1 : List UInt8 := dkwX1_give_1 ++ dktX1_give_2
def dkwX1_give_0 : List UInt8 := [42, 27, 182, 0, 118, 153, 0, 16, 42, 28, 182, 0, 118, 153, 0, 8, 27, 28, 160, 0, 7, 4]
abbrev dktX1_give_0 : List UInt8 := dkwX1_give_0 ++ dktX1_give_1
theorem dksX1_give_0 : cX1_give.data.toList.drop 0 = dktX1_give_0 := by decide +kernel
theorem dksX1_give_1 : cX1_give.data.toList.drop 22 = dktX1_give_1 := dk_seg dksX1_give_0 22 rfl rfl
theorem dksX1_give_2 : cX1_give.data.toList.drop 46 = dktX1_give_2 := dk_seg dksX1_give_1 24 rfl rfl
theorem dksX1_give_3 : cX1_give.data.toList.drop 70 = dktX1_give_3 := dk_seg dksX1_give_2 24 rfl rfl
theorem dksX1_give_4 : cX1_give.data.toList.drop 93 = dktX1_give_4 := dk_seg dksX1_give_3 23 rfl rfl
theorem dksX1_give_5 : cX1_give.data.toList.drop 115 = dktX1_give_5 := dk_seg dksX1_give_4 22 rfl rfl
theorem dX1_give_0 : decode cX1_give 0 = .ok (.aload_n 0, 1) := dk_42 (dk_at dksX1_give_0 0 rfl rfl)
theorem dX1_give_1 : decode cX1_give 1 = .ok (.iload_n 1, 1) := dk_27 (dk_at dksX1_give_0 1 rfl rfl)
theorem dX1_give_2 : decode cX1_give 2 = .ok (.invokevirtual 118, 3) := dk_182 0 118 (dk_at dksX1_give_0 2 rfl rfl)
theorem dX1_give_5 : decode cX1_give 5 = .ok (.ifCond .eq 16, 3) := dk_153 0 16 (dk_at dksX1_give_0 5 rfl rfl)
theorem dX1_give_8 : decode cX1_give 8 = .ok (.aload_n 0, 1) := dk_42 (dk_at dksX1_give_0 8 rfl rfl)
theorem dX1_give_9 : decode cX1_give 9 = .ok (.iload_n 2, 1) := dk_28 (dk_at dksX1_give_0 9 rfl rfl)
theorem dX1_give_10 : decode cX1_give 10 = .ok (.invokevirtual 118, 3) := dk_182 0 118 (dk_at dksX1_give_0 10 rfl rfl)
theorem dX1_give_13 : decode cX1_give 13 = .ok (.ifCond .eq 8, 3) := dk_153 0 8 (dk_at dksX1_give_0 13 rfl rfl)
theorem dX1_give_16 : decode cX1_give 16 = .ok (.iload_n 1, 1) := dk_27 (dk_at dksX1_give_0 16 rfl rfl)
theorem dX1_give_17 : decode cX1_give 17 = .ok (.iload_n 2, 1) := dk_28 (dk_at dksX1_give_0 17 rfl rfl)
theorem dX1_give_18 : decode cX1_give 18 = .ok (.if_icmp .ne 7, 3) := dk_160 0 7 (dk_at dksX1_give_0 18 rfl rfl)
theorem dX1_give_21 : decode cX1_give 21 = .ok (.iconst 1, 1) := dk_4 (dk_at dksX1_give_0 21 rfl rfl)
theorem dX1_give_22 : decode cX1_give 22 = .ok (.goto 45, 3) := dk_167 0 45 (dk_at dksX1_give_1 0 rfl rfl)
theorem dX1_give_25 : decode cX1_give 25 = .ok (.iload_n 3, 1) := dk_29 (dk_at dksX1_give_1 3 rfl rfl)
theorem dX1_give_26 : decode cX1_give 26 = .ok (.iconst 1, 1) := dk_4 (dk_at dksX1_give_1 4 rfl rfl)
theorem dX1_give_27 : decode cX1_give 27 = .ok (.aload_n 0, 1) := dk_42 (dk_at dksX1_give_1 5 rfl rfl)
theorem dX1_give_28 : decode cX1_give 28 = .ok (.getfield 29, 3) := dk_180 0 29 (dk_at dksX1_give_1 6 rfl rfl)
theorem dX1_give_31 : decode cX1_give 31 = .ok (.iload_n 1, 1) := dk_27 (dk_at dksX1_give_1 9 rfl rfl)
theorem dX1_give_32 : decode cX1_give 32 = .ok (.invokevirtual 122, 3) := dk_182 0 122 (dk_at dksX1_give_1 10 rfl rfl)
theorem dX1_give_35 : decode cX1_give 35 = .ok (.getfield 178, 3) := dk_180 0 178 (dk_at dksX1_give_1 13 rfl rfl)
theorem dX1_give_38 : decode cX1_give 38 = .ok (.sipush 999, 3) := dk_17 3 231 (dk_at dksX1_give_1 16 rfl rfl)
theorem dX1_give_41 : decode cX1_give 41 = .ok (.aload_n 0, 1) := dk_42 (dk_at dksX1_give_1 19 rfl rfl)
theorem dX1_give_42 : decode cX1_give 42 = .ok (.getfield 29, 3) := dk_180 0 29 (dk_at dksX1_give_1 20 rfl rfl)
theorem dX1_give_45 : decode cX1_give 45 = .ok (.iload_n 2, 1) := dk_28 (dk_at dksX1_give_1 23 rfl rfl)
theorem dX1_give_46 : decode cX1_give 46 = .ok (.invokevirtual 122, 3) := dk_182 0 122 (dk_at dksX1_give_2 0 rfl rfl)
theorem dX1_give_49 : decode cX1_give 49 = .ok (.getfield 178, 3) := dk_180 0 178 (dk_at dksX1_give_2 3 rfl rfl)
theorem dX1_give_52 : decode cX1_give 52 = .ok (.isub, 1) := dk_100 (dk_at dksX1_give_2 6 rfl rfl)
theorem dX1_give_53 : decode cX1_give 53 = .ok (.invokestatic 395, 3) := dk_184 1 139 (dk_at dksX1_give_2 7 rfl rfl)
theorem dX1_give_56 : decode cX1_give 56 = .ok (.invokestatic 77, 3) := dk_184 0 77 (dk_at dksX1_give_2 10 rfl rfl)
theorem dX1_give_59 : decode cX1_give 59 = .ok (.ifCond .ne 7, 3) := dk_154 0 7 (dk_at dksX1_give_2 13 rfl rfl)
theorem dX1_give_62 : decode cX1_give 62 = .ok (.iconst 2, 1) := dk_5 (dk_at dksX1_give_2 16 rfl rfl)
theorem dX1_give_63 : decode cX1_give 63 = .ok (.goto 4, 3) := dk_167 0 4 (dk_at dksX1_give_2 17 rfl rfl)
theorem dX1_give_66 : decode cX1_give 66 = .ok (.iconst 0, 1) := dk_3 (dk_at dksX1_give_2 20 rfl rfl)
theorem dX1_give_67 : decode cX1_give 67 = .ok (.istore 4, 2) := dk_54 4 (dk_at dksX1_give_2 21 rfl rfl)
theorem dX1_give_69 : decode cX1_give 69 = .ok (.aload_n 0, 1) := dk_42 (dk_at dksX1_give_2 23 rfl rfl)
theorem dX1_give_70 : decode cX1_give 70 = .ok (.iload 4, 2) := dk_21 4 (dk_at dksX1_give_3 0 rfl rfl)
theorem dX1_give_72 : decode cX1_give 72 = .ok (.invokevirtual 392, 3) := dk_182 1 136 (dk_at dksX1_give_3 2 rfl rfl)
theorem dX1_give_75 : decode cX1_give 75 = .ok (.ifCond .ne 5, 3) := dk_154 0 5 (dk_at dksX1_give_3 5 rfl rfl)
theorem dX1_give_78 : decode cX1_give 78 = .ok (.iconst 0, 1) := dk_3 (dk_at dksX1_give_3 8 rfl rfl)
theorem dX1_give_79 : decode cX1_give 79 = .ok (.ireturn, 1) := dk_172 (dk_at dksX1_give_3 9 rfl rfl)
theorem dX1_give_80 : decode cX1_give 80 = .ok (.aload_n 0, 1) := dk_42 (dk_at dksX1_give_3 10 rfl rfl)
theorem dX1_give_81 : decode cX1_give 81 = .ok (.invokevirtual 380, 3) := dk_182 1 124 (dk_at dksX1_give_3 11 rfl rfl)
theorem dX1_give_84 : decode cX1_give 84 = .ok (.aload_n 0, 1) := dk_42 (dk_at dksX1_give_3 14 rfl rfl)
theorem dX1_give_85 : decode cX1_give 85 = .ok (.getfield 29, 3) := dk_180 0 29 (dk_at dksX1_give_3 15 rfl rfl)
theorem dX1_give_88 : decode cX1_give 88 = .ok (.iload_n 1, 1) := dk_27 (dk_at dksX1_give_3 18 rfl rfl)
theorem dX1_give_89 : decode cX1_give 89 = .ok (.invokevirtual 122, 3) := dk_182 0 122 (dk_at dksX1_give_3 19 rfl rfl)
theorem dX1_give_92 : decode cX1_give 92 = .ok (.dup, 1) := dk_89 (dk_at dksX1_give_3 22 rfl rfl)
theorem dX1_give_93 : decode cX1_give 93 = .ok (.getfield 178, 3) := dk_180 0 178 (dk_at dksX1_give_4 0 rfl rfl)
theorem dX1_give_96 : decode cX1_give 96 = .ok (.iload_n 3, 1) := dk_29 (dk_at dksX1_give_4 3 rfl rfl)
theorem dX1_give_97 : decode cX1_give 97 = .ok (.isub, 1) := dk_100 (dk_at dksX1_give_4 4 rfl rfl)
theorem dX1_give_98 : decode cX1_give 98 = .ok (.putfield 178, 3) := dk_181 0 178 (dk_at dksX1_give_4 5 rfl rfl)
theorem dX1_give_101 : decode cX1_give 101 = .ok (.aload_n 0, 1) := dk_42 (dk_at dksX1_give_4 8 rfl rfl)
theorem dX1_give_102 : decode cX1_give 102 = .ok (.getfield 29, 3) := dk_180 0 29 (dk_at dksX1_give_4 9 rfl rfl)
theorem dX1_give_105 : decode cX1_give 105 = .ok (.iload_n 2, 1) := dk_28 (dk_at dksX1_give_4 12 rfl rfl)
theorem dX1_give_106 : decode cX1_give 106 = .ok (.invokevirtual 122, 3) := dk_182 0 122 (dk_at dksX1_give_4 13 rfl rfl)
theorem dX1_give_109 : decode cX1_give 109 = .ok (.dup, 1) := dk_89 (dk_at dksX1_give_4 16 rfl rfl)
theorem dX1_give_110 : decode cX1_give 110 = .ok (.getfield 178, 3) := dk_180 0 178 (dk_at dksX1_give_4 17 rfl rfl)
theorem dX1_give_113 : decode cX1_give 113 = .ok (.iload_n 3, 1) := dk_29 (dk_at dksX1_give_4 20 rfl rfl)
theorem dX1_give_114 : decode cX1_give 114 = .ok (.iadd, 1) := dk_96 (dk_at dksX1_give_4 21 rfl rfl)
theorem dX1_give_115 : decode cX1_give 115 = .ok (.putfield 178, 3) := dk_181 0 178 (dk_at dksX1_give_5 0 rfl rfl)
theorem dX1_give_118 : decode cX1_give 118 = .ok (.aload_n 0, 1) := dk_42 (dk_at dksX1_give_5 3 rfl rfl)
theorem dX1_give_119 : decode cX1_give 119 = .ok (.invokevirtual 383, 3) := dk_182 1 127 (dk_at dksX1_give_5 4 rfl rfl)
theorem dX1_give_122 : decode cX1_give 122 = .ok (.ireturn, 1) := dk_172 (dk_at dksX1_give_5 7 rfl rfl)
abbrev cX1_seed : ByteArray := prog_1_method_64_code
def yX1_seed : MethodName := ⟨RX1, "seed", "(I)Z"⟩
def dkwX1_seed_1 : List UInt8 := [167, 0, 4, 5, 182, 1, 136, 154, 0, 5, 3, 172, 42, 180, 0, 29, 27, 181, 1, 81, 4, 172]
abbrev dktX1_seed_1 : List UInt8 := dkwX1_seed_1 ++ []
def dkwX1_seed_0 : List UInt8 := [42, 42, 180, 0, 92, 199, 0, 7, 4, 167, 0, 19, 27, 3, 19, 1, 80, 184, 0, 77, 153, 0, 7, 3]
abbrev dktX1_seed_0 : List UInt8 := dkwX1_seed_0 ++ dktX1_seed_1
theorem dksX1_seed_0 : cX1_seed.data.toList.drop 0 = dktX1_seed_0 := by decide +kernel
theorem dksX1_seed_1 : cX1_seed.data.toList.drop 24 = dktX1_seed_1 := dk_seg dksX1_seed_0 24 rfl rfl
theorem dX1_seed_0 : decode cX1_seed 0 = .ok (.aload_n 0, 1) := dk_42 (dk_at dksX1_seed_0 0 rfl rfl)
theorem dX1_seed_1 : decode cX1_seed 1 = .ok (.aload_n 0, 1) := dk_42 (dk_at dksX1_seed_0 1 rfl rfl)
theorem dX1_seed_2 : decode cX1_seed 2 = .ok (.getfield 92, 3) := dk_180 0 92 (dk_at dksX1_seed_0 2 rfl rfl)
theorem dX1_seed_5 : decode cX1_seed 5 = .ok (.ifnonnull 7, 3) := dk_199 0 7 (dk_at dksX1_seed_0 5 rfl rfl)
theorem dX1_seed_8 : decode cX1_seed 8 = .ok (.iconst 1, 1) := dk_4 (dk_at dksX1_seed_0 8 rfl rfl)
theorem dX1_seed_9 : decode cX1_seed 9 = .ok (.goto 19, 3) := dk_167 0 19 (dk_at dksX1_seed_0 9 rfl rfl)
theorem dX1_seed_12 : decode cX1_seed 12 = .ok (.iload_n 1, 1) := dk_27 (dk_at dksX1_seed_0 12 rfl rfl)
theorem dX1_seed_13 : decode cX1_seed 13 = .ok (.iconst 0, 1) := dk_3 (dk_at dksX1_seed_0 13 rfl rfl)
theorem dX1_seed_14 : decode cX1_seed 14 = .ok (.ldc_w 336, 3) := dk_19 1 80 (dk_at dksX1_seed_0 14 rfl rfl)
theorem dX1_seed_17 : decode cX1_seed 17 = .ok (.invokestatic 77, 3) := dk_184 0 77 (dk_at dksX1_seed_0 17 rfl rfl)
theorem dX1_seed_20 : decode cX1_seed 20 = .ok (.ifCond .eq 7, 3) := dk_153 0 7 (dk_at dksX1_seed_0 20 rfl rfl)
theorem dX1_seed_23 : decode cX1_seed 23 = .ok (.iconst 0, 1) := dk_3 (dk_at dksX1_seed_0 23 rfl rfl)
theorem dX1_seed_24 : decode cX1_seed 24 = .ok (.goto 4, 3) := dk_167 0 4 (dk_at dksX1_seed_1 0 rfl rfl)
theorem dX1_seed_27 : decode cX1_seed 27 = .ok (.iconst 2, 1) := dk_5 (dk_at dksX1_seed_1 3 rfl rfl)
theorem dX1_seed_28 : decode cX1_seed 28 = .ok (.invokevirtual 392, 3) := dk_182 1 136 (dk_at dksX1_seed_1 4 rfl rfl)
theorem dX1_seed_31 : decode cX1_seed 31 = .ok (.ifCond .ne 5, 3) := dk_154 0 5 (dk_at dksX1_seed_1 7 rfl rfl)
theorem dX1_seed_34 : decode cX1_seed 34 = .ok (.iconst 0, 1) := dk_3 (dk_at dksX1_seed_1 10 rfl rfl)
theorem dX1_seed_35 : decode cX1_seed 35 = .ok (.ireturn, 1) := dk_172 (dk_at dksX1_seed_1 11 rfl rfl)
theorem dX1_seed_36 : decode cX1_seed 36 = .ok (.aload_n 0, 1) := dk_42 (dk_at dksX1_seed_1 12 rfl rfl)
theorem dX1_seed_37 : decode cX1_seed 37 = .ok (.getfield 29, 3) := dk_180 0 29 (dk_at dksX1_seed_1 13 rfl rfl)
theorem dX1_seed_40 : decode cX1_seed 40 = .ok (.iload_n 1, 1) := dk_27 (dk_at dksX1_seed_1 16 rfl rfl)
theorem dX1_seed_41 : decode cX1_seed 41 = .ok (.putfield 337, 3) := dk_181 1 81 (dk_at dksX1_seed_1 17 rfl rfl)
theorem dX1_seed_44 : decode cX1_seed 44 = .ok (.iconst 1, 1) := dk_4 (dk_at dksX1_seed_1 20 rfl rfl)
theorem dX1_seed_45 : decode cX1_seed 45 = .ok (.ireturn, 1) := dk_172 (dk_at dksX1_seed_1 21 rfl rfl)
abbrev cX1_undo : ByteArray := prog_1_method_65_code
def yX1_undo : MethodName := ⟨RX1, "undo", "()Z"⟩
def dkwX1_undo_2 : List UInt8 := [4, 172]
abbrev dktX1_undo_2 : List UInt8 := dkwX1_undo_2 ++ []
def dkwX1_undo_1 : List UInt8 := [180, 0, 109, 4, 100, 181, 0, 109, 42, 180, 0, 29, 42, 180, 0, 53, 42, 180, 0, 109, 50, 182, 0, 105]
abbrev dktX1_undo_1 : List UInt8 := dkwX1_undo_1 ++ dktX1_undo_2
def dkwX1_undo_0 : List UInt8 := [42, 42, 180, 0, 109, 154, 0, 8, 16, 6, 167, 0, 4, 3, 182, 1, 136, 154, 0, 5, 3, 172, 42, 89]
abbrev dktX1_undo_0 : List UInt8 := dkwX1_undo_0 ++ dktX1_undo_1
theorem dksX1_undo_0 : cX1_undo.data.toList.drop 0 = dktX1_undo_0 := by decide +kernel
theorem dksX1_undo_1 : cX1_undo.data.toList.drop 24 = dktX1_undo_1 := dk_seg dksX1_undo_0 24 rfl rfl
theorem dksX1_undo_2 : cX1_undo.data.toList.drop 48 = dktX1_undo_2 := dk_seg dksX1_undo_1 24 rfl rfl
theorem dX1_undo_0 : decode cX1_undo 0 = .ok (.aload_n 0, 1) := dk_42 (dk_at dksX1_undo_0 0 rfl rfl)
theorem dX1_undo_1 : decode cX1_undo 1 = .ok (.aload_n 0, 1) := dk_42 (dk_at dksX1_undo_0 1 rfl rfl)
theorem dX1_undo_2 : decode cX1_undo 2 = .ok (.getfield 109, 3) := dk_180 0 109 (dk_at dksX1_undo_0 2 rfl rfl)
theorem dX1_undo_5 : decode cX1_undo 5 = .ok (.ifCond .ne 8, 3) := dk_154 0 8 (dk_at dksX1_undo_0 5 rfl rfl)
theorem dX1_undo_8 : decode cX1_undo 8 = .ok (.bipush 6, 2) := dk_16 6 (dk_at dksX1_undo_0 8 rfl rfl)
theorem dX1_undo_10 : decode cX1_undo 10 = .ok (.goto 4, 3) := dk_167 0 4 (dk_at dksX1_undo_0 10 rfl rfl)
theorem dX1_undo_13 : decode cX1_undo 13 = .ok (.iconst 0, 1) := dk_3 (dk_at dksX1_undo_0 13 rfl rfl)
theorem dX1_undo_14 : decode cX1_undo 14 = .ok (.invokevirtual 392, 3) := dk_182 1 136 (dk_at dksX1_undo_0 14 rfl rfl)
theorem dX1_undo_17 : decode cX1_undo 17 = .ok (.ifCond .ne 5, 3) := dk_154 0 5 (dk_at dksX1_undo_0 17 rfl rfl)
theorem dX1_undo_20 : decode cX1_undo 20 = .ok (.iconst 0, 1) := dk_3 (dk_at dksX1_undo_0 20 rfl rfl)
theorem dX1_undo_21 : decode cX1_undo 21 = .ok (.ireturn, 1) := dk_172 (dk_at dksX1_undo_0 21 rfl rfl)
theorem dX1_undo_22 : decode cX1_undo 22 = .ok (.aload_n 0, 1) := dk_42 (dk_at dksX1_undo_0 22 rfl rfl)
theorem dX1_undo_23 : decode cX1_undo 23 = .ok (.dup, 1) := dk_89 (dk_at dksX1_undo_0 23 rfl rfl)
theorem dX1_undo_24 : decode cX1_undo 24 = .ok (.getfield 109, 3) := dk_180 0 109 (dk_at dksX1_undo_1 0 rfl rfl)
theorem dX1_undo_27 : decode cX1_undo 27 = .ok (.iconst 1, 1) := dk_4 (dk_at dksX1_undo_1 3 rfl rfl)
theorem dX1_undo_28 : decode cX1_undo 28 = .ok (.isub, 1) := dk_100 (dk_at dksX1_undo_1 4 rfl rfl)
theorem dX1_undo_29 : decode cX1_undo 29 = .ok (.putfield 109, 3) := dk_181 0 109 (dk_at dksX1_undo_1 5 rfl rfl)
theorem dX1_undo_32 : decode cX1_undo 32 = .ok (.aload_n 0, 1) := dk_42 (dk_at dksX1_undo_1 8 rfl rfl)
theorem dX1_undo_33 : decode cX1_undo 33 = .ok (.getfield 29, 3) := dk_180 0 29 (dk_at dksX1_undo_1 9 rfl rfl)
theorem dX1_undo_36 : decode cX1_undo 36 = .ok (.aload_n 0, 1) := dk_42 (dk_at dksX1_undo_1 12 rfl rfl)
theorem dX1_undo_37 : decode cX1_undo 37 = .ok (.getfield 53, 3) := dk_180 0 53 (dk_at dksX1_undo_1 13 rfl rfl)
theorem dX1_undo_40 : decode cX1_undo 40 = .ok (.aload_n 0, 1) := dk_42 (dk_at dksX1_undo_1 16 rfl rfl)
theorem dX1_undo_41 : decode cX1_undo 41 = .ok (.getfield 109, 3) := dk_180 0 109 (dk_at dksX1_undo_1 17 rfl rfl)
theorem dX1_undo_44 : decode cX1_undo 44 = .ok (.aaload, 1) := dk_50 (dk_at dksX1_undo_1 20 rfl rfl)
theorem dX1_undo_45 : decode cX1_undo 45 = .ok (.invokevirtual 105, 3) := dk_182 0 105 (dk_at dksX1_undo_1 21 rfl rfl)
theorem dX1_undo_48 : decode cX1_undo 48 = .ok (.iconst 1, 1) := dk_4 (dk_at dksX1_undo_2 0 rfl rfl)
theorem dX1_undo_49 : decode cX1_undo 49 = .ok (.ireturn, 1) := dk_172 (dk_at dksX1_undo_2 1 rfl rfl)
abbrev cX1_mark : ByteArray := prog_1_method_66_code
def yX1_mark : MethodName := ⟨RX1, "mark", "()I"⟩
def dkwX1_mark_2 : List UInt8 := [182, 0, 105, 42, 89, 180, 0, 112, 4, 96, 181, 0, 112, 42, 180, 0, 112, 4, 100, 172]
abbrev dktX1_mark_2 : List UInt8 := dkwX1_mark_2 ++ []
def dkwX1_mark_1 : List UInt8 := [160, 0, 9, 42, 6, 182, 0, 81, 172, 42, 180, 0, 57, 42, 180, 0, 112, 50, 42, 180, 0, 29]
abbrev dktX1_mark_1 : List UInt8 := dkwX1_mark_1 ++ dktX1_mark_2
def dkwX1_mark_0 : List UInt8 := [42, 182, 0, 67, 42, 180, 0, 92, 199, 0, 9, 42, 4, 182, 0, 81, 172, 42, 180, 0, 112, 6]
abbrev dktX1_mark_0 : List UInt8 := dkwX1_mark_0 ++ dktX1_mark_1
theorem dksX1_mark_0 : cX1_mark.data.toList.drop 0 = dktX1_mark_0 := by decide +kernel
theorem dksX1_mark_1 : cX1_mark.data.toList.drop 22 = dktX1_mark_1 := dk_seg dksX1_mark_0 22 rfl rfl
theorem dksX1_mark_2 : cX1_mark.data.toList.drop 44 = dktX1_mark_2 := dk_seg dksX1_mark_1 22 rfl rfl
theorem dX1_mark_0 : decode cX1_mark 0 = .ok (.aload_n 0, 1) := dk_42 (dk_at dksX1_mark_0 0 rfl rfl)
theorem dX1_mark_1 : decode cX1_mark 1 = .ok (.invokevirtual 67, 3) := dk_182 0 67 (dk_at dksX1_mark_0 1 rfl rfl)
theorem dX1_mark_4 : decode cX1_mark 4 = .ok (.aload_n 0, 1) := dk_42 (dk_at dksX1_mark_0 4 rfl rfl)
theorem dX1_mark_5 : decode cX1_mark 5 = .ok (.getfield 92, 3) := dk_180 0 92 (dk_at dksX1_mark_0 5 rfl rfl)
theorem dX1_mark_8 : decode cX1_mark 8 = .ok (.ifnonnull 9, 3) := dk_199 0 9 (dk_at dksX1_mark_0 8 rfl rfl)
theorem dX1_mark_11 : decode cX1_mark 11 = .ok (.aload_n 0, 1) := dk_42 (dk_at dksX1_mark_0 11 rfl rfl)
theorem dX1_mark_12 : decode cX1_mark 12 = .ok (.iconst 1, 1) := dk_4 (dk_at dksX1_mark_0 12 rfl rfl)
theorem dX1_mark_13 : decode cX1_mark 13 = .ok (.invokevirtual 81, 3) := dk_182 0 81 (dk_at dksX1_mark_0 13 rfl rfl)
theorem dX1_mark_16 : decode cX1_mark 16 = .ok (.ireturn, 1) := dk_172 (dk_at dksX1_mark_0 16 rfl rfl)
theorem dX1_mark_17 : decode cX1_mark 17 = .ok (.aload_n 0, 1) := dk_42 (dk_at dksX1_mark_0 17 rfl rfl)
theorem dX1_mark_18 : decode cX1_mark 18 = .ok (.getfield 112, 3) := dk_180 0 112 (dk_at dksX1_mark_0 18 rfl rfl)
theorem dX1_mark_21 : decode cX1_mark 21 = .ok (.iconst 3, 1) := dk_6 (dk_at dksX1_mark_0 21 rfl rfl)
theorem dX1_mark_22 : decode cX1_mark 22 = .ok (.if_icmp .ne 9, 3) := dk_160 0 9 (dk_at dksX1_mark_1 0 rfl rfl)
theorem dX1_mark_25 : decode cX1_mark 25 = .ok (.aload_n 0, 1) := dk_42 (dk_at dksX1_mark_1 3 rfl rfl)
theorem dX1_mark_26 : decode cX1_mark 26 = .ok (.iconst 3, 1) := dk_6 (dk_at dksX1_mark_1 4 rfl rfl)
theorem dX1_mark_27 : decode cX1_mark 27 = .ok (.invokevirtual 81, 3) := dk_182 0 81 (dk_at dksX1_mark_1 5 rfl rfl)
theorem dX1_mark_30 : decode cX1_mark 30 = .ok (.ireturn, 1) := dk_172 (dk_at dksX1_mark_1 8 rfl rfl)
theorem dX1_mark_31 : decode cX1_mark 31 = .ok (.aload_n 0, 1) := dk_42 (dk_at dksX1_mark_1 9 rfl rfl)
theorem dX1_mark_32 : decode cX1_mark 32 = .ok (.getfield 57, 3) := dk_180 0 57 (dk_at dksX1_mark_1 10 rfl rfl)
theorem dX1_mark_35 : decode cX1_mark 35 = .ok (.aload_n 0, 1) := dk_42 (dk_at dksX1_mark_1 13 rfl rfl)
theorem dX1_mark_36 : decode cX1_mark 36 = .ok (.getfield 112, 3) := dk_180 0 112 (dk_at dksX1_mark_1 14 rfl rfl)
theorem dX1_mark_39 : decode cX1_mark 39 = .ok (.aaload, 1) := dk_50 (dk_at dksX1_mark_1 17 rfl rfl)
theorem dX1_mark_40 : decode cX1_mark 40 = .ok (.aload_n 0, 1) := dk_42 (dk_at dksX1_mark_1 18 rfl rfl)
theorem dX1_mark_41 : decode cX1_mark 41 = .ok (.getfield 29, 3) := dk_180 0 29 (dk_at dksX1_mark_1 19 rfl rfl)
theorem dX1_mark_44 : decode cX1_mark 44 = .ok (.invokevirtual 105, 3) := dk_182 0 105 (dk_at dksX1_mark_2 0 rfl rfl)
theorem dX1_mark_47 : decode cX1_mark 47 = .ok (.aload_n 0, 1) := dk_42 (dk_at dksX1_mark_2 3 rfl rfl)
theorem dX1_mark_48 : decode cX1_mark 48 = .ok (.dup, 1) := dk_89 (dk_at dksX1_mark_2 4 rfl rfl)
theorem dX1_mark_49 : decode cX1_mark 49 = .ok (.getfield 112, 3) := dk_180 0 112 (dk_at dksX1_mark_2 5 rfl rfl)
theorem dX1_mark_52 : decode cX1_mark 52 = .ok (.iconst 1, 1) := dk_4 (dk_at dksX1_mark_2 8 rfl rfl)
theorem dX1_mark_53 : decode cX1_mark 53 = .ok (.iadd, 1) := dk_96 (dk_at dksX1_mark_2 9 rfl rfl)
theorem dX1_mark_54 : decode cX1_mark 54 = .ok (.putfield 112, 3) := dk_181 0 112 (dk_at dksX1_mark_2 10 rfl rfl)
theorem dX1_mark_57 : decode cX1_mark 57 = .ok (.aload_n 0, 1) := dk_42 (dk_at dksX1_mark_2 13 rfl rfl)
theorem dX1_mark_58 : decode cX1_mark 58 = .ok (.getfield 112, 3) := dk_180 0 112 (dk_at dksX1_mark_2 14 rfl rfl)
theorem dX1_mark_61 : decode cX1_mark 61 = .ok (.iconst 1, 1) := dk_4 (dk_at dksX1_mark_2 17 rfl rfl)
theorem dX1_mark_62 : decode cX1_mark 62 = .ok (.isub, 1) := dk_100 (dk_at dksX1_mark_2 18 rfl rfl)
theorem dX1_mark_63 : decode cX1_mark 63 = .ok (.ireturn, 1) := dk_172 (dk_at dksX1_mark_2 19 rfl rfl)
abbrev cX1_back : ByteArray := prog_1_method_67_code
def yX1_back : MethodName := ⟨RX1, "back", "(I)Z"⟩
def dkwX1_back_2 : List UInt8 := [172]
abbrev dktX1_back_2 : List UInt8 := dkwX1_back_2 ++ []
def dkwX1_back_1 : List UInt8 := [154, 0, 5, 3, 172, 42, 180, 0, 29, 42, 180, 0, 57, 27, 50, 182, 0, 105, 42, 3, 181, 0, 109, 4]
abbrev dktX1_back_1 : List UInt8 := dkwX1_back_1 ++ dktX1_back_2
def dkwX1_back_0 : List UInt8 := [42, 27, 3, 42, 180, 0, 112, 4, 100, 184, 0, 77, 153, 0, 7, 3, 167, 0, 4, 4, 182, 1, 136]
abbrev dktX1_back_0 : List UInt8 := dkwX1_back_0 ++ dktX1_back_1
theorem dksX1_back_0 : cX1_back.data.toList.drop 0 = dktX1_back_0 := by decide +kernel
theorem dksX1_back_1 : cX1_back.data.toList.drop 23 = dktX1_back_1 := dk_seg dksX1_back_0 23 rfl rfl
theorem dksX1_back_2 : cX1_back.data.toList.drop 47 = dktX1_back_2 := dk_seg dksX1_back_1 24 rfl rfl
theorem dX1_back_0 : decode cX1_back 0 = .ok (.aload_n 0, 1) := dk_42 (dk_at dksX1_back_0 0 rfl rfl)
theorem dX1_back_1 : decode cX1_back 1 = .ok (.iload_n 1, 1) := dk_27 (dk_at dksX1_back_0 1 rfl rfl)
theorem dX1_back_2 : decode cX1_back 2 = .ok (.iconst 0, 1) := dk_3 (dk_at dksX1_back_0 2 rfl rfl)
theorem dX1_back_3 : decode cX1_back 3 = .ok (.aload_n 0, 1) := dk_42 (dk_at dksX1_back_0 3 rfl rfl)
theorem dX1_back_4 : decode cX1_back 4 = .ok (.getfield 112, 3) := dk_180 0 112 (dk_at dksX1_back_0 4 rfl rfl)
theorem dX1_back_7 : decode cX1_back 7 = .ok (.iconst 1, 1) := dk_4 (dk_at dksX1_back_0 7 rfl rfl)
theorem dX1_back_8 : decode cX1_back 8 = .ok (.isub, 1) := dk_100 (dk_at dksX1_back_0 8 rfl rfl)
theorem dX1_back_9 : decode cX1_back 9 = .ok (.invokestatic 77, 3) := dk_184 0 77 (dk_at dksX1_back_0 9 rfl rfl)
theorem dX1_back_12 : decode cX1_back 12 = .ok (.ifCond .eq 7, 3) := dk_153 0 7 (dk_at dksX1_back_0 12 rfl rfl)
theorem dX1_back_15 : decode cX1_back 15 = .ok (.iconst 0, 1) := dk_3 (dk_at dksX1_back_0 15 rfl rfl)
theorem dX1_back_16 : decode cX1_back 16 = .ok (.goto 4, 3) := dk_167 0 4 (dk_at dksX1_back_0 16 rfl rfl)
theorem dX1_back_19 : decode cX1_back 19 = .ok (.iconst 1, 1) := dk_4 (dk_at dksX1_back_0 19 rfl rfl)
theorem dX1_back_20 : decode cX1_back 20 = .ok (.invokevirtual 392, 3) := dk_182 1 136 (dk_at dksX1_back_0 20 rfl rfl)
theorem dX1_back_23 : decode cX1_back 23 = .ok (.ifCond .ne 5, 3) := dk_154 0 5 (dk_at dksX1_back_1 0 rfl rfl)
theorem dX1_back_26 : decode cX1_back 26 = .ok (.iconst 0, 1) := dk_3 (dk_at dksX1_back_1 3 rfl rfl)
theorem dX1_back_27 : decode cX1_back 27 = .ok (.ireturn, 1) := dk_172 (dk_at dksX1_back_1 4 rfl rfl)
theorem dX1_back_28 : decode cX1_back 28 = .ok (.aload_n 0, 1) := dk_42 (dk_at dksX1_back_1 5 rfl rfl)
theorem dX1_back_29 : decode cX1_back 29 = .ok (.getfield 29, 3) := dk_180 0 29 (dk_at dksX1_back_1 6 rfl rfl)
theorem dX1_back_32 : decode cX1_back 32 = .ok (.aload_n 0, 1) := dk_42 (dk_at dksX1_back_1 9 rfl rfl)
theorem dX1_back_33 : decode cX1_back 33 = .ok (.getfield 57, 3) := dk_180 0 57 (dk_at dksX1_back_1 10 rfl rfl)
theorem dX1_back_36 : decode cX1_back 36 = .ok (.iload_n 1, 1) := dk_27 (dk_at dksX1_back_1 13 rfl rfl)
theorem dX1_back_37 : decode cX1_back 37 = .ok (.aaload, 1) := dk_50 (dk_at dksX1_back_1 14 rfl rfl)
theorem dX1_back_38 : decode cX1_back 38 = .ok (.invokevirtual 105, 3) := dk_182 0 105 (dk_at dksX1_back_1 15 rfl rfl)
theorem dX1_back_41 : decode cX1_back 41 = .ok (.aload_n 0, 1) := dk_42 (dk_at dksX1_back_1 18 rfl rfl)
theorem dX1_back_42 : decode cX1_back 42 = .ok (.iconst 0, 1) := dk_3 (dk_at dksX1_back_1 19 rfl rfl)
theorem dX1_back_43 : decode cX1_back 43 = .ok (.putfield 109, 3) := dk_181 0 109 (dk_at dksX1_back_1 20 rfl rfl)
theorem dX1_back_46 : decode cX1_back 46 = .ok (.iconst 1, 1) := dk_4 (dk_at dksX1_back_1 23 rfl rfl)
theorem dX1_back_47 : decode cX1_back 47 = .ok (.ireturn, 1) := dk_172 (dk_at dksX1_back_2 0 rfl rfl)
abbrev cX1_stone : ByteArray := prog_1_method_68_code
def yX1_stone : MethodName := ⟨RX1, "stone", "(II)I"⟩
def dkwX1_stone_4 : List UInt8 := [172, 42, 4, 182, 0, 81, 172]
abbrev dktX1_stone_4 : List UInt8 := dkwX1_stone_4 ++ []
def dkwX1_stone_3 : List UInt8 := [45, 182, 1, 142, 172, 45, 180, 1, 87, 172, 45, 180, 1, 145, 172, 45, 180, 1, 147, 172, 45, 180, 1, 150]
abbrev dktX1_stone_3 : List UInt8 := dkwX1_stone_3 ++ dktX1_stone_4
def dkwX1_stone_2 : List UInt8 := [170, 0, 0, 0, 0, 0, 60, 0, 0, 0, 0, 0, 0, 0, 4, 0, 0, 0, 35, 0, 0, 0, 40, 0, 0, 0, 45, 0, 0, 0, 50, 0, 0, 0, 55]
abbrev dktX1_stone_2 : List UInt8 := dkwX1_stone_2 ++ dktX1_stone_3
def dkwX1_stone_1 : List UInt8 := [180, 1, 10, 27, 50, 78, 28]
abbrev dktX1_stone_1 : List UInt8 := dkwX1_stone_1 ++ dktX1_stone_2
def dkwX1_stone_0 : List UInt8 := [42, 182, 0, 67, 42, 27, 182, 1, 7, 154, 0, 9, 42, 4, 182, 0, 81, 172, 42, 180, 0, 92]
abbrev dktX1_stone_0 : List UInt8 := dkwX1_stone_0 ++ dktX1_stone_1
theorem dksX1_stone_0 : cX1_stone.data.toList.drop 0 = dktX1_stone_0 := by decide +kernel
theorem dksX1_stone_1 : cX1_stone.data.toList.drop 22 = dktX1_stone_1 := dk_seg dksX1_stone_0 22 rfl rfl
theorem dksX1_stone_2 : cX1_stone.data.toList.drop 29 = dktX1_stone_2 := dk_seg dksX1_stone_1 7 rfl rfl
theorem dksX1_stone_3 : cX1_stone.data.toList.drop 64 = dktX1_stone_3 := dk_seg dksX1_stone_2 35 rfl rfl
theorem dksX1_stone_4 : cX1_stone.data.toList.drop 88 = dktX1_stone_4 := dk_seg dksX1_stone_3 24 rfl rfl
theorem dX1_stone_0 : decode cX1_stone 0 = .ok (.aload_n 0, 1) := dk_42 (dk_at dksX1_stone_0 0 rfl rfl)
theorem dX1_stone_1 : decode cX1_stone 1 = .ok (.invokevirtual 67, 3) := dk_182 0 67 (dk_at dksX1_stone_0 1 rfl rfl)
theorem dX1_stone_4 : decode cX1_stone 4 = .ok (.aload_n 0, 1) := dk_42 (dk_at dksX1_stone_0 4 rfl rfl)
theorem dX1_stone_5 : decode cX1_stone 5 = .ok (.iload_n 1, 1) := dk_27 (dk_at dksX1_stone_0 5 rfl rfl)
theorem dX1_stone_6 : decode cX1_stone 6 = .ok (.invokevirtual 263, 3) := dk_182 1 7 (dk_at dksX1_stone_0 6 rfl rfl)
theorem dX1_stone_9 : decode cX1_stone 9 = .ok (.ifCond .ne 9, 3) := dk_154 0 9 (dk_at dksX1_stone_0 9 rfl rfl)
theorem dX1_stone_12 : decode cX1_stone 12 = .ok (.aload_n 0, 1) := dk_42 (dk_at dksX1_stone_0 12 rfl rfl)
theorem dX1_stone_13 : decode cX1_stone 13 = .ok (.iconst 1, 1) := dk_4 (dk_at dksX1_stone_0 13 rfl rfl)
theorem dX1_stone_14 : decode cX1_stone 14 = .ok (.invokevirtual 81, 3) := dk_182 0 81 (dk_at dksX1_stone_0 14 rfl rfl)
theorem dX1_stone_17 : decode cX1_stone 17 = .ok (.ireturn, 1) := dk_172 (dk_at dksX1_stone_0 17 rfl rfl)
theorem dX1_stone_18 : decode cX1_stone 18 = .ok (.aload_n 0, 1) := dk_42 (dk_at dksX1_stone_0 18 rfl rfl)
theorem dX1_stone_19 : decode cX1_stone 19 = .ok (.getfield 92, 3) := dk_180 0 92 (dk_at dksX1_stone_0 19 rfl rfl)
theorem dX1_stone_22 : decode cX1_stone 22 = .ok (.getfield 266, 3) := dk_180 1 10 (dk_at dksX1_stone_1 0 rfl rfl)
theorem dX1_stone_25 : decode cX1_stone 25 = .ok (.iload_n 1, 1) := dk_27 (dk_at dksX1_stone_1 3 rfl rfl)
theorem dX1_stone_26 : decode cX1_stone 26 = .ok (.aaload, 1) := dk_50 (dk_at dksX1_stone_1 4 rfl rfl)
theorem dX1_stone_27 : decode cX1_stone 27 = .ok (.astore_n 3, 1) := dk_78 (dk_at dksX1_stone_1 5 rfl rfl)
theorem dX1_stone_28 : decode cX1_stone 28 = .ok (.iload_n 2, 1) := dk_28 (dk_at dksX1_stone_1 6 rfl rfl)
theorem dX1_stone_29 : decode cX1_stone 29 = .ok (.tableswitch 60 0 4 #[35, 40, 45, 50, 55], 35) := by decide +kernel
theorem dX1_stone_64 : decode cX1_stone 64 = .ok (.aload_n 3, 1) := dk_45 (dk_at dksX1_stone_3 0 rfl rfl)
theorem dX1_stone_65 : decode cX1_stone 65 = .ok (.invokevirtual 398, 3) := dk_182 1 142 (dk_at dksX1_stone_3 1 rfl rfl)
theorem dX1_stone_68 : decode cX1_stone 68 = .ok (.ireturn, 1) := dk_172 (dk_at dksX1_stone_3 4 rfl rfl)
theorem dX1_stone_69 : decode cX1_stone 69 = .ok (.aload_n 3, 1) := dk_45 (dk_at dksX1_stone_3 5 rfl rfl)
theorem dX1_stone_70 : decode cX1_stone 70 = .ok (.getfield 343, 3) := dk_180 1 87 (dk_at dksX1_stone_3 6 rfl rfl)
theorem dX1_stone_73 : decode cX1_stone 73 = .ok (.ireturn, 1) := dk_172 (dk_at dksX1_stone_3 9 rfl rfl)
theorem dX1_stone_74 : decode cX1_stone 74 = .ok (.aload_n 3, 1) := dk_45 (dk_at dksX1_stone_3 10 rfl rfl)
theorem dX1_stone_75 : decode cX1_stone 75 = .ok (.getfield 401, 3) := dk_180 1 145 (dk_at dksX1_stone_3 11 rfl rfl)
theorem dX1_stone_78 : decode cX1_stone 78 = .ok (.ireturn, 1) := dk_172 (dk_at dksX1_stone_3 14 rfl rfl)
theorem dX1_stone_79 : decode cX1_stone 79 = .ok (.aload_n 3, 1) := dk_45 (dk_at dksX1_stone_3 15 rfl rfl)
theorem dX1_stone_80 : decode cX1_stone 80 = .ok (.getfield 403, 3) := dk_180 1 147 (dk_at dksX1_stone_3 16 rfl rfl)
theorem dX1_stone_83 : decode cX1_stone 83 = .ok (.ireturn, 1) := dk_172 (dk_at dksX1_stone_3 19 rfl rfl)
theorem dX1_stone_84 : decode cX1_stone 84 = .ok (.aload_n 3, 1) := dk_45 (dk_at dksX1_stone_3 20 rfl rfl)
theorem dX1_stone_85 : decode cX1_stone 85 = .ok (.getfield 406, 3) := dk_180 1 150 (dk_at dksX1_stone_3 21 rfl rfl)
theorem dX1_stone_88 : decode cX1_stone 88 = .ok (.ireturn, 1) := dk_172 (dk_at dksX1_stone_4 0 rfl rfl)
theorem dX1_stone_89 : decode cX1_stone 89 = .ok (.aload_n 0, 1) := dk_42 (dk_at dksX1_stone_4 1 rfl rfl)
theorem dX1_stone_90 : decode cX1_stone 90 = .ok (.iconst 1, 1) := dk_4 (dk_at dksX1_stone_4 2 rfl rfl)
theorem dX1_stone_91 : decode cX1_stone 91 = .ok (.invokevirtual 81, 3) := dk_182 0 81 (dk_at dksX1_stone_4 3 rfl rfl)
theorem dX1_stone_94 : decode cX1_stone 94 = .ok (.ireturn, 1) := dk_172 (dk_at dksX1_stone_4 6 rfl rfl)
abbrev cX1_size : ByteArray := prog_1_method_70_code
def yX1_size : MethodName := ⟨RX1, "size", "(I)I"⟩
def dkwX1_size_7 : List UInt8 := [172, 42, 180, 0, 109, 172, 42, 180, 0, 112, 172, 2, 172]
abbrev dktX1_size_7 : List UInt8 := dkwX1_size_7 ++ []
def dkwX1_size_6 : List UInt8 := [172, 42, 180, 0, 92, 180, 0, 141, 172, 42, 180, 0, 29, 180, 1, 99, 172, 42, 180, 0, 29, 180, 1, 81]
abbrev dktX1_size_6 : List UInt8 := dkwX1_size_6 ++ dktX1_size_7
def dkwX1_size_5 : List UInt8 := [172, 42, 180, 0, 92, 180, 0, 133, 172, 42, 180, 0, 92, 180, 1, 162, 172, 42, 180, 0, 92, 180, 0, 138]
abbrev dktX1_size_5 : List UInt8 := dkwX1_size_5 ++ dktX1_size_6
def dkwX1_size_4 : List UInt8 := [153, 0, 7, 4, 167, 0, 4, 3, 172, 42, 180, 0, 92, 180, 1, 159, 153, 0, 7, 4, 167, 0, 4, 3]
abbrev dktX1_size_4 : List UInt8 := dkwX1_size_4 ++ dktX1_size_5
def dkwX1_size_3 : List UInt8 := [42, 180, 0, 92, 180, 0, 154, 172, 42, 180, 0, 92, 180, 0, 151, 172, 42, 180, 0, 92, 180, 1, 156]
abbrev dktX1_size_3 : List UInt8 := dkwX1_size_3 ++ dktX1_size_4
def dkwX1_size_2 : List UInt8 := [170, 0, 0, 0, 167, 0, 0, 0, 0, 0, 0, 0, 11, 0, 0, 0, 61, 0, 0, 0, 69, 0, 0, 0, 77, 0, 0, 0, 93, 0, 0, 0, 109, 0, 0, 0, 117, 0, 0, 0, 125, 0, 0, 0, 133, 0, 0, 0, 141, 0, 0, 0, 149, 0, 0, 0, 157, 0, 0, 0, 162]
abbrev dktX1_size_2 : List UInt8 := dkwX1_size_2 ++ dktX1_size_3
def dkwX1_size_1 : List UInt8 := [184, 0, 77, 153, 0, 7, 3, 167, 0, 4, 2, 172, 27]
abbrev dktX1_size_1 : List UInt8 := dkwX1_size_1 ++ dktX1_size_2
def dkwX1_size_0 : List UInt8 := [27, 16, 12, 160, 0, 8, 42, 180, 0, 70, 172, 42, 180, 0, 92, 199, 0, 19, 27, 3, 16, 11]
abbrev dktX1_size_0 : List UInt8 := dkwX1_size_0 ++ dktX1_size_1
theorem dksX1_size_0 : cX1_size.data.toList.drop 0 = dktX1_size_0 := by decide +kernel
theorem dksX1_size_1 : cX1_size.data.toList.drop 22 = dktX1_size_1 := dk_seg dksX1_size_0 22 rfl rfl
theorem dksX1_size_2 : cX1_size.data.toList.drop 35 = dktX1_size_2 := dk_seg dksX1_size_1 13 rfl rfl
theorem dksX1_size_3 : cX1_size.data.toList.drop 96 = dktX1_size_3 := dk_seg dksX1_size_2 61 rfl rfl
theorem dksX1_size_4 : cX1_size.data.toList.drop 119 = dktX1_size_4 := dk_seg dksX1_size_3 23 rfl rfl
theorem dksX1_size_5 : cX1_size.data.toList.drop 143 = dktX1_size_5 := dk_seg dksX1_size_4 24 rfl rfl
theorem dksX1_size_6 : cX1_size.data.toList.drop 167 = dktX1_size_6 := dk_seg dksX1_size_5 24 rfl rfl
theorem dksX1_size_7 : cX1_size.data.toList.drop 191 = dktX1_size_7 := dk_seg dksX1_size_6 24 rfl rfl
theorem dX1_size_0 : decode cX1_size 0 = .ok (.iload_n 1, 1) := dk_27 (dk_at dksX1_size_0 0 rfl rfl)
theorem dX1_size_1 : decode cX1_size 1 = .ok (.bipush 12, 2) := dk_16 12 (dk_at dksX1_size_0 1 rfl rfl)
theorem dX1_size_3 : decode cX1_size 3 = .ok (.if_icmp .ne 8, 3) := dk_160 0 8 (dk_at dksX1_size_0 3 rfl rfl)
theorem dX1_size_6 : decode cX1_size 6 = .ok (.aload_n 0, 1) := dk_42 (dk_at dksX1_size_0 6 rfl rfl)
theorem dX1_size_7 : decode cX1_size 7 = .ok (.getfield 70, 3) := dk_180 0 70 (dk_at dksX1_size_0 7 rfl rfl)
theorem dX1_size_10 : decode cX1_size 10 = .ok (.ireturn, 1) := dk_172 (dk_at dksX1_size_0 10 rfl rfl)
theorem dX1_size_11 : decode cX1_size 11 = .ok (.aload_n 0, 1) := dk_42 (dk_at dksX1_size_0 11 rfl rfl)
theorem dX1_size_12 : decode cX1_size 12 = .ok (.getfield 92, 3) := dk_180 0 92 (dk_at dksX1_size_0 12 rfl rfl)
theorem dX1_size_15 : decode cX1_size 15 = .ok (.ifnonnull 19, 3) := dk_199 0 19 (dk_at dksX1_size_0 15 rfl rfl)
theorem dX1_size_18 : decode cX1_size 18 = .ok (.iload_n 1, 1) := dk_27 (dk_at dksX1_size_0 18 rfl rfl)
theorem dX1_size_19 : decode cX1_size 19 = .ok (.iconst 0, 1) := dk_3 (dk_at dksX1_size_0 19 rfl rfl)
theorem dX1_size_20 : decode cX1_size 20 = .ok (.bipush 11, 2) := dk_16 11 (dk_at dksX1_size_0 20 rfl rfl)
theorem dX1_size_22 : decode cX1_size 22 = .ok (.invokestatic 77, 3) := dk_184 0 77 (dk_at dksX1_size_1 0 rfl rfl)
theorem dX1_size_25 : decode cX1_size 25 = .ok (.ifCond .eq 7, 3) := dk_153 0 7 (dk_at dksX1_size_1 3 rfl rfl)
theorem dX1_size_28 : decode cX1_size 28 = .ok (.iconst 0, 1) := dk_3 (dk_at dksX1_size_1 6 rfl rfl)
theorem dX1_size_29 : decode cX1_size 29 = .ok (.goto 4, 3) := dk_167 0 4 (dk_at dksX1_size_1 7 rfl rfl)
theorem dX1_size_32 : decode cX1_size 32 = .ok (.iconst (-1), 1) := dk_2 (dk_at dksX1_size_1 10 rfl rfl)
theorem dX1_size_33 : decode cX1_size 33 = .ok (.ireturn, 1) := dk_172 (dk_at dksX1_size_1 11 rfl rfl)
theorem dX1_size_34 : decode cX1_size 34 = .ok (.iload_n 1, 1) := dk_27 (dk_at dksX1_size_1 12 rfl rfl)
theorem dX1_size_35 : decode cX1_size 35 = .ok (.tableswitch 167 0 11 #[61, 69, 77, 93, 109, 117, 125, 133, 141, 149, 157, 162], 61) := by decide +kernel
theorem dX1_size_96 : decode cX1_size 96 = .ok (.aload_n 0, 1) := dk_42 (dk_at dksX1_size_3 0 rfl rfl)
theorem dX1_size_97 : decode cX1_size 97 = .ok (.getfield 92, 3) := dk_180 0 92 (dk_at dksX1_size_3 1 rfl rfl)
theorem dX1_size_100 : decode cX1_size 100 = .ok (.getfield 154, 3) := dk_180 0 154 (dk_at dksX1_size_3 4 rfl rfl)
theorem dX1_size_103 : decode cX1_size 103 = .ok (.ireturn, 1) := dk_172 (dk_at dksX1_size_3 7 rfl rfl)
theorem dX1_size_104 : decode cX1_size 104 = .ok (.aload_n 0, 1) := dk_42 (dk_at dksX1_size_3 8 rfl rfl)
theorem dX1_size_105 : decode cX1_size 105 = .ok (.getfield 92, 3) := dk_180 0 92 (dk_at dksX1_size_3 9 rfl rfl)
theorem dX1_size_108 : decode cX1_size 108 = .ok (.getfield 151, 3) := dk_180 0 151 (dk_at dksX1_size_3 12 rfl rfl)
theorem dX1_size_111 : decode cX1_size 111 = .ok (.ireturn, 1) := dk_172 (dk_at dksX1_size_3 15 rfl rfl)
theorem dX1_size_112 : decode cX1_size 112 = .ok (.aload_n 0, 1) := dk_42 (dk_at dksX1_size_3 16 rfl rfl)
theorem dX1_size_113 : decode cX1_size 113 = .ok (.getfield 92, 3) := dk_180 0 92 (dk_at dksX1_size_3 17 rfl rfl)
theorem dX1_size_116 : decode cX1_size 116 = .ok (.getfield 412, 3) := dk_180 1 156 (dk_at dksX1_size_3 20 rfl rfl)
theorem dX1_size_119 : decode cX1_size 119 = .ok (.ifCond .eq 7, 3) := dk_153 0 7 (dk_at dksX1_size_4 0 rfl rfl)
theorem dX1_size_122 : decode cX1_size 122 = .ok (.iconst 1, 1) := dk_4 (dk_at dksX1_size_4 3 rfl rfl)
theorem dX1_size_123 : decode cX1_size 123 = .ok (.goto 4, 3) := dk_167 0 4 (dk_at dksX1_size_4 4 rfl rfl)
theorem dX1_size_126 : decode cX1_size 126 = .ok (.iconst 0, 1) := dk_3 (dk_at dksX1_size_4 7 rfl rfl)
theorem dX1_size_127 : decode cX1_size 127 = .ok (.ireturn, 1) := dk_172 (dk_at dksX1_size_4 8 rfl rfl)
theorem dX1_size_128 : decode cX1_size 128 = .ok (.aload_n 0, 1) := dk_42 (dk_at dksX1_size_4 9 rfl rfl)
theorem dX1_size_129 : decode cX1_size 129 = .ok (.getfield 92, 3) := dk_180 0 92 (dk_at dksX1_size_4 10 rfl rfl)
theorem dX1_size_132 : decode cX1_size 132 = .ok (.getfield 415, 3) := dk_180 1 159 (dk_at dksX1_size_4 13 rfl rfl)
theorem dX1_size_135 : decode cX1_size 135 = .ok (.ifCond .eq 7, 3) := dk_153 0 7 (dk_at dksX1_size_4 16 rfl rfl)
theorem dX1_size_138 : decode cX1_size 138 = .ok (.iconst 1, 1) := dk_4 (dk_at dksX1_size_4 19 rfl rfl)
theorem dX1_size_139 : decode cX1_size 139 = .ok (.goto 4, 3) := dk_167 0 4 (dk_at dksX1_size_4 20 rfl rfl)
theorem dX1_size_142 : decode cX1_size 142 = .ok (.iconst 0, 1) := dk_3 (dk_at dksX1_size_4 23 rfl rfl)
theorem dX1_size_143 : decode cX1_size 143 = .ok (.ireturn, 1) := dk_172 (dk_at dksX1_size_5 0 rfl rfl)
theorem dX1_size_144 : decode cX1_size 144 = .ok (.aload_n 0, 1) := dk_42 (dk_at dksX1_size_5 1 rfl rfl)
theorem dX1_size_145 : decode cX1_size 145 = .ok (.getfield 92, 3) := dk_180 0 92 (dk_at dksX1_size_5 2 rfl rfl)
theorem dX1_size_148 : decode cX1_size 148 = .ok (.getfield 133, 3) := dk_180 0 133 (dk_at dksX1_size_5 5 rfl rfl)
theorem dX1_size_151 : decode cX1_size 151 = .ok (.ireturn, 1) := dk_172 (dk_at dksX1_size_5 8 rfl rfl)
theorem dX1_size_152 : decode cX1_size 152 = .ok (.aload_n 0, 1) := dk_42 (dk_at dksX1_size_5 9 rfl rfl)
theorem dX1_size_153 : decode cX1_size 153 = .ok (.getfield 92, 3) := dk_180 0 92 (dk_at dksX1_size_5 10 rfl rfl)
theorem dX1_size_156 : decode cX1_size 156 = .ok (.getfield 418, 3) := dk_180 1 162 (dk_at dksX1_size_5 13 rfl rfl)
theorem dX1_size_159 : decode cX1_size 159 = .ok (.ireturn, 1) := dk_172 (dk_at dksX1_size_5 16 rfl rfl)
theorem dX1_size_160 : decode cX1_size 160 = .ok (.aload_n 0, 1) := dk_42 (dk_at dksX1_size_5 17 rfl rfl)
theorem dX1_size_161 : decode cX1_size 161 = .ok (.getfield 92, 3) := dk_180 0 92 (dk_at dksX1_size_5 18 rfl rfl)
theorem dX1_size_164 : decode cX1_size 164 = .ok (.getfield 138, 3) := dk_180 0 138 (dk_at dksX1_size_5 21 rfl rfl)
theorem dX1_size_167 : decode cX1_size 167 = .ok (.ireturn, 1) := dk_172 (dk_at dksX1_size_6 0 rfl rfl)
theorem dX1_size_168 : decode cX1_size 168 = .ok (.aload_n 0, 1) := dk_42 (dk_at dksX1_size_6 1 rfl rfl)
theorem dX1_size_169 : decode cX1_size 169 = .ok (.getfield 92, 3) := dk_180 0 92 (dk_at dksX1_size_6 2 rfl rfl)
theorem dX1_size_172 : decode cX1_size 172 = .ok (.getfield 141, 3) := dk_180 0 141 (dk_at dksX1_size_6 5 rfl rfl)
theorem dX1_size_175 : decode cX1_size 175 = .ok (.ireturn, 1) := dk_172 (dk_at dksX1_size_6 8 rfl rfl)
theorem dX1_size_176 : decode cX1_size 176 = .ok (.aload_n 0, 1) := dk_42 (dk_at dksX1_size_6 9 rfl rfl)
theorem dX1_size_177 : decode cX1_size 177 = .ok (.getfield 29, 3) := dk_180 0 29 (dk_at dksX1_size_6 10 rfl rfl)
theorem dX1_size_180 : decode cX1_size 180 = .ok (.getfield 355, 3) := dk_180 1 99 (dk_at dksX1_size_6 13 rfl rfl)
theorem dX1_size_183 : decode cX1_size 183 = .ok (.ireturn, 1) := dk_172 (dk_at dksX1_size_6 16 rfl rfl)
theorem dX1_size_184 : decode cX1_size 184 = .ok (.aload_n 0, 1) := dk_42 (dk_at dksX1_size_6 17 rfl rfl)
theorem dX1_size_185 : decode cX1_size 185 = .ok (.getfield 29, 3) := dk_180 0 29 (dk_at dksX1_size_6 18 rfl rfl)
theorem dX1_size_188 : decode cX1_size 188 = .ok (.getfield 337, 3) := dk_180 1 81 (dk_at dksX1_size_6 21 rfl rfl)
theorem dX1_size_191 : decode cX1_size 191 = .ok (.ireturn, 1) := dk_172 (dk_at dksX1_size_7 0 rfl rfl)
theorem dX1_size_192 : decode cX1_size 192 = .ok (.aload_n 0, 1) := dk_42 (dk_at dksX1_size_7 1 rfl rfl)
theorem dX1_size_193 : decode cX1_size 193 = .ok (.getfield 109, 3) := dk_180 0 109 (dk_at dksX1_size_7 2 rfl rfl)
theorem dX1_size_196 : decode cX1_size 196 = .ok (.ireturn, 1) := dk_172 (dk_at dksX1_size_7 5 rfl rfl)
theorem dX1_size_197 : decode cX1_size 197 = .ok (.aload_n 0, 1) := dk_42 (dk_at dksX1_size_7 6 rfl rfl)
theorem dX1_size_198 : decode cX1_size 198 = .ok (.getfield 112, 3) := dk_180 0 112 (dk_at dksX1_size_7 7 rfl rfl)
theorem dX1_size_201 : decode cX1_size 201 = .ok (.ireturn, 1) := dk_172 (dk_at dksX1_size_7 10 rfl rfl)
theorem dX1_size_202 : decode cX1_size 202 = .ok (.iconst (-1), 1) := dk_2 (dk_at dksX1_size_7 11 rfl rfl)
theorem dX1_size_203 : decode cX1_size 203 = .ok (.ireturn, 1) := dk_172 (dk_at dksX1_size_7 12 rfl rfl)
abbrev cX1_trouble : ByteArray := prog_1_method_71_code
def yX1_trouble : MethodName := ⟨RX1, "trouble", "()I"⟩
theorem dX1_trouble_0 : decode cX1_trouble 0 = .ok (.aload_n 0, 1) := by decide +kernel
theorem dX1_trouble_1 : decode cX1_trouble 1 = .ok (.getfield 64, 3) := by decide +kernel
theorem dX1_trouble_4 : decode cX1_trouble 4 = .ok (.ireturn, 1) := by decide +kernel
abbrev cX1_led : ByteArray := prog_1_method_69_code
def yX1_led : MethodName := ⟨RX1, "led", "(I)I"⟩
def dkwX1_led_2 : List UInt8 := [132, 3, 1, 167, 255, 211, 187, 1, 153, 89, 183, 1, 155, 191]
abbrev dktX1_led_2 : List UInt8 := dkwX1_led_2 ++ []
def dkwX1_led_1 : List UInt8 := [180, 0, 29, 29, 182, 0, 190, 154, 0, 6, 167, 0, 13, 28, 27, 160, 0, 5, 29, 172, 132, 2, 1]
abbrev dktX1_led_1 : List UInt8 := dkwX1_led_1 ++ dktX1_led_2
def dkwX1_led_0 : List UInt8 := [3, 61, 3, 62, 42, 180, 0, 92, 198, 0, 44, 29, 42, 180, 0, 29, 180, 0, 115, 162, 0, 33, 42]
abbrev dktX1_led_0 : List UInt8 := dkwX1_led_0 ++ dktX1_led_1
theorem dksX1_led_0 : cX1_led.data.toList.drop 0 = dktX1_led_0 := by decide +kernel
theorem dksX1_led_1 : cX1_led.data.toList.drop 23 = dktX1_led_1 := dk_seg dksX1_led_0 23 rfl rfl
theorem dksX1_led_2 : cX1_led.data.toList.drop 46 = dktX1_led_2 := dk_seg dksX1_led_1 23 rfl rfl
theorem dX1_led_0 : decode cX1_led 0 = .ok (.iconst 0, 1) := dk_3 (dk_at dksX1_led_0 0 rfl rfl)
theorem dX1_led_1 : decode cX1_led 1 = .ok (.istore_n 2, 1) := dk_61 (dk_at dksX1_led_0 1 rfl rfl)
theorem dX1_led_2 : decode cX1_led 2 = .ok (.iconst 0, 1) := dk_3 (dk_at dksX1_led_0 2 rfl rfl)
theorem dX1_led_3 : decode cX1_led 3 = .ok (.istore_n 3, 1) := dk_62 (dk_at dksX1_led_0 3 rfl rfl)
theorem dX1_led_4 : decode cX1_led 4 = .ok (.aload_n 0, 1) := dk_42 (dk_at dksX1_led_0 4 rfl rfl)
theorem dX1_led_5 : decode cX1_led 5 = .ok (.getfield 92, 3) := dk_180 0 92 (dk_at dksX1_led_0 5 rfl rfl)
theorem dX1_led_8 : decode cX1_led 8 = .ok (.ifnull 44, 3) := dk_198 0 44 (dk_at dksX1_led_0 8 rfl rfl)
theorem dX1_led_11 : decode cX1_led 11 = .ok (.iload_n 3, 1) := dk_29 (dk_at dksX1_led_0 11 rfl rfl)
theorem dX1_led_12 : decode cX1_led 12 = .ok (.aload_n 0, 1) := dk_42 (dk_at dksX1_led_0 12 rfl rfl)
theorem dX1_led_13 : decode cX1_led 13 = .ok (.getfield 29, 3) := dk_180 0 29 (dk_at dksX1_led_0 13 rfl rfl)
theorem dX1_led_16 : decode cX1_led 16 = .ok (.getfield 115, 3) := dk_180 0 115 (dk_at dksX1_led_0 16 rfl rfl)
theorem dX1_led_19 : decode cX1_led 19 = .ok (.if_icmp .ge 33, 3) := dk_162 0 33 (dk_at dksX1_led_0 19 rfl rfl)
theorem dX1_led_22 : decode cX1_led 22 = .ok (.aload_n 0, 1) := dk_42 (dk_at dksX1_led_0 22 rfl rfl)
theorem dX1_led_23 : decode cX1_led 23 = .ok (.getfield 29, 3) := dk_180 0 29 (dk_at dksX1_led_1 0 rfl rfl)
theorem dX1_led_26 : decode cX1_led 26 = .ok (.iload_n 3, 1) := dk_29 (dk_at dksX1_led_1 3 rfl rfl)
theorem dX1_led_27 : decode cX1_led 27 = .ok (.invokevirtual 190, 3) := dk_182 0 190 (dk_at dksX1_led_1 4 rfl rfl)
theorem dX1_led_30 : decode cX1_led 30 = .ok (.ifCond .ne 6, 3) := dk_154 0 6 (dk_at dksX1_led_1 7 rfl rfl)
theorem dX1_led_33 : decode cX1_led 33 = .ok (.goto 13, 3) := dk_167 0 13 (dk_at dksX1_led_1 10 rfl rfl)
theorem dX1_led_36 : decode cX1_led 36 = .ok (.iload_n 2, 1) := dk_28 (dk_at dksX1_led_1 13 rfl rfl)
theorem dX1_led_37 : decode cX1_led 37 = .ok (.iload_n 1, 1) := dk_27 (dk_at dksX1_led_1 14 rfl rfl)
theorem dX1_led_38 : decode cX1_led 38 = .ok (.if_icmp .ne 5, 3) := dk_160 0 5 (dk_at dksX1_led_1 15 rfl rfl)
theorem dX1_led_41 : decode cX1_led 41 = .ok (.iload_n 3, 1) := dk_29 (dk_at dksX1_led_1 18 rfl rfl)
theorem dX1_led_42 : decode cX1_led 42 = .ok (.ireturn, 1) := dk_172 (dk_at dksX1_led_1 19 rfl rfl)
theorem dX1_led_43 : decode cX1_led 43 = .ok (.iinc 2 1, 3) := dk_132 2 1 (dk_at dksX1_led_1 20 rfl rfl)
theorem dX1_led_46 : decode cX1_led 46 = .ok (.iinc 3 1, 3) := dk_132 3 1 (dk_at dksX1_led_2 0 rfl rfl)
theorem dX1_led_49 : decode cX1_led 49 = .ok (.goto (-45), 3) := dk_167 255 211 (dk_at dksX1_led_2 3 rfl rfl)
theorem dX1_led_52 : decode cX1_led 52 = .ok (.new 409, 3) := dk_187 1 153 (dk_at dksX1_led_2 6 rfl rfl)
theorem dX1_led_55 : decode cX1_led 55 = .ok (.dup, 1) := dk_89 (dk_at dksX1_led_2 9 rfl rfl)
theorem dX1_led_56 : decode cX1_led 56 = .ok (.invokespecial 411, 3) := dk_183 1 155 (dk_at dksX1_led_2 10 rfl rfl)
theorem dX1_led_59 : decode cX1_led 59 = .ok (.athrow, 1) := dk_191 (dk_at dksX1_led_2 13 rfl rfl)
theorem q126 : (Jvm.Cond.initialized "YearSkins") ∈ lw_all := lw_g (lw_at lw_m1 1 rfl) rfl
theorem q158 : (Jvm.Cond.instantiable "YearSkins" (18 : Nat)) ∈ lw_all := lw_g (lw_at lw_m1 33 rfl) rfl
theorem q160 : (Jvm.Cond.instanceMethod ({ cls := "YearSkins", name := "<init>", desc := "()V" } : Jvm.MethodName)) ∈ lw_all := lw_g (lw_at lw_m1 35 rfl) rfl
theorem q161 : (Jvm.Cond.code ({ cls := "YearSkins", name := "<init>", desc := "()V" } : Jvm.MethodName) prog_1_method_3_code (2 : Nat) (Option.none : Option Jvm.ClassFile.FieldType)) ∈ lw_all := lw_g (lw_at lw_m1 36 rfl) rfl
theorem q162 : (Jvm.Cond.methodLink "YearSkins" (1 : Nat) ({ cls := "java/lang/Object", name := "<init>", desc := "()V" } : Jvm.MethodName)) ∈ lw_all := lw_g (lw_at lw_m1 37 rfl) rfl
theorem q165 : (Jvm.Cond.classLink "YearSkins" (13 : Nat) "YearSkins$Reader") ∈ lw_all := lw_g (lw_at lw_m1 40 rfl) rfl
theorem q167 : (Jvm.Cond.methodLink "YearSkins" (15 : Nat) ({ cls := "YearSkins$Reader", name := "<init>", desc := "([B)V" } : Jvm.MethodName)) ∈ lw_all := lw_g (lw_at lw_m1 42 rfl) rfl
theorem q224 : (Jvm.Cond.fieldLink "YearSkins" (98 : Nat) "YearSkins$Refused" "fault" "I") ∈ lw_all := lw_g (lw_at lw_m1 99 rfl) rfl
theorem q226 : (Jvm.Cond.fieldLink "YearSkins" (99 : Nat) "YearSkins$Refused" "place" "I") ∈ lw_all := lw_g (lw_at lw_m1 101 rfl) rfl
theorem q267 : (Jvm.Cond.fieldLink "YearSkins" (204 : Nat) "YearSkins$Skin" "stone" "LYearSkins$Stone;") ∈ lw_all := lw_g (lw_at lw_m1 142 rfl) rfl
theorem q270 : (Jvm.Cond.fieldLink "YearSkins" (207 : Nat) "YearSkins$Skin" "side" "I") ∈ lw_all := lw_g (lw_at lw_m1 145 rfl) rfl
theorem q273 : (Jvm.Cond.fieldLink "YearSkins" (210 : Nat) "YearSkins$Skin" "on" "I") ∈ lw_all := lw_g (lw_at lw_m1 148 rfl) rfl
theorem q276 : (Jvm.Cond.fieldLink "YearSkins" (213 : Nat) "YearSkins$Skin" "lock" "I") ∈ lw_all := lw_g (lw_at lw_m1 151 rfl) rfl
theorem q279 : (Jvm.Cond.fieldLink "YearSkins" (216 : Nat) "YearSkins$Skin" "rot" "I") ∈ lw_all := lw_g (lw_at lw_m1 154 rfl) rfl
theorem q282 : (Jvm.Cond.fieldLink "YearSkins" (226 : Nat) "YearSkins$Skin" "built" "I") ∈ lw_all := lw_g (lw_at lw_m1 157 rfl) rfl
theorem q285 : (Jvm.Cond.fieldLink "YearSkins" (219 : Nat) "YearSkins$Skin" "collapsed" "Z") ∈ lw_all := lw_g (lw_at lw_m1 160 rfl) rfl
theorem q288 : (Jvm.Cond.fieldLink "YearSkins" (223 : Nat) "YearSkins$Skin" "filled" "Z") ∈ lw_all := lw_g (lw_at lw_m1 163 rfl) rfl
theorem q310 : (Jvm.Cond.fieldLink "YearSkins" (163 : Nat) "YearSkins$House" "site" "LYearSkins$Site;") ∈ lw_all := lw_g (lw_at lw_m1 185 rfl) rfl
theorem q314 : (Jvm.Cond.fieldLink "YearSkins" (126 : Nat) "YearSkins$House" "many" "I") ∈ lw_all := lw_g (lw_at lw_m1 189 rfl) rfl
theorem q318 : (Jvm.Cond.fieldLink "YearSkins" (175 : Nat) "YearSkins$House" "family" "I") ∈ lw_all := lw_g (lw_at lw_m1 193 rfl) rfl
theorem q321 : (Jvm.Cond.fieldLink "YearSkins" (178 : Nat) "YearSkins$House" "gold" "I") ∈ lw_all := lw_g (lw_at lw_m1 196 rfl) rfl
theorem q340 : (Jvm.Cond.fieldLink "YearSkins" (248 : Nat) "YearSkins$Village" "depth" "[I") ∈ lw_all := lw_g (lw_at lw_m1 215 rfl) rfl
theorem q343 : (Jvm.Cond.fieldLink "YearSkins" (321 : Nat) "YearSkins$Village" "order" "[I") ∈ lw_all := lw_g (lw_at lw_m1 218 rfl) rfl
theorem q346 : (Jvm.Cond.fieldLink "YearSkins" (115 : Nat) "YearSkins$Village" "many" "I") ∈ lw_all := lw_g (lw_at lw_m1 221 rfl) rfl
theorem q349 : (Jvm.Cond.fieldLink "YearSkins" (355 : Nat) "YearSkins$Village" "year" "I") ∈ lw_all := lw_g (lw_at lw_m1 224 rfl) rfl
theorem q351 : (Jvm.Cond.fieldLink "YearSkins" (337 : Nat) "YearSkins$Village" "seed" "I") ∈ lw_all := lw_g (lw_at lw_m1 226 rfl) rfl
theorem q353 : (Jvm.Cond.fieldLink "YearSkins" (257 : Nat) "YearSkins$Village" "doorSide" "I") ∈ lw_all := lw_g (lw_at lw_m1 228 rfl) rfl
theorem q355 : (Jvm.Cond.fieldLink "YearSkins" (260 : Nat) "YearSkins$Village" "doorOn" "I") ∈ lw_all := lw_g (lw_at lw_m1 230 rfl) rfl
theorem q415 : (Jvm.Cond.classLink "YearSkins" (26 : Nat) "YearSkins$Village") ∈ lw_all := lw_g (lw_at lw_m2 50 rfl) rfl
theorem q416 : (Jvm.Cond.methodLink "YearSkins" (28 : Nat) ({ cls := "YearSkins$Village", name := "<init>", desc := "()V" } : Jvm.MethodName)) ∈ lw_all := lw_g (lw_at lw_m2 51 rfl) rfl
theorem q417 : (Jvm.Cond.classLink "YearSkins" (39 : Nat) "YearSkins$Through") ∈ lw_all := lw_g (lw_at lw_m2 52 rfl) rfl
theorem q419 : (Jvm.Cond.methodLinkNest "YearSkins" (41 : Nat) ({ cls := "YearSkins$Through", name := "<init>", desc := "()V" } : Jvm.MethodName) "YearSkins") ∈ lw_tbl := lw_at lw_m2 54 rfl
theorem q430 : (Jvm.Cond.classLink "YearSkins" (46 : Nat) "YearSkins$Orders") ∈ lw_all := lw_g (lw_at lw_m2 65 rfl) rfl
theorem q432 : (Jvm.Cond.methodLinkNest "YearSkins" (48 : Nat) ({ cls := "YearSkins$Orders", name := "<init>", desc := "()V" } : Jvm.MethodName) "YearSkins") ∈ lw_tbl := lw_at lw_m2 67 rfl
theorem q443 : (Jvm.Cond.fieldLink "YearSkins" (364 : Nat) "YearSkins$Orders" "many" "I") ∈ lw_all := lw_g (lw_at lw_m2 78 rfl) rfl
theorem q460 : (Jvm.Cond.fieldLink "YearSkins" (9 : Nat) "YearSkins" "tape" "[B") ∈ lw_all := lw_g (lw_at lw_m2 95 rfl) rfl
theorem q461 : (Jvm.Cond.fieldLink "YearSkins" (70 : Nat) "YearSkins" "taped" "I") ∈ lw_all := lw_g (lw_at lw_m2 96 rfl) rfl
theorem q462 : (Jvm.Cond.fieldLink "YearSkins" (18 : Nat) "YearSkins" "reader" "LYearSkins$Reader;") ∈ lw_all := lw_g (lw_at lw_m2 97 rfl) rfl
theorem q463 : (Jvm.Cond.fieldLink "YearSkins" (92 : Nat) "YearSkins" "land" "LYearSkins$Land;") ∈ lw_all := lw_g (lw_at lw_m2 98 rfl) rfl
theorem q464 : (Jvm.Cond.fieldLink "YearSkins" (64 : Nat) "YearSkins" "trouble" "I") ∈ lw_all := lw_g (lw_at lw_m2 99 rfl) rfl
theorem q465 : (Jvm.Cond.fieldLink "YearSkins" (85 : Nat) "YearSkins" "fault" "I") ∈ lw_all := lw_g (lw_at lw_m2 100 rfl) rfl
theorem q466 : (Jvm.Cond.fieldLink "YearSkins" (22 : Nat) "YearSkins" "where" "I") ∈ lw_all := lw_g (lw_at lw_m2 101 rfl) rfl
theorem q467 : (Jvm.Cond.fieldLink "YearSkins" (112 : Nat) "YearSkins" "markMany" "I") ∈ lw_all := lw_g (lw_at lw_m2 102 rfl) rfl
theorem q468 : (Jvm.Cond.fieldLink "YearSkins" (109 : Nat) "YearSkins" "undoMany" "I") ∈ lw_all := lw_g (lw_at lw_m2 103 rfl) rfl
theorem q469 : (Jvm.Cond.fieldLink "YearSkins" (29 : Nat) "YearSkins" "village" "LYearSkins$Village;") ∈ lw_all := lw_g (lw_at lw_m2 104 rfl) rfl
theorem q470 : (Jvm.Cond.fieldLink "YearSkins" (33 : Nat) "YearSkins" "was" "LYearSkins$Village;") ∈ lw_all := lw_g (lw_at lw_m2 105 rfl) rfl
theorem q471 : (Jvm.Cond.fieldLink "YearSkins" (36 : Nat) "YearSkins" "trial" "LYearSkins$Village;") ∈ lw_all := lw_g (lw_at lw_m2 106 rfl) rfl
theorem q472 : (Jvm.Cond.fieldLink "YearSkins" (42 : Nat) "YearSkins" "through" "LYearSkins$Through;") ∈ lw_all := lw_g (lw_at lw_m2 107 rfl) rfl
theorem q473 : (Jvm.Cond.fieldLink "YearSkins" (49 : Nat) "YearSkins" "orders" "LYearSkins$Orders;") ∈ lw_all := lw_g (lw_at lw_m2 108 rfl) rfl
theorem q474 : (Jvm.Cond.fieldLink "YearSkins" (53 : Nat) "YearSkins" "undone" "[LYearSkins$Village;") ∈ lw_all := lw_g (lw_at lw_m2 109 rfl) rfl
theorem q475 : (Jvm.Cond.fieldLink "YearSkins" (57 : Nat) "YearSkins" "marks" "[LYearSkins$Village;") ∈ lw_all := lw_g (lw_at lw_m2 110 rfl) rfl
theorem q476 : (Jvm.Cond.fieldLink "YearSkins" (315 : Nat) "YearSkins" "firstMost" "I") ∈ lw_all := lw_g (lw_at lw_m2 111 rfl) rfl
theorem q477 : (Jvm.Cond.fieldLink "YearSkins" (60 : Nat) "YearSkins" "firstOrder" "[I") ∈ lw_all := lw_g (lw_at lw_m2 112 rfl) rfl
theorem q478 : (Jvm.Cond.laysFinal "YearSkins" "YearSkins" "tape" "[B") ∈ lw_all := lw_g (lw_at lw_m2 113 rfl) rfl
theorem q479 : (Jvm.Cond.soleField "YearSkins" "tape") ∈ lw_all := lw_g (lw_at lw_m2 114 rfl) rfl
theorem q480 : (Jvm.Cond.lays "YearSkins" "YearSkins" "taped" "I") ∈ lw_all := lw_g (lw_at lw_m2 115 rfl) rfl
theorem q481 : (Jvm.Cond.soleField "YearSkins" "taped") ∈ lw_all := lw_g (lw_at lw_m2 116 rfl) rfl
theorem q482 : (Jvm.Cond.laysFinal "YearSkins" "YearSkins" "reader" "LYearSkins$Reader;") ∈ lw_all := lw_g (lw_at lw_m2 117 rfl) rfl
theorem q483 : (Jvm.Cond.soleField "YearSkins" "reader") ∈ lw_all := lw_g (lw_at lw_m2 118 rfl) rfl
theorem q484 : (Jvm.Cond.lays "YearSkins" "YearSkins" "land" "LYearSkins$Land;") ∈ lw_all := lw_g (lw_at lw_m2 119 rfl) rfl
theorem q485 : (Jvm.Cond.soleField "YearSkins" "land") ∈ lw_all := lw_g (lw_at lw_m2 120 rfl) rfl
theorem q486 : (Jvm.Cond.lays "YearSkins" "YearSkins" "trouble" "I") ∈ lw_all := lw_g (lw_at lw_m2 121 rfl) rfl
theorem q487 : (Jvm.Cond.soleField "YearSkins" "trouble") ∈ lw_all := lw_g (lw_at lw_m2 122 rfl) rfl
theorem q488 : (Jvm.Cond.lays "YearSkins" "YearSkins" "fault" "I") ∈ lw_all := lw_g (lw_at lw_m2 123 rfl) rfl
theorem q489 : (Jvm.Cond.soleField "YearSkins" "fault") ∈ lw_all := lw_g (lw_at lw_m2 124 rfl) rfl
theorem q490 : (Jvm.Cond.lays "YearSkins" "YearSkins" "where" "I") ∈ lw_all := lw_g (lw_at lw_m2 125 rfl) rfl
theorem q491 : (Jvm.Cond.soleField "YearSkins" "where") ∈ lw_all := lw_g (lw_at lw_m2 126 rfl) rfl
theorem q492 : (Jvm.Cond.lays "YearSkins" "YearSkins" "markMany" "I") ∈ lw_all := lw_g (lw_at lw_m2 127 rfl) rfl
theorem q493 : (Jvm.Cond.soleField "YearSkins" "markMany") ∈ lw_all := lw_g (lw_at lw_m2 128 rfl) rfl
theorem q494 : (Jvm.Cond.lays "YearSkins" "YearSkins" "undoMany" "I") ∈ lw_all := lw_g (lw_at lw_m2 129 rfl) rfl
theorem q495 : (Jvm.Cond.soleField "YearSkins" "undoMany") ∈ lw_all := lw_g (lw_at lw_m2 130 rfl) rfl
theorem q496 : (Jvm.Cond.laysFinal "YearSkins" "YearSkins" "village" "LYearSkins$Village;") ∈ lw_all := lw_g (lw_at lw_m2 131 rfl) rfl
theorem q497 : (Jvm.Cond.soleField "YearSkins" "village") ∈ lw_all := lw_g (lw_at lw_m2 132 rfl) rfl
theorem q498 : (Jvm.Cond.laysFinal "YearSkins" "YearSkins" "was" "LYearSkins$Village;") ∈ lw_all := lw_g (lw_at lw_m2 133 rfl) rfl
theorem q499 : (Jvm.Cond.soleField "YearSkins" "was") ∈ lw_all := lw_g (lw_at lw_m2 134 rfl) rfl
theorem q500 : (Jvm.Cond.laysFinal "YearSkins" "YearSkins" "trial" "LYearSkins$Village;") ∈ lw_all := lw_g (lw_at lw_m2 135 rfl) rfl
theorem q501 : (Jvm.Cond.soleField "YearSkins" "trial") ∈ lw_all := lw_g (lw_at lw_m2 136 rfl) rfl
theorem q502 : (Jvm.Cond.laysFinal "YearSkins" "YearSkins" "through" "LYearSkins$Through;") ∈ lw_all := lw_g (lw_at lw_m2 137 rfl) rfl
theorem q503 : (Jvm.Cond.soleField "YearSkins" "through") ∈ lw_all := lw_g (lw_at lw_m2 138 rfl) rfl
theorem q504 : (Jvm.Cond.laysFinal "YearSkins" "YearSkins" "orders" "LYearSkins$Orders;") ∈ lw_all := lw_g (lw_at lw_m2 139 rfl) rfl
theorem q505 : (Jvm.Cond.soleField "YearSkins" "orders") ∈ lw_all := lw_g (lw_at lw_m2 140 rfl) rfl
theorem q506 : (Jvm.Cond.laysFinal "YearSkins" "YearSkins" "undone" "[LYearSkins$Village;") ∈ lw_all := lw_g (lw_at lw_m2 141 rfl) rfl
theorem q507 : (Jvm.Cond.soleField "YearSkins" "undone") ∈ lw_all := lw_g (lw_at lw_m2 142 rfl) rfl
theorem q508 : (Jvm.Cond.laysFinal "YearSkins" "YearSkins" "marks" "[LYearSkins$Village;") ∈ lw_all := lw_g (lw_at lw_m2 143 rfl) rfl
theorem q509 : (Jvm.Cond.soleField "YearSkins" "marks") ∈ lw_all := lw_g (lw_at lw_m2 144 rfl) rfl
theorem q510 : (Jvm.Cond.lays "YearSkins" "YearSkins" "firstMost" "I") ∈ lw_all := lw_g (lw_at lw_m2 145 rfl) rfl
theorem q511 : (Jvm.Cond.soleField "YearSkins" "firstMost") ∈ lw_all := lw_g (lw_at lw_m2 146 rfl) rfl
theorem q512 : (Jvm.Cond.laysFinal "YearSkins" "YearSkins" "firstOrder" "[I") ∈ lw_all := lw_g (lw_at lw_m2 147 rfl) rfl
theorem q513 : (Jvm.Cond.soleField "YearSkins" "firstOrder") ∈ lw_all := lw_g (lw_at lw_m2 148 rfl) rfl
theorem q514 : (Jvm.Cond.superclass "YearSkins" "java/lang/Object") ∈ lw_all := lw_g (lw_at lw_m2 149 rfl) rfl
theorem q516 : (Jvm.Cond.instanceMethod ({ cls := "YearSkins", name := "feed", desc := "(IIIII)I" } : Jvm.MethodName)) ∈ lw_all := lw_g (lw_at lw_m2 151 rfl) rfl
theorem q517 : (Jvm.Cond.selects "YearSkins" ({ cls := "YearSkins", name := "feed", desc := "(IIIII)I" } : Jvm.MethodName) ({ cls := "YearSkins", name := "feed", desc := "(IIIII)I" } : Jvm.MethodName)) ∈ lw_all := lw_g (lw_at lw_m2 152 rfl) rfl
theorem q518 : (Jvm.Cond.code ({ cls := "YearSkins", name := "feed", desc := "(IIIII)I" } : Jvm.MethodName) prog_1_method_7_code (6 : Nat) (Option.some Jvm.ClassFile.FieldType.int)) ∈ lw_all := lw_g (lw_at lw_m2 153 rfl) rfl
theorem q519 : (Jvm.Cond.methodLink "YearSkins" (73 : Nat) ({ cls := "YearSkins", name := "bytes", desc := "(I)V" } : Jvm.MethodName)) ∈ lw_all := lw_g (lw_at lw_m2 154 rfl) rfl
theorem q520 : (Jvm.Cond.privateMethod ({ cls := "YearSkins", name := "bytes", desc := "(I)V" } : Jvm.MethodName)) ∈ lw_tbl := lw_at lw_m2 155 rfl
theorem q521 : (Jvm.Cond.instanceMethod ({ cls := "YearSkins", name := "bytes", desc := "(I)V" } : Jvm.MethodName)) ∈ lw_all := lw_g (lw_at lw_m2 156 rfl) rfl
theorem q522 : (Jvm.Cond.code ({ cls := "YearSkins", name := "bytes", desc := "(I)V" } : Jvm.MethodName) prog_1_method_8_code (3 : Nat) (Option.none : Option Jvm.ClassFile.FieldType)) ∈ lw_all := lw_g (lw_at lw_m2 157 rfl) rfl
theorem q524 : (Jvm.Cond.instanceMethod ({ cls := "YearSkins", name := "land", desc := "(I)I" } : Jvm.MethodName)) ∈ lw_all := lw_g (lw_at lw_m2 159 rfl) rfl
theorem q525 : (Jvm.Cond.selects "YearSkins" ({ cls := "YearSkins", name := "land", desc := "(I)I" } : Jvm.MethodName) ({ cls := "YearSkins", name := "land", desc := "(I)I" } : Jvm.MethodName)) ∈ lw_all := lw_g (lw_at lw_m2 160 rfl) rfl
theorem q526 : (Jvm.Cond.codeWith ({ cls := "YearSkins", name := "land", desc := "(I)I" } : Jvm.MethodName) prog_1_method_9_code (3 : Nat) (Option.some Jvm.ClassFile.FieldType.int) [((32 : Nat), (44 : Nat), (47 : Nat), (96 : Nat))]) ∈ lw_all := lw_g (lw_at lw_m2 161 rfl) rfl
theorem q527 : (Jvm.Cond.classLink "YearSkins" (96 : Nat) "YearSkins$Refused") ∈ lw_all := lw_g (lw_at lw_m2 162 rfl) rfl
theorem q528 : (Jvm.Cond.methodLink "YearSkins" (67 : Nat) ({ cls := "YearSkins", name := "anew", desc := "()V" } : Jvm.MethodName)) ∈ lw_all := lw_g (lw_at lw_m2 163 rfl) rfl
theorem q529 : (Jvm.Cond.privateMethod ({ cls := "YearSkins", name := "anew", desc := "()V" } : Jvm.MethodName)) ∈ lw_tbl := lw_at lw_m2 164 rfl
theorem q530 : (Jvm.Cond.instanceMethod ({ cls := "YearSkins", name := "anew", desc := "()V" } : Jvm.MethodName)) ∈ lw_all := lw_g (lw_at lw_m2 165 rfl) rfl
theorem q531 : (Jvm.Cond.code ({ cls := "YearSkins", name := "anew", desc := "()V" } : Jvm.MethodName) prog_1_method_4_code (1 : Nat) (Option.none : Option Jvm.ClassFile.FieldType)) ∈ lw_all := lw_g (lw_at lw_m2 166 rfl) rfl
theorem q532 : (Jvm.Cond.methodLink "YearSkins" (77 : Nat) ({ cls := "YearSkins", name := "within", desc := "(III)Z" } : Jvm.MethodName)) ∈ lw_all := lw_g (lw_at lw_m2 167 rfl) rfl
theorem q533 : (Jvm.Cond.static ({ cls := "YearSkins", name := "within", desc := "(III)Z" } : Jvm.MethodName)) ∈ lw_all := lw_g (lw_at lw_m2 168 rfl) rfl
theorem q534 : (Jvm.Cond.code ({ cls := "YearSkins", name := "within", desc := "(III)Z" } : Jvm.MethodName) prog_1_method_1_code (3 : Nat) (Option.some Jvm.ClassFile.FieldType.boolean)) ∈ lw_all := lw_g (lw_at lw_m2 169 rfl) rfl
theorem q535 : (Jvm.Cond.methodLink "YearSkins" (81 : Nat) ({ cls := "YearSkins", name := "no", desc := "(I)I" } : Jvm.MethodName)) ∈ lw_all := lw_g (lw_at lw_m2 170 rfl) rfl
theorem q536 : (Jvm.Cond.privateMethod ({ cls := "YearSkins", name := "no", desc := "(I)I" } : Jvm.MethodName)) ∈ lw_tbl := lw_at lw_m2 171 rfl
theorem q537 : (Jvm.Cond.instanceMethod ({ cls := "YearSkins", name := "no", desc := "(I)I" } : Jvm.MethodName)) ∈ lw_all := lw_g (lw_at lw_m2 172 rfl) rfl
theorem q538 : (Jvm.Cond.code ({ cls := "YearSkins", name := "no", desc := "(I)I" } : Jvm.MethodName) prog_1_method_5_code (2 : Nat) (Option.some Jvm.ClassFile.FieldType.int)) ∈ lw_all := lw_g (lw_at lw_m2 173 rfl) rfl
theorem q539 : (Jvm.Cond.methodLink "YearSkins" (88 : Nat) ({ cls := "YearSkins$Reader", name := "read", desc := "(I)LYearSkins$Land;" } : Jvm.MethodName)) ∈ lw_all := lw_g (lw_at lw_m2 174 rfl) rfl
theorem q569 : (Jvm.Cond.fieldLink "YearSkins" (266 : Nat) "YearSkins$Land" "stones" "[LYearSkins$Stone;") ∈ lw_all := lw_g (lw_at lw_m2 204 rfl) rfl
theorem q574 : (Jvm.Cond.fieldLink "YearSkins" (240 : Nat) "YearSkins$Land" "heirs" "[LYearSkins$Heir;") ∈ lw_all := lw_g (lw_at lw_m2 209 rfl) rfl
theorem q580 : (Jvm.Cond.fieldLink "YearSkins" (154 : Nat) "YearSkins$Land" "wide" "I") ∈ lw_all := lw_g (lw_at lw_m2 215 rfl) rfl
theorem q584 : (Jvm.Cond.fieldLink "YearSkins" (151 : Nat) "YearSkins$Land" "high" "I") ∈ lw_all := lw_g (lw_at lw_m2 219 rfl) rfl
theorem q596 : (Jvm.Cond.fieldLink "YearSkins" (133 : Nat) "YearSkins$Land" "stoneMany" "I") ∈ lw_all := lw_g (lw_at lw_m2 231 rfl) rfl
theorem q600 : (Jvm.Cond.fieldLink "YearSkins" (418 : Nat) "YearSkins$Land" "siteMany" "I") ∈ lw_all := lw_g (lw_at lw_m2 235 rfl) rfl
theorem q602 : (Jvm.Cond.fieldLink "YearSkins" (138 : Nat) "YearSkins$Land" "heirMany" "I") ∈ lw_all := lw_g (lw_at lw_m2 237 rfl) rfl
theorem q607 : (Jvm.Cond.fieldLink "YearSkins" (141 : Nat) "YearSkins$Land" "wallMany" "I") ∈ lw_all := lw_g (lw_at lw_m3 2 rfl) rfl
theorem q614 : (Jvm.Cond.fieldLink "YearSkins" (412 : Nat) "YearSkins$Land" "far" "Z") ∈ lw_all := lw_g (lw_at lw_m3 9 rfl) rfl
theorem q617 : (Jvm.Cond.fieldLink "YearSkins" (415 : Nat) "YearSkins$Land" "share" "Z") ∈ lw_all := lw_g (lw_at lw_m3 12 rfl) rfl
theorem q944 : (Jvm.Cond.fieldLink "YearSkins" (343 : Nat) "YearSkins$Stone" "costs" "I") ∈ lw_all := lw_g (lw_at lw_m4 99 rfl) rfl
theorem q947 : (Jvm.Cond.fieldLink "YearSkins" (401 : Nat) "YearSkins$Stone" "warm" "I") ∈ lw_all := lw_g (lw_at lw_m4 102 rfl) rfl
theorem q950 : (Jvm.Cond.fieldLink "YearSkins" (403 : Nat) "YearSkins$Stone" "rots" "I") ∈ lw_all := lw_g (lw_at lw_m4 105 rfl) rfl
theorem q954 : (Jvm.Cond.fieldLink "YearSkins" (406 : Nat) "YearSkins$Stone" "strong" "I") ∈ lw_all := lw_g (lw_at lw_m4 109 rfl) rfl
theorem q958 : (Jvm.Cond.fieldLink "YearSkins" (185 : Nat) "YearSkins$Stone" "number" "I") ∈ lw_all := lw_g (lw_at lw_m4 113 rfl) rfl
theorem q1021 : (Jvm.Cond.fieldLink "YearSkins" (172 : Nat) "YearSkins$Site" "x" "I") ∈ lw_all := lw_g (lw_at lw_m4 176 rfl) rfl
theorem q1025 : (Jvm.Cond.fieldLink "YearSkins" (167 : Nat) "YearSkins$Site" "y" "I") ∈ lw_all := lw_g (lw_at lw_m4 180 rfl) rfl
theorem q1028 : (Jvm.Cond.fieldLink "YearSkins" (181 : Nat) "YearSkins$Site" "stone" "LYearSkins$Stone;") ∈ lw_all := lw_g (lw_at lw_m4 183 rfl) rfl
theorem q1143 : (Jvm.Cond.fieldLink "YearSkins" (244 : Nat) "YearSkins$Heir" "house" "I") ∈ lw_all := lw_g (lw_at lw_m5 58 rfl) rfl
theorem q1195 : (Jvm.Cond.methodLink "YearSkins" (102 : Nat) ({ cls := "YearSkins$Reader", name := "village", desc := "()LYearSkins$Village;" } : Jvm.MethodName)) ∈ lw_all := lw_g (lw_at lw_m5 110 rfl) rfl
theorem q1199 : (Jvm.Cond.methodLink "YearSkins" (105 : Nat) ({ cls := "YearSkins$Village", name := "become", desc := "(LYearSkins$Village;)V" } : Jvm.MethodName)) ∈ lw_all := lw_g (lw_at lw_m5 114 rfl) rfl
theorem q1215 : (Jvm.Cond.instanceMethod ({ cls := "YearSkins", name := "fault", desc := "()I" } : Jvm.MethodName)) ∈ lw_all := lw_g (lw_at lw_m5 130 rfl) rfl
theorem q1216 : (Jvm.Cond.selects "YearSkins" ({ cls := "YearSkins", name := "fault", desc := "()I" } : Jvm.MethodName) ({ cls := "YearSkins", name := "fault", desc := "()I" } : Jvm.MethodName)) ∈ lw_all := lw_g (lw_at lw_m5 131 rfl) rfl
theorem q1217 : (Jvm.Cond.code ({ cls := "YearSkins", name := "fault", desc := "()I" } : Jvm.MethodName) prog_1_method_10_code (1 : Nat) (Option.some Jvm.ClassFile.FieldType.int)) ∈ lw_all := lw_g (lw_at lw_m5 132 rfl) rfl
theorem q1219 : (Jvm.Cond.instanceMethod ({ cls := "YearSkins", name := "where", desc := "()I" } : Jvm.MethodName)) ∈ lw_all := lw_g (lw_at lw_m5 134 rfl) rfl
theorem q1220 : (Jvm.Cond.selects "YearSkins" ({ cls := "YearSkins", name := "where", desc := "()I" } : Jvm.MethodName) ({ cls := "YearSkins", name := "where", desc := "()I" } : Jvm.MethodName)) ∈ lw_all := lw_g (lw_at lw_m5 135 rfl) rfl
theorem q1221 : (Jvm.Cond.code ({ cls := "YearSkins", name := "where", desc := "()I" } : Jvm.MethodName) prog_1_method_11_code (1 : Nat) (Option.some Jvm.ClassFile.FieldType.int)) ∈ lw_all := lw_g (lw_at lw_m5 136 rfl) rfl
theorem q1223 : (Jvm.Cond.instanceMethod ({ cls := "YearSkins", name := "whose", desc := "(II)I" } : Jvm.MethodName)) ∈ lw_all := lw_g (lw_at lw_m5 138 rfl) rfl
theorem q1224 : (Jvm.Cond.selects "YearSkins" ({ cls := "YearSkins", name := "whose", desc := "(II)I" } : Jvm.MethodName) ({ cls := "YearSkins", name := "whose", desc := "(II)I" } : Jvm.MethodName)) ∈ lw_all := lw_g (lw_at lw_m5 139 rfl) rfl
theorem q1225 : (Jvm.Cond.code ({ cls := "YearSkins", name := "whose", desc := "(II)I" } : Jvm.MethodName) prog_1_method_18_code (3 : Nat) (Option.some Jvm.ClassFile.FieldType.int)) ∈ lw_all := lw_g (lw_at lw_m5 140 rfl) rfl
theorem q1226 : (Jvm.Cond.methodLink "YearSkins" (144 : Nat) ({ cls := "YearSkins$Land", name := "isCell", desc := "(II)Z" } : Jvm.MethodName)) ∈ lw_all := lw_g (lw_at lw_m5 141 rfl) rfl
theorem q1227 : (Jvm.Cond.methodLink "YearSkins" (147 : Nat) ({ cls := "YearSkins$Village", name := "whose", desc := "(II)I" } : Jvm.MethodName)) ∈ lw_all := lw_g (lw_at lw_m5 142 rfl) rfl
theorem q1229 : (Jvm.Cond.instanceMethod ({ cls := "YearSkins", name := "shared", desc := "()I" } : Jvm.MethodName)) ∈ lw_all := lw_g (lw_at lw_m5 144 rfl) rfl
theorem q1230 : (Jvm.Cond.selects "YearSkins" ({ cls := "YearSkins", name := "shared", desc := "()I" } : Jvm.MethodName) ({ cls := "YearSkins", name := "shared", desc := "()I" } : Jvm.MethodName)) ∈ lw_all := lw_g (lw_at lw_m5 145 rfl) rfl
theorem q1231 : (Jvm.Cond.code ({ cls := "YearSkins", name := "shared", desc := "()I" } : Jvm.MethodName) prog_1_method_20_code (1 : Nat) (Option.some Jvm.ClassFile.FieldType.int)) ∈ lw_all := lw_g (lw_at lw_m5 146 rfl) rfl
theorem q1232 : (Jvm.Cond.methodLink "YearSkins" (160 : Nat) ({ cls := "YearSkins", name := "cellsOf", desc := "(I)I" } : Jvm.MethodName)) ∈ lw_all := lw_g (lw_at lw_m5 147 rfl) rfl
theorem q1233 : (Jvm.Cond.privateMethod ({ cls := "YearSkins", name := "cellsOf", desc := "(I)I" } : Jvm.MethodName)) ∈ lw_tbl := lw_at lw_m5 148 rfl
theorem q1234 : (Jvm.Cond.instanceMethod ({ cls := "YearSkins", name := "cellsOf", desc := "(I)I" } : Jvm.MethodName)) ∈ lw_all := lw_g (lw_at lw_m5 149 rfl) rfl
theorem q1235 : (Jvm.Cond.code ({ cls := "YearSkins", name := "cellsOf", desc := "(I)I" } : Jvm.MethodName) prog_1_method_19_code (6 : Nat) (Option.some Jvm.ClassFile.FieldType.int)) ∈ lw_all := lw_g (lw_at lw_m5 150 rfl) rfl
theorem q1236 : (Jvm.Cond.methodLink "YearSkins" (157 : Nat) ({ cls := "YearSkins$Land", name := "isWater", desc := "(II)Z" } : Jvm.MethodName)) ∈ lw_all := lw_g (lw_at lw_m5 151 rfl) rfl
theorem q1238 : (Jvm.Cond.instanceMethod ({ cls := "YearSkins", name := "free", desc := "()I" } : Jvm.MethodName)) ∈ lw_all := lw_g (lw_at lw_m5 153 rfl) rfl
theorem q1239 : (Jvm.Cond.selects "YearSkins" ({ cls := "YearSkins", name := "free", desc := "()I" } : Jvm.MethodName) ({ cls := "YearSkins", name := "free", desc := "()I" } : Jvm.MethodName)) ∈ lw_all := lw_g (lw_at lw_m5 154 rfl) rfl
theorem q1240 : (Jvm.Cond.code ({ cls := "YearSkins", name := "free", desc := "()I" } : Jvm.MethodName) prog_1_method_21_code (1 : Nat) (Option.some Jvm.ClassFile.FieldType.int)) ∈ lw_all := lw_g (lw_at lw_m5 155 rfl) rfl
theorem q1242 : (Jvm.Cond.instanceMethod ({ cls := "YearSkins", name := "house", desc := "(II)I" } : Jvm.MethodName)) ∈ lw_all := lw_g (lw_at lw_m5 157 rfl) rfl
theorem q1243 : (Jvm.Cond.selects "YearSkins" ({ cls := "YearSkins", name := "house", desc := "(II)I" } : Jvm.MethodName) ({ cls := "YearSkins", name := "house", desc := "(II)I" } : Jvm.MethodName)) ∈ lw_all := lw_g (lw_at lw_m5 158 rfl) rfl
theorem q1244 : (Jvm.Cond.code ({ cls := "YearSkins", name := "house", desc := "(II)I" } : Jvm.MethodName) prog_1_method_22_code (4 : Nat) (Option.some Jvm.ClassFile.FieldType.int)) ∈ lw_all := lw_g (lw_at lw_m5 159 rfl) rfl
theorem q1245 : (Jvm.Cond.methodLink "YearSkins" (118 : Nat) ({ cls := "YearSkins", name := "isHouse", desc := "(I)Z" } : Jvm.MethodName)) ∈ lw_all := lw_g (lw_at lw_m5 160 rfl) rfl
theorem q1246 : (Jvm.Cond.privateMethod ({ cls := "YearSkins", name := "isHouse", desc := "(I)Z" } : Jvm.MethodName)) ∈ lw_tbl := lw_at lw_m5 161 rfl
theorem q1247 : (Jvm.Cond.instanceMethod ({ cls := "YearSkins", name := "isHouse", desc := "(I)Z" } : Jvm.MethodName)) ∈ lw_all := lw_g (lw_at lw_m5 162 rfl) rfl
theorem q1248 : (Jvm.Cond.code ({ cls := "YearSkins", name := "isHouse", desc := "(I)Z" } : Jvm.MethodName) prog_1_method_12_code (2 : Nat) (Option.some Jvm.ClassFile.FieldType.boolean)) ∈ lw_all := lw_g (lw_at lw_m5 163 rfl) rfl
theorem q1249 : (Jvm.Cond.methodLink "YearSkins" (122 : Nat) ({ cls := "YearSkins$Village", name := "house", desc := "(I)LYearSkins$House;" } : Jvm.MethodName)) ∈ lw_all := lw_g (lw_at lw_m5 164 rfl) rfl
theorem q1250 : (Jvm.Cond.methodLink "YearSkins" (190 : Nat) ({ cls := "YearSkins$Village", name := "isShut", desc := "(I)Z" } : Jvm.MethodName)) ∈ lw_all := lw_g (lw_at lw_m5 165 rfl) rfl
theorem q1270 : (Jvm.Cond.methodLink "YearSkins" (193 : Nat) ({ cls := "YearSkins$House", name := "isCrowded", desc := "()Z" } : Jvm.MethodName)) ∈ lw_all := lw_g (lw_at lw_m5 185 rfl) rfl
theorem q1275 : (Jvm.Cond.instanceMethod ({ cls := "YearSkins", name := "skin", desc := "(III)I" } : Jvm.MethodName)) ∈ lw_all := lw_g (lw_at lw_m5 190 rfl) rfl
theorem q1276 : (Jvm.Cond.selects "YearSkins" ({ cls := "YearSkins", name := "skin", desc := "(III)I" } : Jvm.MethodName) ({ cls := "YearSkins", name := "skin", desc := "(III)I" } : Jvm.MethodName)) ∈ lw_all := lw_g (lw_at lw_m5 191 rfl) rfl
theorem q1277 : (Jvm.Cond.code ({ cls := "YearSkins", name := "skin", desc := "(III)I" } : Jvm.MethodName) prog_1_method_23_code (5 : Nat) (Option.some Jvm.ClassFile.FieldType.int)) ∈ lw_all := lw_g (lw_at lw_m5 192 rfl) rfl
theorem q1278 : (Jvm.Cond.methodLink "YearSkins" (197 : Nat) ({ cls := "YearSkins", name := "isSkin", desc := "(II)Z" } : Jvm.MethodName)) ∈ lw_all := lw_g (lw_at lw_m5 193 rfl) rfl
theorem q1279 : (Jvm.Cond.privateMethod ({ cls := "YearSkins", name := "isSkin", desc := "(II)Z" } : Jvm.MethodName)) ∈ lw_tbl := lw_at lw_m5 194 rfl
theorem q1280 : (Jvm.Cond.instanceMethod ({ cls := "YearSkins", name := "isSkin", desc := "(II)Z" } : Jvm.MethodName)) ∈ lw_all := lw_g (lw_at lw_m5 195 rfl) rfl
theorem q1281 : (Jvm.Cond.code ({ cls := "YearSkins", name := "isSkin", desc := "(II)Z" } : Jvm.MethodName) prog_1_method_14_code (3 : Nat) (Option.some Jvm.ClassFile.FieldType.boolean)) ∈ lw_all := lw_g (lw_at lw_m5 196 rfl) rfl
theorem q1282 : (Jvm.Cond.methodLink "YearSkins" (129 : Nat) ({ cls := "YearSkins", name := "isDepth", desc := "(II)Z" } : Jvm.MethodName)) ∈ lw_all := lw_g (lw_at lw_m5 197 rfl) rfl
theorem q1283 : (Jvm.Cond.privateMethod ({ cls := "YearSkins", name := "isDepth", desc := "(II)Z" } : Jvm.MethodName)) ∈ lw_tbl := lw_at lw_m5 198 rfl
theorem q1284 : (Jvm.Cond.instanceMethod ({ cls := "YearSkins", name := "isDepth", desc := "(II)Z" } : Jvm.MethodName)) ∈ lw_all := lw_g (lw_at lw_m5 199 rfl) rfl
theorem q1285 : (Jvm.Cond.code ({ cls := "YearSkins", name := "isDepth", desc := "(II)Z" } : Jvm.MethodName) prog_1_method_13_code (3 : Nat) (Option.some Jvm.ClassFile.FieldType.boolean)) ∈ lw_all := lw_g (lw_at lw_m5 200 rfl) rfl
theorem q1286 : (Jvm.Cond.methodLink "YearSkins" (200 : Nat) ({ cls := "YearSkins$House", name := "skin", desc := "(I)LYearSkins$Skin;" } : Jvm.MethodName)) ∈ lw_all := lw_g (lw_at lw_m5 201 rfl) rfl
theorem q1288 : (Jvm.Cond.instanceMethod ({ cls := "YearSkins", name := "warm", desc := "(II)I" } : Jvm.MethodName)) ∈ lw_all := lw_g (lw_at lw_m5 203 rfl) rfl
theorem q1289 : (Jvm.Cond.selects "YearSkins" ({ cls := "YearSkins", name := "warm", desc := "(II)I" } : Jvm.MethodName) ({ cls := "YearSkins", name := "warm", desc := "(II)I" } : Jvm.MethodName)) ∈ lw_all := lw_g (lw_at lw_m5 204 rfl) rfl
theorem q1290 : (Jvm.Cond.code ({ cls := "YearSkins", name := "warm", desc := "(II)I" } : Jvm.MethodName) prog_1_method_24_code (3 : Nat) (Option.some Jvm.ClassFile.FieldType.int)) ∈ lw_all := lw_g (lw_at lw_m5 205 rfl) rfl
theorem q1291 : (Jvm.Cond.methodLink "YearSkins" (229 : Nat) ({ cls := "YearSkins$House", name := "warm", desc := "(I)I" } : Jvm.MethodName)) ∈ lw_all := lw_g (lw_at lw_m5 206 rfl) rfl
theorem q1296 : (Jvm.Cond.instanceMethod ({ cls := "YearSkins", name := "light", desc := "(II)I" } : Jvm.MethodName)) ∈ lw_all := lw_g (lw_at lw_m5 211 rfl) rfl
theorem q1297 : (Jvm.Cond.selects "YearSkins" ({ cls := "YearSkins", name := "light", desc := "(II)I" } : Jvm.MethodName) ({ cls := "YearSkins", name := "light", desc := "(II)I" } : Jvm.MethodName)) ∈ lw_all := lw_g (lw_at lw_m5 212 rfl) rfl
theorem q1298 : (Jvm.Cond.code ({ cls := "YearSkins", name := "light", desc := "(II)I" } : Jvm.MethodName) prog_1_method_25_code (3 : Nat) (Option.some Jvm.ClassFile.FieldType.int)) ∈ lw_all := lw_g (lw_at lw_m5 213 rfl) rfl
theorem q1299 : (Jvm.Cond.methodLink "YearSkins" (232 : Nat) ({ cls := "java/lang/Math", name := "max", desc := "(II)I" } : Jvm.MethodName)) ∈ lw_all := lw_g (lw_at lw_m5 214 rfl) rfl
theorem q1301 : (Jvm.Cond.instanceMethod ({ cls := "YearSkins", name := "heir", desc := "(II)I" } : Jvm.MethodName)) ∈ lw_all := lw_g (lw_at lw_m5 216 rfl) rfl
theorem q1302 : (Jvm.Cond.selects "YearSkins" ({ cls := "YearSkins", name := "heir", desc := "(II)I" } : Jvm.MethodName) ({ cls := "YearSkins", name := "heir", desc := "(II)I" } : Jvm.MethodName)) ∈ lw_all := lw_g (lw_at lw_m5 217 rfl) rfl
theorem q1303 : (Jvm.Cond.code ({ cls := "YearSkins", name := "heir", desc := "(II)I" } : Jvm.MethodName) prog_1_method_26_code (4 : Nat) (Option.some Jvm.ClassFile.FieldType.int)) ∈ lw_all := lw_g (lw_at lw_m5 218 rfl) rfl
theorem q1304 : (Jvm.Cond.methodLink "YearSkins" (237 : Nat) ({ cls := "YearSkins", name := "isHeir", desc := "(I)Z" } : Jvm.MethodName)) ∈ lw_all := lw_g (lw_at lw_m5 219 rfl) rfl
theorem q1305 : (Jvm.Cond.privateMethod ({ cls := "YearSkins", name := "isHeir", desc := "(I)Z" } : Jvm.MethodName)) ∈ lw_tbl := lw_at lw_m5 220 rfl
theorem q1306 : (Jvm.Cond.instanceMethod ({ cls := "YearSkins", name := "isHeir", desc := "(I)Z" } : Jvm.MethodName)) ∈ lw_all := lw_g (lw_at lw_m5 221 rfl) rfl
theorem q1307 : (Jvm.Cond.code ({ cls := "YearSkins", name := "isHeir", desc := "(I)Z" } : Jvm.MethodName) prog_1_method_16_code (2 : Nat) (Option.some Jvm.ClassFile.FieldType.boolean)) ∈ lw_all := lw_g (lw_at lw_m5 222 rfl) rfl
theorem q1309 : (Jvm.Cond.instanceMethod ({ cls := "YearSkins", name := "fits", desc := "(I)I" } : Jvm.MethodName)) ∈ lw_all := lw_g (lw_at lw_m5 224 rfl) rfl
theorem q1310 : (Jvm.Cond.selects "YearSkins" ({ cls := "YearSkins", name := "fits", desc := "(I)I" } : Jvm.MethodName) ({ cls := "YearSkins", name := "fits", desc := "(I)I" } : Jvm.MethodName)) ∈ lw_all := lw_g (lw_at lw_m5 225 rfl) rfl
theorem q1311 : (Jvm.Cond.code ({ cls := "YearSkins", name := "fits", desc := "(I)I" } : Jvm.MethodName) prog_1_method_27_code (2 : Nat) (Option.some Jvm.ClassFile.FieldType.int)) ∈ lw_all := lw_g (lw_at lw_m5 226 rfl) rfl
theorem q1312 : (Jvm.Cond.methodLink "YearSkins" (251 : Nat) ({ cls := "YearSkins$Village", name := "fits", desc := "(I)Z" } : Jvm.MethodName)) ∈ lw_all := lw_g (lw_at lw_m5 227 rfl) rfl
theorem q1314 : (Jvm.Cond.instanceMethod ({ cls := "YearSkins", name := "door", desc := "(I)I" } : Jvm.MethodName)) ∈ lw_all := lw_g (lw_at lw_m5 229 rfl) rfl
theorem q1315 : (Jvm.Cond.selects "YearSkins" ({ cls := "YearSkins", name := "door", desc := "(I)I" } : Jvm.MethodName) ({ cls := "YearSkins", name := "door", desc := "(I)I" } : Jvm.MethodName)) ∈ lw_all := lw_g (lw_at lw_m5 230 rfl) rfl
theorem q1316 : (Jvm.Cond.code ({ cls := "YearSkins", name := "door", desc := "(I)I" } : Jvm.MethodName) prog_1_method_28_code (2 : Nat) (Option.some Jvm.ClassFile.FieldType.int)) ∈ lw_all := lw_g (lw_at lw_m5 231 rfl) rfl
theorem q1317 : (Jvm.Cond.methodLink "YearSkins" (254 : Nat) ({ cls := "YearSkins$Village", name := "finds", desc := "(I)Z" } : Jvm.MethodName)) ∈ lw_all := lw_g (lw_at lw_m5 232 rfl) rfl
theorem q1350 : (Jvm.Cond.instanceMethod ({ cls := "YearSkins", name := "costs", desc := "(II)I" } : Jvm.MethodName)) ∈ lw_all := lw_g (lw_at lw_m6 25 rfl) rfl
theorem q1351 : (Jvm.Cond.selects "YearSkins" ({ cls := "YearSkins", name := "costs", desc := "(II)I" } : Jvm.MethodName) ({ cls := "YearSkins", name := "costs", desc := "(II)I" } : Jvm.MethodName)) ∈ lw_all := lw_g (lw_at lw_m6 26 rfl) rfl
theorem q1352 : (Jvm.Cond.code ({ cls := "YearSkins", name := "costs", desc := "(II)I" } : Jvm.MethodName) prog_1_method_29_code (3 : Nat) (Option.some Jvm.ClassFile.FieldType.int)) ∈ lw_all := lw_g (lw_at lw_m6 27 rfl) rfl
theorem q1353 : (Jvm.Cond.methodLink "YearSkins" (263 : Nat) ({ cls := "YearSkins", name := "isStone", desc := "(I)Z" } : Jvm.MethodName)) ∈ lw_all := lw_g (lw_at lw_m6 28 rfl) rfl
theorem q1354 : (Jvm.Cond.privateMethod ({ cls := "YearSkins", name := "isStone", desc := "(I)Z" } : Jvm.MethodName)) ∈ lw_tbl := lw_at lw_m6 29 rfl
theorem q1355 : (Jvm.Cond.instanceMethod ({ cls := "YearSkins", name := "isStone", desc := "(I)Z" } : Jvm.MethodName)) ∈ lw_all := lw_g (lw_at lw_m6 30 rfl) rfl
theorem q1356 : (Jvm.Cond.code ({ cls := "YearSkins", name := "isStone", desc := "(I)Z" } : Jvm.MethodName) prog_1_method_15_code (2 : Nat) (Option.some Jvm.ClassFile.FieldType.boolean)) ∈ lw_all := lw_g (lw_at lw_m6 31 rfl) rfl
theorem q1357 : (Jvm.Cond.methodLink "YearSkins" (270 : Nat) ({ cls := "YearSkins$House", name := "costs", desc := "(LYearSkins$Stone;)I" } : Jvm.MethodName)) ∈ lw_all := lw_g (lw_at lw_m6 32 rfl) rfl
theorem q1362 : (Jvm.Cond.instanceMethod ({ cls := "YearSkins", name := "way", desc := "(II)I" } : Jvm.MethodName)) ∈ lw_all := lw_g (lw_at lw_m6 37 rfl) rfl
theorem q1363 : (Jvm.Cond.selects "YearSkins" ({ cls := "YearSkins", name := "way", desc := "(II)I" } : Jvm.MethodName) ({ cls := "YearSkins", name := "way", desc := "(II)I" } : Jvm.MethodName)) ∈ lw_all := lw_g (lw_at lw_m6 38 rfl) rfl
theorem q1364 : (Jvm.Cond.code ({ cls := "YearSkins", name := "way", desc := "(II)I" } : Jvm.MethodName) prog_1_method_30_code (3 : Nat) (Option.some Jvm.ClassFile.FieldType.int)) ∈ lw_all := lw_g (lw_at lw_m6 39 rfl) rfl
theorem q1365 : (Jvm.Cond.methodLink "YearSkins" (274 : Nat) ({ cls := "YearSkins$House", name := "isOpenTo", desc := "(I)Z" } : Jvm.MethodName)) ∈ lw_all := lw_g (lw_at lw_m6 40 rfl) rfl
theorem q1373 : (Jvm.Cond.methodLink "YearSkins" (277 : Nat) ({ cls := "YearSkins$House", name := "way", desc := "(I)I" } : Jvm.MethodName)) ∈ lw_all := lw_g (lw_at lw_m6 48 rfl) rfl
theorem q1375 : (Jvm.Cond.instanceMethod ({ cls := "YearSkins", name := "through", desc := "(II)I" } : Jvm.MethodName)) ∈ lw_all := lw_g (lw_at lw_m6 50 rfl) rfl
theorem q1376 : (Jvm.Cond.selects "YearSkins" ({ cls := "YearSkins", name := "through", desc := "(II)I" } : Jvm.MethodName) ({ cls := "YearSkins", name := "through", desc := "(II)I" } : Jvm.MethodName)) ∈ lw_all := lw_g (lw_at lw_m6 51 rfl) rfl
theorem q1377 : (Jvm.Cond.code ({ cls := "YearSkins", name := "through", desc := "(II)I" } : Jvm.MethodName) prog_1_method_32_code (3 : Nat) (Option.some Jvm.ClassFile.FieldType.int)) ∈ lw_all := lw_g (lw_at lw_m6 52 rfl) rfl
theorem q1378 : (Jvm.Cond.methodLink "YearSkins" (287 : Nat) ({ cls := "YearSkins", name := "throughTo", desc := "(II)I" } : Jvm.MethodName)) ∈ lw_all := lw_g (lw_at lw_m6 53 rfl) rfl
theorem q1379 : (Jvm.Cond.privateMethod ({ cls := "YearSkins", name := "throughTo", desc := "(II)I" } : Jvm.MethodName)) ∈ lw_tbl := lw_at lw_m6 54 rfl
theorem q1380 : (Jvm.Cond.instanceMethod ({ cls := "YearSkins", name := "throughTo", desc := "(II)I" } : Jvm.MethodName)) ∈ lw_all := lw_g (lw_at lw_m6 55 rfl) rfl
theorem q1381 : (Jvm.Cond.code ({ cls := "YearSkins", name := "throughTo", desc := "(II)I" } : Jvm.MethodName) prog_1_method_31_code (3 : Nat) (Option.some Jvm.ClassFile.FieldType.int)) ∈ lw_all := lw_g (lw_at lw_m6 56 rfl) rfl
theorem q1382 : (Jvm.Cond.methodLink "YearSkins" (280 : Nat) ({ cls := "YearSkins$Through", name := "lay", desc := "(LYearSkins$House;)V" } : Jvm.MethodName)) ∈ lw_all := lw_g (lw_at lw_m6 57 rfl) rfl
theorem q1418 : (Jvm.Cond.methodLink "YearSkins" (284 : Nat) ({ cls := "YearSkins$Through", name := "to", desc := "(I)I" } : Jvm.MethodName)) ∈ lw_all := lw_g (lw_at lw_m6 93 rfl) rfl
theorem q1423 : (Jvm.Cond.instanceMethod ({ cls := "YearSkins", name := "breaks", desc := "(II)I" } : Jvm.MethodName)) ∈ lw_all := lw_g (lw_at lw_m6 98 rfl) rfl
theorem q1424 : (Jvm.Cond.selects "YearSkins" ({ cls := "YearSkins", name := "breaks", desc := "(II)I" } : Jvm.MethodName) ({ cls := "YearSkins", name := "breaks", desc := "(II)I" } : Jvm.MethodName)) ∈ lw_all := lw_g (lw_at lw_m6 99 rfl) rfl
theorem q1425 : (Jvm.Cond.code ({ cls := "YearSkins", name := "breaks", desc := "(II)I" } : Jvm.MethodName) prog_1_method_33_code (3 : Nat) (Option.some Jvm.ClassFile.FieldType.int)) ∈ lw_all := lw_g (lw_at lw_m6 100 rfl) rfl
theorem q1427 : (Jvm.Cond.instanceMethod ({ cls := "YearSkins", name := "round", desc := "(II)I" } : Jvm.MethodName)) ∈ lw_all := lw_g (lw_at lw_m6 102 rfl) rfl
theorem q1428 : (Jvm.Cond.selects "YearSkins" ({ cls := "YearSkins", name := "round", desc := "(II)I" } : Jvm.MethodName) ({ cls := "YearSkins", name := "round", desc := "(II)I" } : Jvm.MethodName)) ∈ lw_all := lw_g (lw_at lw_m6 103 rfl) rfl
theorem q1429 : (Jvm.Cond.code ({ cls := "YearSkins", name := "round", desc := "(II)I" } : Jvm.MethodName) prog_1_method_34_code (3 : Nat) (Option.some Jvm.ClassFile.FieldType.int)) ∈ lw_all := lw_g (lw_at lw_m6 104 rfl) rfl
theorem q1430 : (Jvm.Cond.methodLink "YearSkins" (290 : Nat) ({ cls := "YearSkins$House", name := "round", desc := "(I)I" } : Jvm.MethodName)) ∈ lw_all := lw_g (lw_at lw_m6 105 rfl) rfl
theorem q1432 : (Jvm.Cond.instanceMethod ({ cls := "YearSkins", name := "in", desc := "(III)I" } : Jvm.MethodName)) ∈ lw_all := lw_g (lw_at lw_m6 107 rfl) rfl
theorem q1433 : (Jvm.Cond.selects "YearSkins" ({ cls := "YearSkins", name := "in", desc := "(III)I" } : Jvm.MethodName) ({ cls := "YearSkins", name := "in", desc := "(III)I" } : Jvm.MethodName)) ∈ lw_all := lw_g (lw_at lw_m6 108 rfl) rfl
theorem q1434 : (Jvm.Cond.code ({ cls := "YearSkins", name := "in", desc := "(III)I" } : Jvm.MethodName) prog_1_method_36_code (6 : Nat) (Option.some Jvm.ClassFile.FieldType.int)) ∈ lw_all := lw_g (lw_at lw_m6 109 rfl) rfl
theorem q1435 : (Jvm.Cond.methodLink "YearSkins" (296 : Nat) ({ cls := "YearSkins", name := "inWhy", desc := "(I)I" } : Jvm.MethodName)) ∈ lw_all := lw_g (lw_at lw_m6 110 rfl) rfl
theorem q1436 : (Jvm.Cond.privateMethod ({ cls := "YearSkins", name := "inWhy", desc := "(I)I" } : Jvm.MethodName)) ∈ lw_tbl := lw_at lw_m6 111 rfl
theorem q1437 : (Jvm.Cond.instanceMethod ({ cls := "YearSkins", name := "inWhy", desc := "(I)I" } : Jvm.MethodName)) ∈ lw_all := lw_g (lw_at lw_m6 112 rfl) rfl
theorem q1438 : (Jvm.Cond.code ({ cls := "YearSkins", name := "inWhy", desc := "(I)I" } : Jvm.MethodName) prog_1_method_35_code (2 : Nat) (Option.some Jvm.ClassFile.FieldType.int)) ∈ lw_all := lw_g (lw_at lw_m6 113 rfl) rfl
theorem q1439 : (Jvm.Cond.methodLink "YearSkins" (293 : Nat) ({ cls := "YearSkins$Village", name := "goesOnFor", desc := "(I)V" } : Jvm.MethodName)) ∈ lw_all := lw_g (lw_at lw_m6 114 rfl) rfl
theorem q1489 : (Jvm.Cond.methodLink "YearSkins" (299 : Nat) ({ cls := "YearSkins$House", name := "collapsed", desc := "()I" } : Jvm.MethodName)) ∈ lw_all := lw_g (lw_at lw_m6 164 rfl) rfl
theorem q1494 : (Jvm.Cond.instanceMethod ({ cls := "YearSkins", name := "skinsIn", desc := "(I)I" } : Jvm.MethodName)) ∈ lw_all := lw_g (lw_at lw_m6 169 rfl) rfl
theorem q1495 : (Jvm.Cond.selects "YearSkins" ({ cls := "YearSkins", name := "skinsIn", desc := "(I)I" } : Jvm.MethodName) ({ cls := "YearSkins", name := "skinsIn", desc := "(I)I" } : Jvm.MethodName)) ∈ lw_all := lw_g (lw_at lw_m6 170 rfl) rfl
theorem q1496 : (Jvm.Cond.code ({ cls := "YearSkins", name := "skinsIn", desc := "(I)I" } : Jvm.MethodName) prog_1_method_37_code (3 : Nat) (Option.some Jvm.ClassFile.FieldType.int)) ∈ lw_all := lw_g (lw_at lw_m6 171 rfl) rfl
theorem q1497 : (Jvm.Cond.methodLink "YearSkins" (302 : Nat) ({ cls := "YearSkins$Village", name := "skins", desc := "()I" } : Jvm.MethodName)) ∈ lw_all := lw_g (lw_at lw_m6 172 rfl) rfl
theorem q1502 : (Jvm.Cond.instanceMethod ({ cls := "YearSkins", name := "meet", desc := "(III)I" } : Jvm.MethodName)) ∈ lw_all := lw_g (lw_at lw_m6 177 rfl) rfl
theorem q1503 : (Jvm.Cond.selects "YearSkins" ({ cls := "YearSkins", name := "meet", desc := "(III)I" } : Jvm.MethodName) ({ cls := "YearSkins", name := "meet", desc := "(III)I" } : Jvm.MethodName)) ∈ lw_all := lw_g (lw_at lw_m6 178 rfl) rfl
theorem q1504 : (Jvm.Cond.code ({ cls := "YearSkins", name := "meet", desc := "(III)I" } : Jvm.MethodName) prog_1_method_38_code (5 : Nat) (Option.some Jvm.ClassFile.FieldType.int)) ∈ lw_all := lw_g (lw_at lw_m6 179 rfl) rfl
theorem q1505 : (Jvm.Cond.methodLink "YearSkins" (305 : Nat) ({ cls := "YearSkins$Village", name := "doMeet", desc := "(II)Z" } : Jvm.MethodName)) ∈ lw_all := lw_g (lw_at lw_m6 180 rfl) rfl
theorem q1509 : (Jvm.Cond.methodLink "YearSkins" (308 : Nat) ({ cls := "YearSkins$Village", name := "goesOn", desc := "()V" } : Jvm.MethodName)) ∈ lw_all := lw_g (lw_at lw_m6 184 rfl) rfl
theorem q1511 : (Jvm.Cond.instanceMethod ({ cls := "YearSkins", name := "falls", desc := "(III)I" } : Jvm.MethodName)) ∈ lw_all := lw_g (lw_at lw_m6 186 rfl) rfl
theorem q1512 : (Jvm.Cond.selects "YearSkins" ({ cls := "YearSkins", name := "falls", desc := "(III)I" } : Jvm.MethodName) ({ cls := "YearSkins", name := "falls", desc := "(III)I" } : Jvm.MethodName)) ∈ lw_all := lw_g (lw_at lw_m6 187 rfl) rfl
theorem q1513 : (Jvm.Cond.code ({ cls := "YearSkins", name := "falls", desc := "(III)I" } : Jvm.MethodName) prog_1_method_39_code (5 : Nat) (Option.some Jvm.ClassFile.FieldType.int)) ∈ lw_all := lw_g (lw_at lw_m6 188 rfl) rfl
theorem q1515 : (Jvm.Cond.instanceMethod ({ cls := "YearSkins", name := "room", desc := "(I)I" } : Jvm.MethodName)) ∈ lw_all := lw_g (lw_at lw_m6 190 rfl) rfl
theorem q1516 : (Jvm.Cond.selects "YearSkins" ({ cls := "YearSkins", name := "room", desc := "(I)I" } : Jvm.MethodName) ({ cls := "YearSkins", name := "room", desc := "(I)I" } : Jvm.MethodName)) ∈ lw_all := lw_g (lw_at lw_m6 191 rfl) rfl
theorem q1517 : (Jvm.Cond.code ({ cls := "YearSkins", name := "room", desc := "(I)I" } : Jvm.MethodName) prog_1_method_40_code (3 : Nat) (Option.some Jvm.ClassFile.FieldType.int)) ∈ lw_all := lw_g (lw_at lw_m6 192 rfl) rfl
theorem q1518 : (Jvm.Cond.methodLink "YearSkins" (311 : Nat) ({ cls := "YearSkins$House", name := "build", desc := "(LYearSkins$Stone;IIII)V" } : Jvm.MethodName)) ∈ lw_all := lw_g (lw_at lw_m6 193 rfl) rfl
theorem q1520 : (Jvm.Cond.instanceMethod ({ cls := "YearSkins", name := "first", desc := "(I)I" } : Jvm.MethodName)) ∈ lw_all := lw_g (lw_at lw_m6 195 rfl) rfl
theorem q1521 : (Jvm.Cond.selects "YearSkins" ({ cls := "YearSkins", name := "first", desc := "(I)I" } : Jvm.MethodName) ({ cls := "YearSkins", name := "first", desc := "(I)I" } : Jvm.MethodName)) ∈ lw_all := lw_g (lw_at lw_m6 196 rfl) rfl
theorem q1522 : (Jvm.Cond.code ({ cls := "YearSkins", name := "first", desc := "(I)I" } : Jvm.MethodName) prog_1_method_43_code (3 : Nat) (Option.some Jvm.ClassFile.FieldType.int)) ∈ lw_all := lw_g (lw_at lw_m6 197 rfl) rfl
theorem q1523 : (Jvm.Cond.methodLink "YearSkins" (333 : Nat) ({ cls := "YearSkins", name := "firstWhy", desc := "(I)I" } : Jvm.MethodName)) ∈ lw_all := lw_g (lw_at lw_m6 198 rfl) rfl
theorem q1524 : (Jvm.Cond.privateMethod ({ cls := "YearSkins", name := "firstWhy", desc := "(I)I" } : Jvm.MethodName)) ∈ lw_tbl := lw_at lw_m6 199 rfl
theorem q1525 : (Jvm.Cond.instanceMethod ({ cls := "YearSkins", name := "firstWhy", desc := "(I)I" } : Jvm.MethodName)) ∈ lw_all := lw_g (lw_at lw_m6 200 rfl) rfl
theorem q1526 : (Jvm.Cond.code ({ cls := "YearSkins", name := "firstWhy", desc := "(I)I" } : Jvm.MethodName) prog_1_method_41_code (5 : Nat) (Option.some Jvm.ClassFile.FieldType.int)) ∈ lw_all := lw_g (lw_at lw_m6 201 rfl) rfl
theorem q1527 : (Jvm.Cond.methodLink "YearSkins" (318 : Nat) ({ cls := "YearSkins", name := "tries", desc := "(II)Z" } : Jvm.MethodName)) ∈ lw_all := lw_g (lw_at lw_m6 202 rfl) rfl
theorem q1528 : (Jvm.Cond.privateMethod ({ cls := "YearSkins", name := "tries", desc := "(II)Z" } : Jvm.MethodName)) ∈ lw_tbl := lw_at lw_m6 203 rfl
theorem q1529 : (Jvm.Cond.instanceMethod ({ cls := "YearSkins", name := "tries", desc := "(II)Z" } : Jvm.MethodName)) ∈ lw_all := lw_g (lw_at lw_m6 204 rfl) rfl
theorem q1530 : (Jvm.Cond.code ({ cls := "YearSkins", name := "tries", desc := "(II)Z" } : Jvm.MethodName) prog_1_method_42_code (6 : Nat) (Option.some Jvm.ClassFile.FieldType.boolean)) ∈ lw_all := lw_g (lw_at lw_m6 205 rfl) rfl
theorem q1531 : (Jvm.Cond.methodLink "YearSkins" (324 : Nat) ({ cls := "java/lang/System", name := "arraycopy", desc := "(Ljava/lang/Object;ILjava/lang/Object;II)V" } : Jvm.MethodName)) ∈ lw_all := lw_g (lw_at lw_m6 206 rfl) rfl
theorem q1532 : (Jvm.Cond.methodLink "YearSkins" (330 : Nat) ({ cls := "YearSkins$Village", name := "straight", desc := "()V" } : Jvm.MethodName)) ∈ lw_all := lw_g (lw_at lw_m6 207 rfl) rfl
theorem q1534 : (Jvm.Cond.instanceMethod ({ cls := "YearSkins", name := "firstAt", desc := "(II)I" } : Jvm.MethodName)) ∈ lw_all := lw_g (lw_at lw_m6 209 rfl) rfl
theorem q1535 : (Jvm.Cond.selects "YearSkins" ({ cls := "YearSkins", name := "firstAt", desc := "(II)I" } : Jvm.MethodName) ({ cls := "YearSkins", name := "firstAt", desc := "(II)I" } : Jvm.MethodName)) ∈ lw_all := lw_g (lw_at lw_m6 210 rfl) rfl
theorem q1536 : (Jvm.Cond.code ({ cls := "YearSkins", name := "firstAt", desc := "(II)I" } : Jvm.MethodName) prog_1_method_44_code (4 : Nat) (Option.some Jvm.ClassFile.FieldType.int)) ∈ lw_all := lw_g (lw_at lw_m6 211 rfl) rfl
theorem q1538 : (Jvm.Cond.instanceMethod ({ cls := "YearSkins", name := "heads", desc := "(II)I" } : Jvm.MethodName)) ∈ lw_all := lw_g (lw_at lw_m6 213 rfl) rfl
theorem q1539 : (Jvm.Cond.selects "YearSkins" ({ cls := "YearSkins", name := "heads", desc := "(II)I" } : Jvm.MethodName) ({ cls := "YearSkins", name := "heads", desc := "(II)I" } : Jvm.MethodName)) ∈ lw_all := lw_g (lw_at lw_m6 214 rfl) rfl
theorem q1540 : (Jvm.Cond.code ({ cls := "YearSkins", name := "heads", desc := "(II)I" } : Jvm.MethodName) prog_1_method_45_code (3 : Nat) (Option.some Jvm.ClassFile.FieldType.int)) ∈ lw_all := lw_g (lw_at lw_m6 215 rfl) rfl
theorem q1541 : (Jvm.Cond.constant "YearSkins" (336 : Nat) (65536 : Int32)) ∈ lw_all := lw_g (lw_at lw_m6 216 rfl) rfl
theorem q1542 : (Jvm.Cond.methodLink "YearSkins" (340 : Nat) ({ cls := "YearSkins$Village", name := "heads", desc := "()I" } : Jvm.MethodName)) ∈ lw_all := lw_g (lw_at lw_m6 217 rfl) rfl
theorem q1547 : (Jvm.Cond.instanceMethod ({ cls := "YearSkins", name := "takes", desc := "(I)I" } : Jvm.MethodName)) ∈ lw_all := lw_g (lw_at lw_m6 222 rfl) rfl
theorem q1548 : (Jvm.Cond.selects "YearSkins" ({ cls := "YearSkins", name := "takes", desc := "(I)I" } : Jvm.MethodName) ({ cls := "YearSkins", name := "takes", desc := "(I)I" } : Jvm.MethodName)) ∈ lw_all := lw_g (lw_at lw_m6 223 rfl) rfl
theorem q1549 : (Jvm.Cond.code ({ cls := "YearSkins", name := "takes", desc := "(I)I" } : Jvm.MethodName) prog_1_method_47_code (3 : Nat) (Option.some Jvm.ClassFile.FieldType.int)) ∈ lw_all := lw_g (lw_at lw_m6 224 rfl) rfl
theorem q1550 : (Jvm.Cond.methodLink "YearSkins" (345 : Nat) ({ cls := "YearSkins$House", name := "inmost", desc := "()I" } : Jvm.MethodName)) ∈ lw_all := lw_g (lw_at lw_m6 225 rfl) rfl
theorem q1554 : (Jvm.Cond.methodLink "YearSkins" (348 : Nat) ({ cls := "YearSkins", name := "half", desc := "(LYearSkins$House;I)I" } : Jvm.MethodName)) ∈ lw_all := lw_g (lw_at lw_m6 229 rfl) rfl
theorem q1555 : (Jvm.Cond.static ({ cls := "YearSkins", name := "half", desc := "(LYearSkins$House;I)I" } : Jvm.MethodName)) ∈ lw_all := lw_g (lw_at lw_m6 230 rfl) rfl
theorem q1556 : (Jvm.Cond.code ({ cls := "YearSkins", name := "half", desc := "(LYearSkins$House;I)I" } : Jvm.MethodName) prog_1_method_46_code (2 : Nat) (Option.some Jvm.ClassFile.FieldType.int)) ∈ lw_all := lw_g (lw_at lw_m6 231 rfl) rfl
theorem q1558 : (Jvm.Cond.instanceMethod ({ cls := "YearSkins", name := "worth", desc := "(I)I" } : Jvm.MethodName)) ∈ lw_all := lw_g (lw_at lw_m6 233 rfl) rfl
theorem q1559 : (Jvm.Cond.selects "YearSkins" ({ cls := "YearSkins", name := "worth", desc := "(I)I" } : Jvm.MethodName) ({ cls := "YearSkins", name := "worth", desc := "(I)I" } : Jvm.MethodName)) ∈ lw_all := lw_g (lw_at lw_m6 234 rfl) rfl
theorem q1560 : (Jvm.Cond.code ({ cls := "YearSkins", name := "worth", desc := "(I)I" } : Jvm.MethodName) prog_1_method_48_code (5 : Nat) (Option.some Jvm.ClassFile.FieldType.int)) ∈ lw_all := lw_g (lw_at lw_m6 235 rfl) rfl
theorem q1561 : (Jvm.Cond.methodLink "YearSkins" (352 : Nat) ({ cls := "YearSkins$Village", name := "isLivedIn", desc := "(II)Z" } : Jvm.MethodName)) ∈ lw_all := lw_g (lw_at lw_m6 236 rfl) rfl
theorem q1566 : (Jvm.Cond.instanceMethod ({ cls := "YearSkins", name := "orders", desc := "()I" } : Jvm.MethodName)) ∈ lw_all := lw_g (lw_at lw_m7 1 rfl) rfl
theorem q1567 : (Jvm.Cond.selects "YearSkins" ({ cls := "YearSkins", name := "orders", desc := "()I" } : Jvm.MethodName) ({ cls := "YearSkins", name := "orders", desc := "()I" } : Jvm.MethodName)) ∈ lw_all := lw_g (lw_at lw_m7 2 rfl) rfl
theorem q1568 : (Jvm.Cond.code ({ cls := "YearSkins", name := "orders", desc := "()I" } : Jvm.MethodName) prog_1_method_50_code (1 : Nat) (Option.some Jvm.ClassFile.FieldType.int)) ∈ lw_all := lw_g (lw_at lw_m7 3 rfl) rfl
theorem q1569 : (Jvm.Cond.methodLink "YearSkins" (361 : Nat) ({ cls := "YearSkins", name := "layOrders", desc := "()V" } : Jvm.MethodName)) ∈ lw_all := lw_g (lw_at lw_m7 4 rfl) rfl
theorem q1570 : (Jvm.Cond.privateMethod ({ cls := "YearSkins", name := "layOrders", desc := "()V" } : Jvm.MethodName)) ∈ lw_tbl := lw_at lw_m7 5 rfl
theorem q1571 : (Jvm.Cond.instanceMethod ({ cls := "YearSkins", name := "layOrders", desc := "()V" } : Jvm.MethodName)) ∈ lw_all := lw_g (lw_at lw_m7 6 rfl) rfl
theorem q1572 : (Jvm.Cond.code ({ cls := "YearSkins", name := "layOrders", desc := "()V" } : Jvm.MethodName) prog_1_method_49_code (1 : Nat) (Option.none : Option Jvm.ClassFile.FieldType)) ∈ lw_all := lw_g (lw_at lw_m7 7 rfl) rfl
theorem q1573 : (Jvm.Cond.methodLink "YearSkins" (358 : Nat) ({ cls := "YearSkins$Orders", name := "lay", desc := "(LYearSkins$Land;I)V" } : Jvm.MethodName)) ∈ lw_all := lw_g (lw_at lw_m7 8 rfl) rfl
theorem q1597 : (Jvm.Cond.static ({ cls := "YearSkins", name := "has", desc := "(II)Z" } : Jvm.MethodName)) ∈ lw_all := lw_g (lw_at lw_m7 32 rfl) rfl
theorem q1598 : (Jvm.Cond.code ({ cls := "YearSkins", name := "has", desc := "(II)Z" } : Jvm.MethodName) prog_1_method_2_code (2 : Nat) (Option.some Jvm.ClassFile.FieldType.boolean)) ∈ lw_all := lw_g (lw_at lw_m7 33 rfl) rfl
theorem q1604 : (Jvm.Cond.instanceMethod ({ cls := "YearSkins", name := "order", desc := "(II)I" } : Jvm.MethodName)) ∈ lw_all := lw_g (lw_at lw_m7 39 rfl) rfl
theorem q1605 : (Jvm.Cond.selects "YearSkins" ({ cls := "YearSkins", name := "order", desc := "(II)I" } : Jvm.MethodName) ({ cls := "YearSkins", name := "order", desc := "(II)I" } : Jvm.MethodName)) ∈ lw_all := lw_g (lw_at lw_m7 40 rfl) rfl
theorem q1606 : (Jvm.Cond.code ({ cls := "YearSkins", name := "order", desc := "(II)I" } : Jvm.MethodName) prog_1_method_51_code (3 : Nat) (Option.some Jvm.ClassFile.FieldType.int)) ∈ lw_all := lw_g (lw_at lw_m7 41 rfl) rfl
theorem q1607 : (Jvm.Cond.methodLink "YearSkins" (365 : Nat) ({ cls := "YearSkins", name := "isWall", desc := "(I)Z" } : Jvm.MethodName)) ∈ lw_all := lw_g (lw_at lw_m7 42 rfl) rfl
theorem q1608 : (Jvm.Cond.privateMethod ({ cls := "YearSkins", name := "isWall", desc := "(I)Z" } : Jvm.MethodName)) ∈ lw_tbl := lw_at lw_m7 43 rfl
theorem q1609 : (Jvm.Cond.instanceMethod ({ cls := "YearSkins", name := "isWall", desc := "(I)Z" } : Jvm.MethodName)) ∈ lw_all := lw_g (lw_at lw_m7 44 rfl) rfl
theorem q1610 : (Jvm.Cond.code ({ cls := "YearSkins", name := "isWall", desc := "(I)Z" } : Jvm.MethodName) prog_1_method_17_code (2 : Nat) (Option.some Jvm.ClassFile.FieldType.boolean)) ∈ lw_all := lw_g (lw_at lw_m7 45 rfl) rfl
theorem q1611 : (Jvm.Cond.methodLink "YearSkins" (368 : Nat) ({ cls := "YearSkins$Orders", name := "at", desc := "(II)I" } : Jvm.MethodName)) ∈ lw_all := lw_g (lw_at lw_m7 46 rfl) rfl
theorem q1616 : (Jvm.Cond.instanceMethod ({ cls := "YearSkins", name := "soonest", desc := "(I)I" } : Jvm.MethodName)) ∈ lw_all := lw_g (lw_at lw_m7 51 rfl) rfl
theorem q1617 : (Jvm.Cond.selects "YearSkins" ({ cls := "YearSkins", name := "soonest", desc := "(I)I" } : Jvm.MethodName) ({ cls := "YearSkins", name := "soonest", desc := "(I)I" } : Jvm.MethodName)) ∈ lw_all := lw_g (lw_at lw_m7 52 rfl) rfl
theorem q1618 : (Jvm.Cond.code ({ cls := "YearSkins", name := "soonest", desc := "(I)I" } : Jvm.MethodName) prog_1_method_52_code (2 : Nat) (Option.some Jvm.ClassFile.FieldType.int)) ∈ lw_all := lw_g (lw_at lw_m7 53 rfl) rfl
theorem q1619 : (Jvm.Cond.methodLink "YearSkins" (371 : Nat) ({ cls := "YearSkins$Orders", name := "soonest", desc := "(I)I" } : Jvm.MethodName)) ∈ lw_all := lw_g (lw_at lw_m7 54 rfl) rfl
theorem q1624 : (Jvm.Cond.instanceMethod ({ cls := "YearSkins", name := "latest", desc := "(I)I" } : Jvm.MethodName)) ∈ lw_all := lw_g (lw_at lw_m7 59 rfl) rfl
theorem q1625 : (Jvm.Cond.selects "YearSkins" ({ cls := "YearSkins", name := "latest", desc := "(I)I" } : Jvm.MethodName) ({ cls := "YearSkins", name := "latest", desc := "(I)I" } : Jvm.MethodName)) ∈ lw_all := lw_g (lw_at lw_m7 60 rfl) rfl
theorem q1626 : (Jvm.Cond.code ({ cls := "YearSkins", name := "latest", desc := "(I)I" } : Jvm.MethodName) prog_1_method_53_code (2 : Nat) (Option.some Jvm.ClassFile.FieldType.int)) ∈ lw_all := lw_g (lw_at lw_m7 61 rfl) rfl
theorem q1627 : (Jvm.Cond.methodLink "YearSkins" (374 : Nat) ({ cls := "YearSkins$Orders", name := "latest", desc := "(I)I" } : Jvm.MethodName)) ∈ lw_all := lw_g (lw_at lw_m7 62 rfl) rfl
theorem q1632 : (Jvm.Cond.instanceMethod ({ cls := "YearSkins", name := "surely", desc := "(II)I" } : Jvm.MethodName)) ∈ lw_all := lw_g (lw_at lw_m7 67 rfl) rfl
theorem q1633 : (Jvm.Cond.selects "YearSkins" ({ cls := "YearSkins", name := "surely", desc := "(II)I" } : Jvm.MethodName) ({ cls := "YearSkins", name := "surely", desc := "(II)I" } : Jvm.MethodName)) ∈ lw_all := lw_g (lw_at lw_m7 68 rfl) rfl
theorem q1634 : (Jvm.Cond.code ({ cls := "YearSkins", name := "surely", desc := "(II)I" } : Jvm.MethodName) prog_1_method_54_code (3 : Nat) (Option.some Jvm.ClassFile.FieldType.int)) ∈ lw_all := lw_g (lw_at lw_m7 69 rfl) rfl
theorem q1635 : (Jvm.Cond.methodLink "YearSkins" (377 : Nat) ({ cls := "YearSkins$Orders", name := "isSure", desc := "(II)Z" } : Jvm.MethodName)) ∈ lw_all := lw_g (lw_at lw_m7 70 rfl) rfl
theorem q1645 : (Jvm.Cond.instanceMethod ({ cls := "YearSkins", name := "years", desc := "(I)I" } : Jvm.MethodName)) ∈ lw_all := lw_g (lw_at lw_m7 80 rfl) rfl
theorem q1646 : (Jvm.Cond.selects "YearSkins" ({ cls := "YearSkins", name := "years", desc := "(I)I" } : Jvm.MethodName) ({ cls := "YearSkins", name := "years", desc := "(I)I" } : Jvm.MethodName)) ∈ lw_all := lw_g (lw_at lw_m7 81 rfl) rfl
theorem q1647 : (Jvm.Cond.code ({ cls := "YearSkins", name := "years", desc := "(I)I" } : Jvm.MethodName) prog_1_method_57_code (2 : Nat) (Option.some Jvm.ClassFile.FieldType.int)) ∈ lw_all := lw_g (lw_at lw_m7 82 rfl) rfl
theorem q1648 : (Jvm.Cond.methodLink "YearSkins" (380 : Nat) ({ cls := "YearSkins", name := "note", desc := "()V" } : Jvm.MethodName)) ∈ lw_all := lw_g (lw_at lw_m7 83 rfl) rfl
theorem q1649 : (Jvm.Cond.privateMethod ({ cls := "YearSkins", name := "note", desc := "()V" } : Jvm.MethodName)) ∈ lw_tbl := lw_at lw_m7 84 rfl
theorem q1650 : (Jvm.Cond.instanceMethod ({ cls := "YearSkins", name := "note", desc := "()V" } : Jvm.MethodName)) ∈ lw_all := lw_g (lw_at lw_m7 85 rfl) rfl
theorem q1651 : (Jvm.Cond.code ({ cls := "YearSkins", name := "note", desc := "()V" } : Jvm.MethodName) prog_1_method_55_code (1 : Nat) (Option.none : Option Jvm.ClassFile.FieldType)) ∈ lw_all := lw_g (lw_at lw_m7 86 rfl) rfl
theorem q1652 : (Jvm.Cond.methodLink "YearSkins" (383 : Nat) ({ cls := "YearSkins", name := "done", desc := "()Z" } : Jvm.MethodName)) ∈ lw_all := lw_g (lw_at lw_m7 87 rfl) rfl
theorem q1653 : (Jvm.Cond.privateMethod ({ cls := "YearSkins", name := "done", desc := "()Z" } : Jvm.MethodName)) ∈ lw_tbl := lw_at lw_m7 88 rfl
theorem q1654 : (Jvm.Cond.instanceMethod ({ cls := "YearSkins", name := "done", desc := "()Z" } : Jvm.MethodName)) ∈ lw_all := lw_g (lw_at lw_m7 89 rfl) rfl
theorem q1655 : (Jvm.Cond.code ({ cls := "YearSkins", name := "done", desc := "()Z" } : Jvm.MethodName) prog_1_method_56_code (3 : Nat) (Option.some Jvm.ClassFile.FieldType.boolean)) ∈ lw_all := lw_g (lw_at lw_m7 90 rfl) rfl
theorem q1657 : (Jvm.Cond.instanceMethod ({ cls := "YearSkins", name := "build", desc := "(IIIII)I" } : Jvm.MethodName)) ∈ lw_all := lw_g (lw_at lw_m7 92 rfl) rfl
theorem q1658 : (Jvm.Cond.selects "YearSkins" ({ cls := "YearSkins", name := "build", desc := "(IIIII)I" } : Jvm.MethodName) ({ cls := "YearSkins", name := "build", desc := "(IIIII)I" } : Jvm.MethodName)) ∈ lw_all := lw_g (lw_at lw_m7 93 rfl) rfl
theorem q1659 : (Jvm.Cond.code ({ cls := "YearSkins", name := "build", desc := "(IIIII)I" } : Jvm.MethodName) prog_1_method_58_code (8 : Nat) (Option.some Jvm.ClassFile.FieldType.int)) ∈ lw_all := lw_g (lw_at lw_m7 94 rfl) rfl
theorem q1660 : (Jvm.Cond.methodLink "YearSkins" (386 : Nat) ({ cls := "YearSkins$Village", name := "canDoor", desc := "(III)Z" } : Jvm.MethodName)) ∈ lw_all := lw_g (lw_at lw_m7 95 rfl) rfl
theorem q1662 : (Jvm.Cond.instanceMethod ({ cls := "YearSkins", name := "fill", desc := "(II)Z" } : Jvm.MethodName)) ∈ lw_all := lw_g (lw_at lw_m7 97 rfl) rfl
theorem q1663 : (Jvm.Cond.selects "YearSkins" ({ cls := "YearSkins", name := "fill", desc := "(II)Z" } : Jvm.MethodName) ({ cls := "YearSkins", name := "fill", desc := "(II)Z" } : Jvm.MethodName)) ∈ lw_all := lw_g (lw_at lw_m7 98 rfl) rfl
theorem q1664 : (Jvm.Cond.code ({ cls := "YearSkins", name := "fill", desc := "(II)Z" } : Jvm.MethodName) prog_1_method_59_code (3 : Nat) (Option.some Jvm.ClassFile.FieldType.boolean)) ∈ lw_all := lw_g (lw_at lw_m7 99 rfl) rfl
theorem q1665 : (Jvm.Cond.methodLink "YearSkins" (389 : Nat) ({ cls := "YearSkins$Skin", name := "isOpen", desc := "()Z" } : Jvm.MethodName)) ∈ lw_all := lw_g (lw_at lw_m7 100 rfl) rfl
theorem q1666 : (Jvm.Cond.methodLink "YearSkins" (392 : Nat) ({ cls := "YearSkins", name := "yes", desc := "(I)Z" } : Jvm.MethodName)) ∈ lw_all := lw_g (lw_at lw_m7 101 rfl) rfl
theorem q1667 : (Jvm.Cond.privateMethod ({ cls := "YearSkins", name := "yes", desc := "(I)Z" } : Jvm.MethodName)) ∈ lw_tbl := lw_at lw_m7 102 rfl
theorem q1668 : (Jvm.Cond.instanceMethod ({ cls := "YearSkins", name := "yes", desc := "(I)Z" } : Jvm.MethodName)) ∈ lw_all := lw_g (lw_at lw_m7 103 rfl) rfl
theorem q1669 : (Jvm.Cond.code ({ cls := "YearSkins", name := "yes", desc := "(I)Z" } : Jvm.MethodName) prog_1_method_6_code (2 : Nat) (Option.some Jvm.ClassFile.FieldType.boolean)) ∈ lw_all := lw_g (lw_at lw_m7 104 rfl) rfl
theorem q1671 : (Jvm.Cond.instanceMethod ({ cls := "YearSkins", name := "take", desc := "(I)I" } : Jvm.MethodName)) ∈ lw_all := lw_g (lw_at lw_m7 106 rfl) rfl
theorem q1672 : (Jvm.Cond.selects "YearSkins" ({ cls := "YearSkins", name := "take", desc := "(I)I" } : Jvm.MethodName) ({ cls := "YearSkins", name := "take", desc := "(I)I" } : Jvm.MethodName)) ∈ lw_all := lw_g (lw_at lw_m7 107 rfl) rfl
theorem q1673 : (Jvm.Cond.code ({ cls := "YearSkins", name := "take", desc := "(I)I" } : Jvm.MethodName) prog_1_method_60_code (5 : Nat) (Option.some Jvm.ClassFile.FieldType.int)) ∈ lw_all := lw_g (lw_at lw_m7 108 rfl) rfl
theorem q1674 : (Jvm.Cond.methodLink "YearSkins" (395 : Nat) ({ cls := "java/lang/Math", name := "min", desc := "(II)I" } : Jvm.MethodName)) ∈ lw_all := lw_g (lw_at lw_m7 109 rfl) rfl
theorem q1676 : (Jvm.Cond.instanceMethod ({ cls := "YearSkins", name := "lock", desc := "(III)Z" } : Jvm.MethodName)) ∈ lw_all := lw_g (lw_at lw_m7 111 rfl) rfl
theorem q1677 : (Jvm.Cond.selects "YearSkins" ({ cls := "YearSkins", name := "lock", desc := "(III)Z" } : Jvm.MethodName) ({ cls := "YearSkins", name := "lock", desc := "(III)Z" } : Jvm.MethodName)) ∈ lw_all := lw_g (lw_at lw_m7 112 rfl) rfl
theorem q1678 : (Jvm.Cond.code ({ cls := "YearSkins", name := "lock", desc := "(III)Z" } : Jvm.MethodName) prog_1_method_61_code (4 : Nat) (Option.some Jvm.ClassFile.FieldType.boolean)) ∈ lw_all := lw_g (lw_at lw_m7 113 rfl) rfl
theorem q1680 : (Jvm.Cond.instanceMethod ({ cls := "YearSkins", name := "move", desc := "(II)Z" } : Jvm.MethodName)) ∈ lw_all := lw_g (lw_at lw_m7 115 rfl) rfl
theorem q1681 : (Jvm.Cond.selects "YearSkins" ({ cls := "YearSkins", name := "move", desc := "(II)Z" } : Jvm.MethodName) ({ cls := "YearSkins", name := "move", desc := "(II)Z" } : Jvm.MethodName)) ∈ lw_all := lw_g (lw_at lw_m7 116 rfl) rfl
theorem q1682 : (Jvm.Cond.code ({ cls := "YearSkins", name := "move", desc := "(II)Z" } : Jvm.MethodName) prog_1_method_62_code (4 : Nat) (Option.some Jvm.ClassFile.FieldType.boolean)) ∈ lw_all := lw_g (lw_at lw_m7 117 rfl) rfl
theorem q1684 : (Jvm.Cond.instanceMethod ({ cls := "YearSkins", name := "give", desc := "(III)Z" } : Jvm.MethodName)) ∈ lw_all := lw_g (lw_at lw_m7 119 rfl) rfl
theorem q1685 : (Jvm.Cond.selects "YearSkins" ({ cls := "YearSkins", name := "give", desc := "(III)Z" } : Jvm.MethodName) ({ cls := "YearSkins", name := "give", desc := "(III)Z" } : Jvm.MethodName)) ∈ lw_all := lw_g (lw_at lw_m7 120 rfl) rfl
theorem q1686 : (Jvm.Cond.code ({ cls := "YearSkins", name := "give", desc := "(III)Z" } : Jvm.MethodName) prog_1_method_63_code (5 : Nat) (Option.some Jvm.ClassFile.FieldType.boolean)) ∈ lw_all := lw_g (lw_at lw_m7 121 rfl) rfl
theorem q1688 : (Jvm.Cond.instanceMethod ({ cls := "YearSkins", name := "seed", desc := "(I)Z" } : Jvm.MethodName)) ∈ lw_all := lw_g (lw_at lw_m7 123 rfl) rfl
theorem q1689 : (Jvm.Cond.selects "YearSkins" ({ cls := "YearSkins", name := "seed", desc := "(I)Z" } : Jvm.MethodName) ({ cls := "YearSkins", name := "seed", desc := "(I)Z" } : Jvm.MethodName)) ∈ lw_all := lw_g (lw_at lw_m7 124 rfl) rfl
theorem q1690 : (Jvm.Cond.code ({ cls := "YearSkins", name := "seed", desc := "(I)Z" } : Jvm.MethodName) prog_1_method_64_code (2 : Nat) (Option.some Jvm.ClassFile.FieldType.boolean)) ∈ lw_all := lw_g (lw_at lw_m7 125 rfl) rfl
theorem q1692 : (Jvm.Cond.instanceMethod ({ cls := "YearSkins", name := "undo", desc := "()Z" } : Jvm.MethodName)) ∈ lw_all := lw_g (lw_at lw_m7 127 rfl) rfl
theorem q1693 : (Jvm.Cond.selects "YearSkins" ({ cls := "YearSkins", name := "undo", desc := "()Z" } : Jvm.MethodName) ({ cls := "YearSkins", name := "undo", desc := "()Z" } : Jvm.MethodName)) ∈ lw_all := lw_g (lw_at lw_m7 128 rfl) rfl
theorem q1694 : (Jvm.Cond.code ({ cls := "YearSkins", name := "undo", desc := "()Z" } : Jvm.MethodName) prog_1_method_65_code (1 : Nat) (Option.some Jvm.ClassFile.FieldType.boolean)) ∈ lw_all := lw_g (lw_at lw_m7 129 rfl) rfl
theorem q1696 : (Jvm.Cond.instanceMethod ({ cls := "YearSkins", name := "mark", desc := "()I" } : Jvm.MethodName)) ∈ lw_all := lw_g (lw_at lw_m7 131 rfl) rfl
theorem q1697 : (Jvm.Cond.selects "YearSkins" ({ cls := "YearSkins", name := "mark", desc := "()I" } : Jvm.MethodName) ({ cls := "YearSkins", name := "mark", desc := "()I" } : Jvm.MethodName)) ∈ lw_all := lw_g (lw_at lw_m7 132 rfl) rfl
theorem q1698 : (Jvm.Cond.code ({ cls := "YearSkins", name := "mark", desc := "()I" } : Jvm.MethodName) prog_1_method_66_code (1 : Nat) (Option.some Jvm.ClassFile.FieldType.int)) ∈ lw_all := lw_g (lw_at lw_m7 133 rfl) rfl
theorem q1700 : (Jvm.Cond.instanceMethod ({ cls := "YearSkins", name := "back", desc := "(I)Z" } : Jvm.MethodName)) ∈ lw_all := lw_g (lw_at lw_m7 135 rfl) rfl
theorem q1701 : (Jvm.Cond.selects "YearSkins" ({ cls := "YearSkins", name := "back", desc := "(I)Z" } : Jvm.MethodName) ({ cls := "YearSkins", name := "back", desc := "(I)Z" } : Jvm.MethodName)) ∈ lw_all := lw_g (lw_at lw_m7 136 rfl) rfl
theorem q1702 : (Jvm.Cond.code ({ cls := "YearSkins", name := "back", desc := "(I)Z" } : Jvm.MethodName) prog_1_method_67_code (2 : Nat) (Option.some Jvm.ClassFile.FieldType.boolean)) ∈ lw_all := lw_g (lw_at lw_m7 137 rfl) rfl
theorem q1704 : (Jvm.Cond.instanceMethod ({ cls := "YearSkins", name := "stone", desc := "(II)I" } : Jvm.MethodName)) ∈ lw_all := lw_g (lw_at lw_m7 139 rfl) rfl
theorem q1705 : (Jvm.Cond.selects "YearSkins" ({ cls := "YearSkins", name := "stone", desc := "(II)I" } : Jvm.MethodName) ({ cls := "YearSkins", name := "stone", desc := "(II)I" } : Jvm.MethodName)) ∈ lw_all := lw_g (lw_at lw_m7 140 rfl) rfl
theorem q1706 : (Jvm.Cond.code ({ cls := "YearSkins", name := "stone", desc := "(II)I" } : Jvm.MethodName) prog_1_method_68_code (4 : Nat) (Option.some Jvm.ClassFile.FieldType.int)) ∈ lw_all := lw_g (lw_at lw_m7 141 rfl) rfl
theorem q1707 : (Jvm.Cond.methodLink "YearSkins" (398 : Nat) ({ cls := "YearSkins$Stone", name := "kind", desc := "()I" } : Jvm.MethodName)) ∈ lw_all := lw_g (lw_at lw_m7 142 rfl) rfl
theorem q1720 : (Jvm.Cond.instanceMethod ({ cls := "YearSkins", name := "size", desc := "(I)I" } : Jvm.MethodName)) ∈ lw_all := lw_g (lw_at lw_m7 155 rfl) rfl
theorem q1721 : (Jvm.Cond.selects "YearSkins" ({ cls := "YearSkins", name := "size", desc := "(I)I" } : Jvm.MethodName) ({ cls := "YearSkins", name := "size", desc := "(I)I" } : Jvm.MethodName)) ∈ lw_all := lw_g (lw_at lw_m7 156 rfl) rfl
theorem q1722 : (Jvm.Cond.code ({ cls := "YearSkins", name := "size", desc := "(I)I" } : Jvm.MethodName) prog_1_method_70_code (2 : Nat) (Option.some Jvm.ClassFile.FieldType.int)) ∈ lw_all := lw_g (lw_at lw_m7 157 rfl) rfl
theorem q1724 : (Jvm.Cond.instanceMethod ({ cls := "YearSkins", name := "trouble", desc := "()I" } : Jvm.MethodName)) ∈ lw_all := lw_g (lw_at lw_m7 159 rfl) rfl
theorem q1725 : (Jvm.Cond.selects "YearSkins" ({ cls := "YearSkins", name := "trouble", desc := "()I" } : Jvm.MethodName) ({ cls := "YearSkins", name := "trouble", desc := "()I" } : Jvm.MethodName)) ∈ lw_all := lw_g (lw_at lw_m7 160 rfl) rfl
theorem q1726 : (Jvm.Cond.code ({ cls := "YearSkins", name := "trouble", desc := "()I" } : Jvm.MethodName) prog_1_method_71_code (1 : Nat) (Option.some Jvm.ClassFile.FieldType.int)) ∈ lw_all := lw_g (lw_at lw_m7 161 rfl) rfl
theorem q1732 : (Jvm.Cond.instanceMethod ({ cls := "YearSkins", name := "led", desc := "(I)I" } : Jvm.MethodName)) ∈ lw_all := lw_g (lw_at lw_m7 167 rfl) rfl
theorem q1733 : (Jvm.Cond.selects "YearSkins" ({ cls := "YearSkins", name := "led", desc := "(I)I" } : Jvm.MethodName) ({ cls := "YearSkins", name := "led", desc := "(I)I" } : Jvm.MethodName)) ∈ lw_all := lw_g (lw_at lw_m7 168 rfl) rfl
theorem q1734 : (Jvm.Cond.code ({ cls := "YearSkins", name := "led", desc := "(I)I" } : Jvm.MethodName) prog_1_method_69_code (4 : Nat) (Option.some Jvm.ClassFile.FieldType.int)) ∈ lw_all := lw_g (lw_at lw_m7 169 rfl) rfl
theorem q1735 : (Jvm.Cond.classLink "YearSkins" (409 : Nat) "java/util/NoSuchElementException") ∈ lw_all := lw_g (lw_at lw_m7 170 rfl) rfl
theorem q1744 : (Jvm.Cond.methodLink "YearSkins" (411 : Nat) ({ cls := "java/util/NoSuchElementException", name := "<init>", desc := "()V" } : Jvm.MethodName)) ∈ lw_all := lw_g (lw_at lw_m7 179 rfl) rfl
theorem q2639 : (Jvm.Cond.castable "YearSkins" "java/lang/Object") ∈ lw_tbl := lw_at lw_m11 114 rfl
theorem in_X1 : ∀ w ∈ wsX10, w ∈ lw_all := lw_in wsX10 [478, 480, 482, 484, 486, 488, 490, 492, 494, 496, 498, 500, 502, 504, 506, 508, 510, 512] (by decide +kernel) (by decide +kernel)
