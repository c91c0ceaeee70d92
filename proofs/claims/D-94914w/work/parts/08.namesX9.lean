/-! YearSkinsModel -/
set_option maxRecDepth 100000
def RX9 : String := "YearSkinsModel"
def TX9 : u_T := fun k => match k with
  | 0 => ("YearSkinsModel", "thrown", "I", false)
  | 1 => ("YearSkinsModel", "trouble", "I", false)
  | 2 => ("YearSkinsModel", "where", "I", false)
  | 3 => ("YearSkinsModel", "land", "LYearSkinsModel$Land;", false)
  | 4 => ("YearSkinsModel", "read", "LYearSkinsModel$Land;", false)
  | 5 => ("YearSkinsModel", "tape", "[B", true)
  | 6 => ("YearSkinsModel", "taped", "I", false)
  | 7 => ("YearSkinsModel", "size", "I", false)
  | 8 => ("YearSkinsModel", "spot", "I", false)
  | 9 => ("YearSkinsModel", "sort", "I", false)
  | 10 => ("YearSkinsModel", "place", "I", false)
  | 11 => ("YearSkinsModel", "sign", "I", false)
  | 12 => ("YearSkinsModel", "number", "I", false)
  | 13 => ("YearSkinsModel", "fault", "I", false)
  | 14 => ("YearSkinsModel", "wrongAt", "I", false)
  | 15 => ("YearSkinsModel", "word", "J", false)
  | 16 => ("YearSkinsModel", "v", "[I", true)
  | 17 => ("YearSkinsModel", "w", "[I", true)
  | 18 => ("YearSkinsModel", "past", "[I", true)
  | 19 => ("YearSkinsModel", "kept", "[I", true)
  | 20 => ("YearSkinsModel", "acts", "I", false)
  | 21 => ("YearSkinsModel", "marks", "I", false)
  | 22 => ("YearSkinsModel", "newSide", "I", false)
  | 23 => ("YearSkinsModel", "newPlace", "I", false)
  | 24 => ("YearSkinsModel", "order", "[I", true)
  | 25 => ("YearSkinsModel", "bestOrder", "[I", true)
  | 26 => ("YearSkinsModel", "cost", "[I", true)
  | 27 => ("YearSkinsModel", "outer", "[I", true)
  | 28 => ("YearSkinsModel", "firstMost", "I", false)
  | 29 => ("YearSkinsModel", "row", "[I", true)
  | 30 => ("YearSkinsModel", "soonest", "[I", true)
  | 31 => ("YearSkinsModel", "latest", "[I", true)
  | 32 => ("YearSkinsModel", "ahead", "[I", true)
  | 33 => ("YearSkinsModel", "soonYear", "[I", true)
  | 34 => ("YearSkinsModel", "lateYear", "[I", true)
  | 35 => ("YearSkinsModel", "wanted", "[I", true)
  | _ => ("YearSkinsModel", "many", "I", false)
def tyX9 : Nat → FieldType := fun k => match k with
  | 0 => .int
  | 1 => .int
  | 2 => .int
  | 3 => .object "YearSkinsModel$Land"
  | 4 => .object "YearSkinsModel$Land"
  | 5 => .array .byte
  | 6 => .int
  | 7 => .int
  | 8 => .int
  | 9 => .int
  | 10 => .int
  | 11 => .int
  | 12 => .int
  | 13 => .int
  | 14 => .int
  | 15 => .long
  | 16 => .array .int
  | 17 => .array .int
  | 18 => .array .int
  | 19 => .array .int
  | 20 => .int
  | 21 => .int
  | 22 => .int
  | 23 => .int
  | 24 => .array .int
  | 25 => .array .int
  | 26 => .array .int
  | 27 => .array .int
  | 28 => .int
  | 29 => .array .int
  | 30 => .array .int
  | 31 => .array .int
  | 32 => .array .int
  | 33 => .array .int
  | 34 => .array .int
  | 35 => .array .int
  | _ => .int
abbrev wsX90 : List Cond := u_ws RX9 TX9 37
set_option maxRecDepth 100000 in
theorem nmX9 : ∀ a, a < 37 → ∀ b, b < 37 → a ≠ b → (TX9 a).2.1 ≠ (TX9 b).2.1 := by decide +kernel
set_option maxRecDepth 100000 in
theorem tyX9_ok : ∀ k, k < 37 → parseFieldDescriptor (TX9 k).2.2.1 = some (tyX9 k) := by decide +kernel
abbrev cX9_init : ByteArray := prog_20_method_1_code
def yX9_init : MethodName := ⟨RX9, "<init>", "()V"⟩
def dkwX9_init_5 : List UInt8 := [16, 6, 188, 10, 181, 0, 54, 42, 16, 6, 188, 10, 181, 0, 57, 42, 16, 6, 188, 10, 181, 0, 60, 177]
abbrev dktX9_init_5 : List UInt8 := dkwX9_init_5 ++ []
def dkwX9_init_4 : List UInt8 := [16, 6, 188, 10, 181, 0, 45, 42, 16, 6, 188, 10, 181, 0, 48, 42, 16, 6, 188, 10, 181, 0, 51, 42]
abbrev dktX9_init_4 : List UInt8 := dkwX9_init_4 ++ dktX9_init_5
def dkwX9_init_3 : List UInt8 := [16, 48, 188, 10, 181, 0, 36, 42, 16, 48, 188, 10, 181, 0, 39, 42, 16, 6, 188, 10, 181, 0, 42, 42]
abbrev dktX9_init_3 : List UInt8 := dkwX9_init_3 ++ dktX9_init_4
def dkwX9_init_2 : List UInt8 := [17, 2, 124, 188, 10, 181, 0, 27, 42, 7, 188, 10, 181, 0, 30, 42, 7, 188, 10, 181, 0, 33, 42]
abbrev dktX9_init_2 : List UInt8 := dkwX9_init_2 ++ dktX9_init_3
def dkwX9_init_1 : List UInt8 := [181, 0, 17, 42, 17, 0, 212, 188, 10, 181, 0, 21, 42, 17, 8, 72, 188, 10, 181, 0, 24, 42]
abbrev dktX9_init_1 : List UInt8 := dkwX9_init_1 ++ dktX9_init_2
def dkwX9_init_0 : List UInt8 := [42, 183, 0, 3, 42, 2, 181, 0, 9, 42, 17, 3, 232, 188, 8, 181, 0, 13, 42, 17, 0, 212, 188, 10]
abbrev dktX9_init_0 : List UInt8 := dkwX9_init_0 ++ dktX9_init_1
theorem dksX9_init_0 : cX9_init.data.toList.drop 0 = dktX9_init_0 := by decide +kernel
theorem dksX9_init_1 : cX9_init.data.toList.drop 24 = dktX9_init_1 := dk_seg dksX9_init_0 24 rfl rfl
theorem dksX9_init_2 : cX9_init.data.toList.drop 46 = dktX9_init_2 := dk_seg dksX9_init_1 22 rfl rfl
theorem dksX9_init_3 : cX9_init.data.toList.drop 69 = dktX9_init_3 := dk_seg dksX9_init_2 23 rfl rfl
theorem dksX9_init_4 : cX9_init.data.toList.drop 93 = dktX9_init_4 := dk_seg dksX9_init_3 24 rfl rfl
theorem dksX9_init_5 : cX9_init.data.toList.drop 117 = dktX9_init_5 := dk_seg dksX9_init_4 24 rfl rfl
theorem dX9_init_0 : decode cX9_init 0 = .ok (.aload_n 0, 1) := dk_42 (dk_at dksX9_init_0 0 rfl rfl)
theorem dX9_init_1 : decode cX9_init 1 = .ok (.invokespecial 3, 3) := dk_183 0 3 (dk_at dksX9_init_0 1 rfl rfl)
theorem dX9_init_4 : decode cX9_init 4 = .ok (.aload_n 0, 1) := dk_42 (dk_at dksX9_init_0 4 rfl rfl)
theorem dX9_init_5 : decode cX9_init 5 = .ok (.iconst (-1), 1) := dk_2 (dk_at dksX9_init_0 5 rfl rfl)
theorem dX9_init_6 : decode cX9_init 6 = .ok (.putfield 9, 3) := dk_181 0 9 (dk_at dksX9_init_0 6 rfl rfl)
theorem dX9_init_9 : decode cX9_init 9 = .ok (.aload_n 0, 1) := dk_42 (dk_at dksX9_init_0 9 rfl rfl)
theorem dX9_init_10 : decode cX9_init 10 = .ok (.sipush 1000, 3) := dk_17 3 232 (dk_at dksX9_init_0 10 rfl rfl)
theorem dX9_init_13 : decode cX9_init 13 = .ok (.newarray .byte, 2) := dk_188_8 (dk_at dksX9_init_0 13 rfl rfl)
theorem dX9_init_15 : decode cX9_init 15 = .ok (.putfield 13, 3) := dk_181 0 13 (dk_at dksX9_init_0 15 rfl rfl)
theorem dX9_init_18 : decode cX9_init 18 = .ok (.aload_n 0, 1) := dk_42 (dk_at dksX9_init_0 18 rfl rfl)
theorem dX9_init_19 : decode cX9_init 19 = .ok (.sipush 212, 3) := dk_17 0 212 (dk_at dksX9_init_0 19 rfl rfl)
theorem dX9_init_22 : decode cX9_init 22 = .ok (.newarray .int, 2) := dk_188_10 (dk_at dksX9_init_0 22 rfl rfl)
theorem dX9_init_24 : decode cX9_init 24 = .ok (.putfield 17, 3) := dk_181 0 17 (dk_at dksX9_init_1 0 rfl rfl)
theorem dX9_init_27 : decode cX9_init 27 = .ok (.aload_n 0, 1) := dk_42 (dk_at dksX9_init_1 3 rfl rfl)
theorem dX9_init_28 : decode cX9_init 28 = .ok (.sipush 212, 3) := dk_17 0 212 (dk_at dksX9_init_1 4 rfl rfl)
theorem dX9_init_31 : decode cX9_init 31 = .ok (.newarray .int, 2) := dk_188_10 (dk_at dksX9_init_1 7 rfl rfl)
theorem dX9_init_33 : decode cX9_init 33 = .ok (.putfield 21, 3) := dk_181 0 21 (dk_at dksX9_init_1 9 rfl rfl)
theorem dX9_init_36 : decode cX9_init 36 = .ok (.aload_n 0, 1) := dk_42 (dk_at dksX9_init_1 12 rfl rfl)
theorem dX9_init_37 : decode cX9_init 37 = .ok (.sipush 2120, 3) := dk_17 8 72 (dk_at dksX9_init_1 13 rfl rfl)
theorem dX9_init_40 : decode cX9_init 40 = .ok (.newarray .int, 2) := dk_188_10 (dk_at dksX9_init_1 16 rfl rfl)
theorem dX9_init_42 : decode cX9_init 42 = .ok (.putfield 24, 3) := dk_181 0 24 (dk_at dksX9_init_1 18 rfl rfl)
theorem dX9_init_45 : decode cX9_init 45 = .ok (.aload_n 0, 1) := dk_42 (dk_at dksX9_init_1 21 rfl rfl)
theorem dX9_init_46 : decode cX9_init 46 = .ok (.sipush 636, 3) := dk_17 2 124 (dk_at dksX9_init_2 0 rfl rfl)
theorem dX9_init_49 : decode cX9_init 49 = .ok (.newarray .int, 2) := dk_188_10 (dk_at dksX9_init_2 3 rfl rfl)
theorem dX9_init_51 : decode cX9_init 51 = .ok (.putfield 27, 3) := dk_181 0 27 (dk_at dksX9_init_2 5 rfl rfl)
theorem dX9_init_54 : decode cX9_init 54 = .ok (.aload_n 0, 1) := dk_42 (dk_at dksX9_init_2 8 rfl rfl)
theorem dX9_init_55 : decode cX9_init 55 = .ok (.iconst 4, 1) := dk_7 (dk_at dksX9_init_2 9 rfl rfl)
theorem dX9_init_56 : decode cX9_init 56 = .ok (.newarray .int, 2) := dk_188_10 (dk_at dksX9_init_2 10 rfl rfl)
theorem dX9_init_58 : decode cX9_init 58 = .ok (.putfield 30, 3) := dk_181 0 30 (dk_at dksX9_init_2 12 rfl rfl)
theorem dX9_init_61 : decode cX9_init 61 = .ok (.aload_n 0, 1) := dk_42 (dk_at dksX9_init_2 15 rfl rfl)
theorem dX9_init_62 : decode cX9_init 62 = .ok (.iconst 4, 1) := dk_7 (dk_at dksX9_init_2 16 rfl rfl)
theorem dX9_init_63 : decode cX9_init 63 = .ok (.newarray .int, 2) := dk_188_10 (dk_at dksX9_init_2 17 rfl rfl)
theorem dX9_init_65 : decode cX9_init 65 = .ok (.putfield 33, 3) := dk_181 0 33 (dk_at dksX9_init_2 19 rfl rfl)
theorem dX9_init_68 : decode cX9_init 68 = .ok (.aload_n 0, 1) := dk_42 (dk_at dksX9_init_2 22 rfl rfl)
theorem dX9_init_69 : decode cX9_init 69 = .ok (.bipush 48, 2) := dk_16 48 (dk_at dksX9_init_3 0 rfl rfl)
theorem dX9_init_71 : decode cX9_init 71 = .ok (.newarray .int, 2) := dk_188_10 (dk_at dksX9_init_3 2 rfl rfl)
theorem dX9_init_73 : decode cX9_init 73 = .ok (.putfield 36, 3) := dk_181 0 36 (dk_at dksX9_init_3 4 rfl rfl)
theorem dX9_init_76 : decode cX9_init 76 = .ok (.aload_n 0, 1) := dk_42 (dk_at dksX9_init_3 7 rfl rfl)
theorem dX9_init_77 : decode cX9_init 77 = .ok (.bipush 48, 2) := dk_16 48 (dk_at dksX9_init_3 8 rfl rfl)
theorem dX9_init_79 : decode cX9_init 79 = .ok (.newarray .int, 2) := dk_188_10 (dk_at dksX9_init_3 10 rfl rfl)
theorem dX9_init_81 : decode cX9_init 81 = .ok (.putfield 39, 3) := dk_181 0 39 (dk_at dksX9_init_3 12 rfl rfl)
theorem dX9_init_84 : decode cX9_init 84 = .ok (.aload_n 0, 1) := dk_42 (dk_at dksX9_init_3 15 rfl rfl)
theorem dX9_init_85 : decode cX9_init 85 = .ok (.bipush 6, 2) := dk_16 6 (dk_at dksX9_init_3 16 rfl rfl)
theorem dX9_init_87 : decode cX9_init 87 = .ok (.newarray .int, 2) := dk_188_10 (dk_at dksX9_init_3 18 rfl rfl)
theorem dX9_init_89 : decode cX9_init 89 = .ok (.putfield 42, 3) := dk_181 0 42 (dk_at dksX9_init_3 20 rfl rfl)
theorem dX9_init_92 : decode cX9_init 92 = .ok (.aload_n 0, 1) := dk_42 (dk_at dksX9_init_3 23 rfl rfl)
theorem dX9_init_93 : decode cX9_init 93 = .ok (.bipush 6, 2) := dk_16 6 (dk_at dksX9_init_4 0 rfl rfl)
theorem dX9_init_95 : decode cX9_init 95 = .ok (.newarray .int, 2) := dk_188_10 (dk_at dksX9_init_4 2 rfl rfl)
theorem dX9_init_97 : decode cX9_init 97 = .ok (.putfield 45, 3) := dk_181 0 45 (dk_at dksX9_init_4 4 rfl rfl)
theorem dX9_init_100 : decode cX9_init 100 = .ok (.aload_n 0, 1) := dk_42 (dk_at dksX9_init_4 7 rfl rfl)
theorem dX9_init_101 : decode cX9_init 101 = .ok (.bipush 6, 2) := dk_16 6 (dk_at dksX9_init_4 8 rfl rfl)
theorem dX9_init_103 : decode cX9_init 103 = .ok (.newarray .int, 2) := dk_188_10 (dk_at dksX9_init_4 10 rfl rfl)
theorem dX9_init_105 : decode cX9_init 105 = .ok (.putfield 48, 3) := dk_181 0 48 (dk_at dksX9_init_4 12 rfl rfl)
theorem dX9_init_108 : decode cX9_init 108 = .ok (.aload_n 0, 1) := dk_42 (dk_at dksX9_init_4 15 rfl rfl)
theorem dX9_init_109 : decode cX9_init 109 = .ok (.bipush 6, 2) := dk_16 6 (dk_at dksX9_init_4 16 rfl rfl)
theorem dX9_init_111 : decode cX9_init 111 = .ok (.newarray .int, 2) := dk_188_10 (dk_at dksX9_init_4 18 rfl rfl)
theorem dX9_init_113 : decode cX9_init 113 = .ok (.putfield 51, 3) := dk_181 0 51 (dk_at dksX9_init_4 20 rfl rfl)
theorem dX9_init_116 : decode cX9_init 116 = .ok (.aload_n 0, 1) := dk_42 (dk_at dksX9_init_4 23 rfl rfl)
theorem dX9_init_117 : decode cX9_init 117 = .ok (.bipush 6, 2) := dk_16 6 (dk_at dksX9_init_5 0 rfl rfl)
theorem dX9_init_119 : decode cX9_init 119 = .ok (.newarray .int, 2) := dk_188_10 (dk_at dksX9_init_5 2 rfl rfl)
theorem dX9_init_121 : decode cX9_init 121 = .ok (.putfield 54, 3) := dk_181 0 54 (dk_at dksX9_init_5 4 rfl rfl)
theorem dX9_init_124 : decode cX9_init 124 = .ok (.aload_n 0, 1) := dk_42 (dk_at dksX9_init_5 7 rfl rfl)
theorem dX9_init_125 : decode cX9_init 125 = .ok (.bipush 6, 2) := dk_16 6 (dk_at dksX9_init_5 8 rfl rfl)
theorem dX9_init_127 : decode cX9_init 127 = .ok (.newarray .int, 2) := dk_188_10 (dk_at dksX9_init_5 10 rfl rfl)
theorem dX9_init_129 : decode cX9_init 129 = .ok (.putfield 57, 3) := dk_181 0 57 (dk_at dksX9_init_5 12 rfl rfl)
theorem dX9_init_132 : decode cX9_init 132 = .ok (.aload_n 0, 1) := dk_42 (dk_at dksX9_init_5 15 rfl rfl)
theorem dX9_init_133 : decode cX9_init 133 = .ok (.bipush 6, 2) := dk_16 6 (dk_at dksX9_init_5 16 rfl rfl)
theorem dX9_init_135 : decode cX9_init 135 = .ok (.newarray .int, 2) := dk_188_10 (dk_at dksX9_init_5 18 rfl rfl)
theorem dX9_init_137 : decode cX9_init 137 = .ok (.putfield 60, 3) := dk_181 0 60 (dk_at dksX9_init_5 20 rfl rfl)
theorem dX9_init_140 : decode cX9_init 140 = .ok (.return_, 1) := dk_177 (dk_at dksX9_init_5 23 rfl rfl)
abbrev cX9_thrown : ByteArray := prog_20_method_2_code
def yX9_thrown : MethodName := ⟨RX9, "thrown", "()I"⟩
theorem dX9_thrown_0 : decode cX9_thrown 0 = .ok (.aload_n 0, 1) := by decide +kernel
theorem dX9_thrown_1 : decode cX9_thrown 1 = .ok (.getfield 63, 3) := by decide +kernel
theorem dX9_thrown_4 : decode cX9_thrown 4 = .ok (.ireturn, 1) := by decide +kernel
abbrev cX9_feed : ByteArray := prog_20_method_43_code
def yX9_feed : MethodName := ⟨RX9, "feed", "(IIIII)I"⟩
def dkwX9_feed_5 : List UInt8 := [180, 1, 154, 172]
abbrev dktX9_feed_5 : List UInt8 := dkwX9_feed_5 ++ []
def dkwX9_feed_4 : List UInt8 := [112, 104, 100, 122, 145, 84, 42, 89, 180, 1, 154, 4, 96, 181, 1, 154, 132, 6, 1, 167, 255, 165, 42]
abbrev dktX9_feed_4 : List UInt8 := dkwX9_feed_4 ++ dktX9_feed_5
def dkwX9_feed_3 : List UInt8 := [167, 0, 5, 21, 5, 54, 7, 42, 180, 0, 13, 42, 180, 1, 154, 21, 7, 16, 24, 16, 8, 21, 6, 7]
abbrev dktX9_feed_3 : List UInt8 := dkwX9_feed_3 ++ dktX9_feed_4
def dkwX9_feed_2 : List UInt8 := [28, 167, 0, 28, 21, 6, 16, 12, 162, 0, 7, 29, 167, 0, 17, 21, 6, 16, 16, 162, 0, 8, 21, 4]
abbrev dktX9_feed_2 : List UInt8 := dkwX9_feed_2 ++ dktX9_feed_3
def dkwX9_feed_1 : List UInt8 := [21, 6, 16, 20, 162, 0, 90, 21, 6, 7, 162, 0, 7, 27, 167, 0, 39, 21, 6, 16, 8, 162, 0, 7]
abbrev dktX9_feed_1 : List UInt8 := dkwX9_feed_1 ++ dktX9_feed_2
def dkwX9_feed_0 : List UInt8 := [42, 3, 181, 0, 63, 42, 180, 1, 154, 16, 20, 96, 17, 3, 232, 164, 0, 5, 2, 172, 3, 54, 6]
abbrev dktX9_feed_0 : List UInt8 := dkwX9_feed_0 ++ dktX9_feed_1
theorem dksX9_feed_0 : cX9_feed.data.toList.drop 0 = dktX9_feed_0 := by decide +kernel
theorem dksX9_feed_1 : cX9_feed.data.toList.drop 23 = dktX9_feed_1 := dk_seg dksX9_feed_0 23 rfl rfl
theorem dksX9_feed_2 : cX9_feed.data.toList.drop 47 = dktX9_feed_2 := dk_seg dksX9_feed_1 24 rfl rfl
theorem dksX9_feed_3 : cX9_feed.data.toList.drop 71 = dktX9_feed_3 := dk_seg dksX9_feed_2 24 rfl rfl
theorem dksX9_feed_4 : cX9_feed.data.toList.drop 95 = dktX9_feed_4 := dk_seg dksX9_feed_3 24 rfl rfl
theorem dksX9_feed_5 : cX9_feed.data.toList.drop 118 = dktX9_feed_5 := dk_seg dksX9_feed_4 23 rfl rfl
theorem dX9_feed_0 : decode cX9_feed 0 = .ok (.aload_n 0, 1) := dk_42 (dk_at dksX9_feed_0 0 rfl rfl)
theorem dX9_feed_1 : decode cX9_feed 1 = .ok (.iconst 0, 1) := dk_3 (dk_at dksX9_feed_0 1 rfl rfl)
theorem dX9_feed_2 : decode cX9_feed 2 = .ok (.putfield 63, 3) := dk_181 0 63 (dk_at dksX9_feed_0 2 rfl rfl)
theorem dX9_feed_5 : decode cX9_feed 5 = .ok (.aload_n 0, 1) := dk_42 (dk_at dksX9_feed_0 5 rfl rfl)
theorem dX9_feed_6 : decode cX9_feed 6 = .ok (.getfield 410, 3) := dk_180 1 154 (dk_at dksX9_feed_0 6 rfl rfl)
theorem dX9_feed_9 : decode cX9_feed 9 = .ok (.bipush 20, 2) := dk_16 20 (dk_at dksX9_feed_0 9 rfl rfl)
theorem dX9_feed_11 : decode cX9_feed 11 = .ok (.iadd, 1) := dk_96 (dk_at dksX9_feed_0 11 rfl rfl)
theorem dX9_feed_12 : decode cX9_feed 12 = .ok (.sipush 1000, 3) := dk_17 3 232 (dk_at dksX9_feed_0 12 rfl rfl)
theorem dX9_feed_15 : decode cX9_feed 15 = .ok (.if_icmp .le 5, 3) := dk_164 0 5 (dk_at dksX9_feed_0 15 rfl rfl)
theorem dX9_feed_18 : decode cX9_feed 18 = .ok (.iconst (-1), 1) := dk_2 (dk_at dksX9_feed_0 18 rfl rfl)
theorem dX9_feed_19 : decode cX9_feed 19 = .ok (.ireturn, 1) := dk_172 (dk_at dksX9_feed_0 19 rfl rfl)
theorem dX9_feed_20 : decode cX9_feed 20 = .ok (.iconst 0, 1) := dk_3 (dk_at dksX9_feed_0 20 rfl rfl)
theorem dX9_feed_21 : decode cX9_feed 21 = .ok (.istore 6, 2) := dk_54 6 (dk_at dksX9_feed_0 21 rfl rfl)
theorem dX9_feed_23 : decode cX9_feed 23 = .ok (.iload 6, 2) := dk_21 6 (dk_at dksX9_feed_1 0 rfl rfl)
theorem dX9_feed_25 : decode cX9_feed 25 = .ok (.bipush 20, 2) := dk_16 20 (dk_at dksX9_feed_1 2 rfl rfl)
theorem dX9_feed_27 : decode cX9_feed 27 = .ok (.if_icmp .ge 90, 3) := dk_162 0 90 (dk_at dksX9_feed_1 4 rfl rfl)
theorem dX9_feed_30 : decode cX9_feed 30 = .ok (.iload 6, 2) := dk_21 6 (dk_at dksX9_feed_1 7 rfl rfl)
theorem dX9_feed_32 : decode cX9_feed 32 = .ok (.iconst 4, 1) := dk_7 (dk_at dksX9_feed_1 9 rfl rfl)
theorem dX9_feed_33 : decode cX9_feed 33 = .ok (.if_icmp .ge 7, 3) := dk_162 0 7 (dk_at dksX9_feed_1 10 rfl rfl)
theorem dX9_feed_36 : decode cX9_feed 36 = .ok (.iload_n 1, 1) := dk_27 (dk_at dksX9_feed_1 13 rfl rfl)
theorem dX9_feed_37 : decode cX9_feed 37 = .ok (.goto 39, 3) := dk_167 0 39 (dk_at dksX9_feed_1 14 rfl rfl)
theorem dX9_feed_40 : decode cX9_feed 40 = .ok (.iload 6, 2) := dk_21 6 (dk_at dksX9_feed_1 17 rfl rfl)
theorem dX9_feed_42 : decode cX9_feed 42 = .ok (.bipush 8, 2) := dk_16 8 (dk_at dksX9_feed_1 19 rfl rfl)
theorem dX9_feed_44 : decode cX9_feed 44 = .ok (.if_icmp .ge 7, 3) := dk_162 0 7 (dk_at dksX9_feed_1 21 rfl rfl)
theorem dX9_feed_47 : decode cX9_feed 47 = .ok (.iload_n 2, 1) := dk_28 (dk_at dksX9_feed_2 0 rfl rfl)
theorem dX9_feed_48 : decode cX9_feed 48 = .ok (.goto 28, 3) := dk_167 0 28 (dk_at dksX9_feed_2 1 rfl rfl)
theorem dX9_feed_51 : decode cX9_feed 51 = .ok (.iload 6, 2) := dk_21 6 (dk_at dksX9_feed_2 4 rfl rfl)
theorem dX9_feed_53 : decode cX9_feed 53 = .ok (.bipush 12, 2) := dk_16 12 (dk_at dksX9_feed_2 6 rfl rfl)
theorem dX9_feed_55 : decode cX9_feed 55 = .ok (.if_icmp .ge 7, 3) := dk_162 0 7 (dk_at dksX9_feed_2 8 rfl rfl)
theorem dX9_feed_58 : decode cX9_feed 58 = .ok (.iload_n 3, 1) := dk_29 (dk_at dksX9_feed_2 11 rfl rfl)
theorem dX9_feed_59 : decode cX9_feed 59 = .ok (.goto 17, 3) := dk_167 0 17 (dk_at dksX9_feed_2 12 rfl rfl)
theorem dX9_feed_62 : decode cX9_feed 62 = .ok (.iload 6, 2) := dk_21 6 (dk_at dksX9_feed_2 15 rfl rfl)
theorem dX9_feed_64 : decode cX9_feed 64 = .ok (.bipush 16, 2) := dk_16 16 (dk_at dksX9_feed_2 17 rfl rfl)
theorem dX9_feed_66 : decode cX9_feed 66 = .ok (.if_icmp .ge 8, 3) := dk_162 0 8 (dk_at dksX9_feed_2 19 rfl rfl)
theorem dX9_feed_69 : decode cX9_feed 69 = .ok (.iload 4, 2) := dk_21 4 (dk_at dksX9_feed_2 22 rfl rfl)
theorem dX9_feed_71 : decode cX9_feed 71 = .ok (.goto 5, 3) := dk_167 0 5 (dk_at dksX9_feed_3 0 rfl rfl)
theorem dX9_feed_74 : decode cX9_feed 74 = .ok (.iload 5, 2) := dk_21 5 (dk_at dksX9_feed_3 3 rfl rfl)
theorem dX9_feed_76 : decode cX9_feed 76 = .ok (.istore 7, 2) := dk_54 7 (dk_at dksX9_feed_3 5 rfl rfl)
theorem dX9_feed_78 : decode cX9_feed 78 = .ok (.aload_n 0, 1) := dk_42 (dk_at dksX9_feed_3 7 rfl rfl)
theorem dX9_feed_79 : decode cX9_feed 79 = .ok (.getfield 13, 3) := dk_180 0 13 (dk_at dksX9_feed_3 8 rfl rfl)
theorem dX9_feed_82 : decode cX9_feed 82 = .ok (.aload_n 0, 1) := dk_42 (dk_at dksX9_feed_3 11 rfl rfl)
theorem dX9_feed_83 : decode cX9_feed 83 = .ok (.getfield 410, 3) := dk_180 1 154 (dk_at dksX9_feed_3 12 rfl rfl)
theorem dX9_feed_86 : decode cX9_feed 86 = .ok (.iload 7, 2) := dk_21 7 (dk_at dksX9_feed_3 15 rfl rfl)
theorem dX9_feed_88 : decode cX9_feed 88 = .ok (.bipush 24, 2) := dk_16 24 (dk_at dksX9_feed_3 17 rfl rfl)
theorem dX9_feed_90 : decode cX9_feed 90 = .ok (.bipush 8, 2) := dk_16 8 (dk_at dksX9_feed_3 19 rfl rfl)
theorem dX9_feed_92 : decode cX9_feed 92 = .ok (.iload 6, 2) := dk_21 6 (dk_at dksX9_feed_3 21 rfl rfl)
theorem dX9_feed_94 : decode cX9_feed 94 = .ok (.iconst 4, 1) := dk_7 (dk_at dksX9_feed_3 23 rfl rfl)
theorem dX9_feed_95 : decode cX9_feed 95 = .ok (.irem, 1) := dk_112 (dk_at dksX9_feed_4 0 rfl rfl)
theorem dX9_feed_96 : decode cX9_feed 96 = .ok (.imul, 1) := dk_104 (dk_at dksX9_feed_4 1 rfl rfl)
theorem dX9_feed_97 : decode cX9_feed 97 = .ok (.isub, 1) := dk_100 (dk_at dksX9_feed_4 2 rfl rfl)
theorem dX9_feed_98 : decode cX9_feed 98 = .ok (.ishr, 1) := dk_122 (dk_at dksX9_feed_4 3 rfl rfl)
theorem dX9_feed_99 : decode cX9_feed 99 = .ok (.i2b, 1) := dk_145 (dk_at dksX9_feed_4 4 rfl rfl)
theorem dX9_feed_100 : decode cX9_feed 100 = .ok (.bastore, 1) := dk_84 (dk_at dksX9_feed_4 5 rfl rfl)
theorem dX9_feed_101 : decode cX9_feed 101 = .ok (.aload_n 0, 1) := dk_42 (dk_at dksX9_feed_4 6 rfl rfl)
theorem dX9_feed_102 : decode cX9_feed 102 = .ok (.dup, 1) := dk_89 (dk_at dksX9_feed_4 7 rfl rfl)
theorem dX9_feed_103 : decode cX9_feed 103 = .ok (.getfield 410, 3) := dk_180 1 154 (dk_at dksX9_feed_4 8 rfl rfl)
theorem dX9_feed_106 : decode cX9_feed 106 = .ok (.iconst 1, 1) := dk_4 (dk_at dksX9_feed_4 11 rfl rfl)
theorem dX9_feed_107 : decode cX9_feed 107 = .ok (.iadd, 1) := dk_96 (dk_at dksX9_feed_4 12 rfl rfl)
theorem dX9_feed_108 : decode cX9_feed 108 = .ok (.putfield 410, 3) := dk_181 1 154 (dk_at dksX9_feed_4 13 rfl rfl)
theorem dX9_feed_111 : decode cX9_feed 111 = .ok (.iinc 6 1, 3) := dk_132 6 1 (dk_at dksX9_feed_4 16 rfl rfl)
theorem dX9_feed_114 : decode cX9_feed 114 = .ok (.goto (-91), 3) := dk_167 255 165 (dk_at dksX9_feed_4 19 rfl rfl)
theorem dX9_feed_117 : decode cX9_feed 117 = .ok (.aload_n 0, 1) := dk_42 (dk_at dksX9_feed_4 22 rfl rfl)
theorem dX9_feed_118 : decode cX9_feed 118 = .ok (.getfield 410, 3) := dk_180 1 154 (dk_at dksX9_feed_5 0 rfl rfl)
theorem dX9_feed_121 : decode cX9_feed 121 = .ok (.ireturn, 1) := dk_172 (dk_at dksX9_feed_5 3 rfl rfl)
abbrev cX9_land : ByteArray := prog_20_method_44_code
def yX9_land : MethodName := ⟨RX9, "land", "(I)I"⟩
def dkwX9_land_7 : List UInt8 := [172]
abbrev dktX9_land_7 : List UInt8 := dkwX9_land_7 ++ []
def dkwX9_land_6 : List UInt8 := [167, 255, 231, 42, 3, 181, 1, 163, 42, 3, 181, 1, 166, 42, 42, 180, 1, 161, 180, 0, 229, 182, 0, 73]
abbrev dktX9_land_6 : List UInt8 := dkwX9_land_6 ++ dktX9_land_7
def dkwX9_land_5 : List UInt8 := [17, 0, 212, 162, 0, 24, 42, 180, 0, 17, 28, 42, 180, 1, 161, 180, 1, 89, 28, 46, 79, 132, 2, 1]
abbrev dktX9_land_5 : List UInt8 := dkwX9_land_5 ++ dktX9_land_6
def dkwX9_land_4 : List UInt8 := [181, 1, 161, 42, 180, 1, 161, 180, 1, 89, 17, 0, 210, 42, 180, 1, 161, 180, 0, 223, 79, 3, 61, 28]
abbrev dktX9_land_4 : List UInt8 := dkwX9_land_4 ++ dktX9_land_5
def dkwX9_land_3 : List UInt8 := [158, 0, 18, 42, 7, 181, 0, 66, 42, 42, 180, 0, 123, 181, 0, 9, 2, 172, 42, 42, 180, 0, 156]
abbrev dktX9_land_3 : List UInt8 := dkwX9_land_3 ++ dktX9_land_4
def dkwX9_land_2 : List UInt8 := [183, 1, 157, 181, 0, 156, 42, 3, 181, 0, 91, 42, 182, 0, 130, 42, 182, 1, 158, 42, 180, 0, 120]
abbrev dktX9_land_2 : List UInt8 := dkwX9_land_2 ++ dktX9_land_3
def dkwX9_land_1 : List UInt8 := [27, 181, 0, 76, 42, 3, 181, 1, 154, 42, 3, 181, 0, 94, 42, 3, 181, 0, 120, 42, 187, 0, 161, 89]
abbrev dktX9_land_1 : List UInt8 := dkwX9_land_1 ++ dktX9_land_2
def dkwX9_land_0 : List UInt8 := [42, 3, 181, 0, 63, 27, 155, 0, 11, 27, 42, 180, 1, 154, 164, 0, 9, 42, 5, 182, 0, 69, 172, 42]
abbrev dktX9_land_0 : List UInt8 := dkwX9_land_0 ++ dktX9_land_1
theorem dksX9_land_0 : cX9_land.data.toList.drop 0 = dktX9_land_0 := by decide +kernel
theorem dksX9_land_1 : cX9_land.data.toList.drop 24 = dktX9_land_1 := dk_seg dksX9_land_0 24 rfl rfl
theorem dksX9_land_2 : cX9_land.data.toList.drop 48 = dktX9_land_2 := dk_seg dksX9_land_1 24 rfl rfl
theorem dksX9_land_3 : cX9_land.data.toList.drop 71 = dktX9_land_3 := dk_seg dksX9_land_2 23 rfl rfl
theorem dksX9_land_4 : cX9_land.data.toList.drop 94 = dktX9_land_4 := dk_seg dksX9_land_3 23 rfl rfl
theorem dksX9_land_5 : cX9_land.data.toList.drop 118 = dktX9_land_5 := dk_seg dksX9_land_4 24 rfl rfl
theorem dksX9_land_6 : cX9_land.data.toList.drop 142 = dktX9_land_6 := dk_seg dksX9_land_5 24 rfl rfl
theorem dksX9_land_7 : cX9_land.data.toList.drop 166 = dktX9_land_7 := dk_seg dksX9_land_6 24 rfl rfl
theorem dX9_land_0 : decode cX9_land 0 = .ok (.aload_n 0, 1) := dk_42 (dk_at dksX9_land_0 0 rfl rfl)
theorem dX9_land_1 : decode cX9_land 1 = .ok (.iconst 0, 1) := dk_3 (dk_at dksX9_land_0 1 rfl rfl)
theorem dX9_land_2 : decode cX9_land 2 = .ok (.putfield 63, 3) := dk_181 0 63 (dk_at dksX9_land_0 2 rfl rfl)
theorem dX9_land_5 : decode cX9_land 5 = .ok (.iload_n 1, 1) := dk_27 (dk_at dksX9_land_0 5 rfl rfl)
theorem dX9_land_6 : decode cX9_land 6 = .ok (.ifCond .lt 11, 3) := dk_155 0 11 (dk_at dksX9_land_0 6 rfl rfl)
theorem dX9_land_9 : decode cX9_land 9 = .ok (.iload_n 1, 1) := dk_27 (dk_at dksX9_land_0 9 rfl rfl)
theorem dX9_land_10 : decode cX9_land 10 = .ok (.aload_n 0, 1) := dk_42 (dk_at dksX9_land_0 10 rfl rfl)
theorem dX9_land_11 : decode cX9_land 11 = .ok (.getfield 410, 3) := dk_180 1 154 (dk_at dksX9_land_0 11 rfl rfl)
theorem dX9_land_14 : decode cX9_land 14 = .ok (.if_icmp .le 9, 3) := dk_164 0 9 (dk_at dksX9_land_0 14 rfl rfl)
theorem dX9_land_17 : decode cX9_land 17 = .ok (.aload_n 0, 1) := dk_42 (dk_at dksX9_land_0 17 rfl rfl)
theorem dX9_land_18 : decode cX9_land 18 = .ok (.iconst 2, 1) := dk_5 (dk_at dksX9_land_0 18 rfl rfl)
theorem dX9_land_19 : decode cX9_land 19 = .ok (.invokevirtual 69, 3) := dk_182 0 69 (dk_at dksX9_land_0 19 rfl rfl)
theorem dX9_land_22 : decode cX9_land 22 = .ok (.ireturn, 1) := dk_172 (dk_at dksX9_land_0 22 rfl rfl)
theorem dX9_land_23 : decode cX9_land 23 = .ok (.aload_n 0, 1) := dk_42 (dk_at dksX9_land_0 23 rfl rfl)
theorem dX9_land_24 : decode cX9_land 24 = .ok (.iload_n 1, 1) := dk_27 (dk_at dksX9_land_1 0 rfl rfl)
theorem dX9_land_25 : decode cX9_land 25 = .ok (.putfield 76, 3) := dk_181 0 76 (dk_at dksX9_land_1 1 rfl rfl)
theorem dX9_land_28 : decode cX9_land 28 = .ok (.aload_n 0, 1) := dk_42 (dk_at dksX9_land_1 4 rfl rfl)
theorem dX9_land_29 : decode cX9_land 29 = .ok (.iconst 0, 1) := dk_3 (dk_at dksX9_land_1 5 rfl rfl)
theorem dX9_land_30 : decode cX9_land 30 = .ok (.putfield 410, 3) := dk_181 1 154 (dk_at dksX9_land_1 6 rfl rfl)
theorem dX9_land_33 : decode cX9_land 33 = .ok (.aload_n 0, 1) := dk_42 (dk_at dksX9_land_1 9 rfl rfl)
theorem dX9_land_34 : decode cX9_land 34 = .ok (.iconst 0, 1) := dk_3 (dk_at dksX9_land_1 10 rfl rfl)
theorem dX9_land_35 : decode cX9_land 35 = .ok (.putfield 94, 3) := dk_181 0 94 (dk_at dksX9_land_1 11 rfl rfl)
theorem dX9_land_38 : decode cX9_land 38 = .ok (.aload_n 0, 1) := dk_42 (dk_at dksX9_land_1 14 rfl rfl)
theorem dX9_land_39 : decode cX9_land 39 = .ok (.iconst 0, 1) := dk_3 (dk_at dksX9_land_1 15 rfl rfl)
theorem dX9_land_40 : decode cX9_land 40 = .ok (.putfield 120, 3) := dk_181 0 120 (dk_at dksX9_land_1 16 rfl rfl)
theorem dX9_land_43 : decode cX9_land 43 = .ok (.aload_n 0, 1) := dk_42 (dk_at dksX9_land_1 19 rfl rfl)
theorem dX9_land_44 : decode cX9_land 44 = .ok (.new 161, 3) := dk_187 0 161 (dk_at dksX9_land_1 20 rfl rfl)
theorem dX9_land_47 : decode cX9_land 47 = .ok (.dup, 1) := dk_89 (dk_at dksX9_land_1 23 rfl rfl)
theorem dX9_land_48 : decode cX9_land 48 = .ok (.invokespecial 413, 3) := dk_183 1 157 (dk_at dksX9_land_2 0 rfl rfl)
theorem dX9_land_51 : decode cX9_land 51 = .ok (.putfield 156, 3) := dk_181 0 156 (dk_at dksX9_land_2 3 rfl rfl)
theorem dX9_land_54 : decode cX9_land 54 = .ok (.aload_n 0, 1) := dk_42 (dk_at dksX9_land_2 6 rfl rfl)
theorem dX9_land_55 : decode cX9_land 55 = .ok (.iconst 0, 1) := dk_3 (dk_at dksX9_land_2 7 rfl rfl)
theorem dX9_land_56 : decode cX9_land 56 = .ok (.putfield 91, 3) := dk_181 0 91 (dk_at dksX9_land_2 8 rfl rfl)
theorem dX9_land_59 : decode cX9_land 59 = .ok (.aload_n 0, 1) := dk_42 (dk_at dksX9_land_2 11 rfl rfl)
theorem dX9_land_60 : decode cX9_land 60 = .ok (.invokevirtual 130, 3) := dk_182 0 130 (dk_at dksX9_land_2 12 rfl rfl)
theorem dX9_land_63 : decode cX9_land 63 = .ok (.aload_n 0, 1) := dk_42 (dk_at dksX9_land_2 15 rfl rfl)
theorem dX9_land_64 : decode cX9_land 64 = .ok (.invokevirtual 414, 3) := dk_182 1 158 (dk_at dksX9_land_2 16 rfl rfl)
theorem dX9_land_67 : decode cX9_land 67 = .ok (.aload_n 0, 1) := dk_42 (dk_at dksX9_land_2 19 rfl rfl)
theorem dX9_land_68 : decode cX9_land 68 = .ok (.getfield 120, 3) := dk_180 0 120 (dk_at dksX9_land_2 20 rfl rfl)
theorem dX9_land_71 : decode cX9_land 71 = .ok (.ifCond .le 18, 3) := dk_158 0 18 (dk_at dksX9_land_3 0 rfl rfl)
theorem dX9_land_74 : decode cX9_land 74 = .ok (.aload_n 0, 1) := dk_42 (dk_at dksX9_land_3 3 rfl rfl)
theorem dX9_land_75 : decode cX9_land 75 = .ok (.iconst 4, 1) := dk_7 (dk_at dksX9_land_3 4 rfl rfl)
theorem dX9_land_76 : decode cX9_land 76 = .ok (.putfield 66, 3) := dk_181 0 66 (dk_at dksX9_land_3 5 rfl rfl)
theorem dX9_land_79 : decode cX9_land 79 = .ok (.aload_n 0, 1) := dk_42 (dk_at dksX9_land_3 8 rfl rfl)
theorem dX9_land_80 : decode cX9_land 80 = .ok (.aload_n 0, 1) := dk_42 (dk_at dksX9_land_3 9 rfl rfl)
theorem dX9_land_81 : decode cX9_land 81 = .ok (.getfield 123, 3) := dk_180 0 123 (dk_at dksX9_land_3 10 rfl rfl)
theorem dX9_land_84 : decode cX9_land 84 = .ok (.putfield 9, 3) := dk_181 0 9 (dk_at dksX9_land_3 13 rfl rfl)
theorem dX9_land_87 : decode cX9_land 87 = .ok (.iconst (-1), 1) := dk_2 (dk_at dksX9_land_3 16 rfl rfl)
theorem dX9_land_88 : decode cX9_land 88 = .ok (.ireturn, 1) := dk_172 (dk_at dksX9_land_3 17 rfl rfl)
theorem dX9_land_89 : decode cX9_land 89 = .ok (.aload_n 0, 1) := dk_42 (dk_at dksX9_land_3 18 rfl rfl)
theorem dX9_land_90 : decode cX9_land 90 = .ok (.aload_n 0, 1) := dk_42 (dk_at dksX9_land_3 19 rfl rfl)
theorem dX9_land_91 : decode cX9_land 91 = .ok (.getfield 156, 3) := dk_180 0 156 (dk_at dksX9_land_3 20 rfl rfl)
theorem dX9_land_94 : decode cX9_land 94 = .ok (.putfield 417, 3) := dk_181 1 161 (dk_at dksX9_land_4 0 rfl rfl)
theorem dX9_land_97 : decode cX9_land 97 = .ok (.aload_n 0, 1) := dk_42 (dk_at dksX9_land_4 3 rfl rfl)
theorem dX9_land_98 : decode cX9_land 98 = .ok (.getfield 417, 3) := dk_180 1 161 (dk_at dksX9_land_4 4 rfl rfl)
theorem dX9_land_101 : decode cX9_land 101 = .ok (.getfield 345, 3) := dk_180 1 89 (dk_at dksX9_land_4 7 rfl rfl)
theorem dX9_land_104 : decode cX9_land 104 = .ok (.sipush 210, 3) := dk_17 0 210 (dk_at dksX9_land_4 10 rfl rfl)
theorem dX9_land_107 : decode cX9_land 107 = .ok (.aload_n 0, 1) := dk_42 (dk_at dksX9_land_4 13 rfl rfl)
theorem dX9_land_108 : decode cX9_land 108 = .ok (.getfield 417, 3) := dk_180 1 161 (dk_at dksX9_land_4 14 rfl rfl)
theorem dX9_land_111 : decode cX9_land 111 = .ok (.getfield 223, 3) := dk_180 0 223 (dk_at dksX9_land_4 17 rfl rfl)
theorem dX9_land_114 : decode cX9_land 114 = .ok (.iastore, 1) := dk_79 (dk_at dksX9_land_4 20 rfl rfl)
theorem dX9_land_115 : decode cX9_land 115 = .ok (.iconst 0, 1) := dk_3 (dk_at dksX9_land_4 21 rfl rfl)
theorem dX9_land_116 : decode cX9_land 116 = .ok (.istore_n 2, 1) := dk_61 (dk_at dksX9_land_4 22 rfl rfl)
theorem dX9_land_117 : decode cX9_land 117 = .ok (.iload_n 2, 1) := dk_28 (dk_at dksX9_land_4 23 rfl rfl)
theorem dX9_land_118 : decode cX9_land 118 = .ok (.sipush 212, 3) := dk_17 0 212 (dk_at dksX9_land_5 0 rfl rfl)
theorem dX9_land_121 : decode cX9_land 121 = .ok (.if_icmp .ge 24, 3) := dk_162 0 24 (dk_at dksX9_land_5 3 rfl rfl)
theorem dX9_land_124 : decode cX9_land 124 = .ok (.aload_n 0, 1) := dk_42 (dk_at dksX9_land_5 6 rfl rfl)
theorem dX9_land_125 : decode cX9_land 125 = .ok (.getfield 17, 3) := dk_180 0 17 (dk_at dksX9_land_5 7 rfl rfl)
theorem dX9_land_128 : decode cX9_land 128 = .ok (.iload_n 2, 1) := dk_28 (dk_at dksX9_land_5 10 rfl rfl)
theorem dX9_land_129 : decode cX9_land 129 = .ok (.aload_n 0, 1) := dk_42 (dk_at dksX9_land_5 11 rfl rfl)
theorem dX9_land_130 : decode cX9_land 130 = .ok (.getfield 417, 3) := dk_180 1 161 (dk_at dksX9_land_5 12 rfl rfl)
theorem dX9_land_133 : decode cX9_land 133 = .ok (.getfield 345, 3) := dk_180 1 89 (dk_at dksX9_land_5 15 rfl rfl)
theorem dX9_land_136 : decode cX9_land 136 = .ok (.iload_n 2, 1) := dk_28 (dk_at dksX9_land_5 18 rfl rfl)
theorem dX9_land_137 : decode cX9_land 137 = .ok (.iaload, 1) := dk_46 (dk_at dksX9_land_5 19 rfl rfl)
theorem dX9_land_138 : decode cX9_land 138 = .ok (.iastore, 1) := dk_79 (dk_at dksX9_land_5 20 rfl rfl)
theorem dX9_land_139 : decode cX9_land 139 = .ok (.iinc 2 1, 3) := dk_132 2 1 (dk_at dksX9_land_5 21 rfl rfl)
theorem dX9_land_142 : decode cX9_land 142 = .ok (.goto (-25), 3) := dk_167 255 231 (dk_at dksX9_land_6 0 rfl rfl)
theorem dX9_land_145 : decode cX9_land 145 = .ok (.aload_n 0, 1) := dk_42 (dk_at dksX9_land_6 3 rfl rfl)
theorem dX9_land_146 : decode cX9_land 146 = .ok (.iconst 0, 1) := dk_3 (dk_at dksX9_land_6 4 rfl rfl)
theorem dX9_land_147 : decode cX9_land 147 = .ok (.putfield 419, 3) := dk_181 1 163 (dk_at dksX9_land_6 5 rfl rfl)
theorem dX9_land_150 : decode cX9_land 150 = .ok (.aload_n 0, 1) := dk_42 (dk_at dksX9_land_6 8 rfl rfl)
theorem dX9_land_151 : decode cX9_land 151 = .ok (.iconst 0, 1) := dk_3 (dk_at dksX9_land_6 9 rfl rfl)
theorem dX9_land_152 : decode cX9_land 152 = .ok (.putfield 422, 3) := dk_181 1 166 (dk_at dksX9_land_6 10 rfl rfl)
theorem dX9_land_155 : decode cX9_land 155 = .ok (.aload_n 0, 1) := dk_42 (dk_at dksX9_land_6 13 rfl rfl)
theorem dX9_land_156 : decode cX9_land 156 = .ok (.aload_n 0, 1) := dk_42 (dk_at dksX9_land_6 14 rfl rfl)
theorem dX9_land_157 : decode cX9_land 157 = .ok (.getfield 417, 3) := dk_180 1 161 (dk_at dksX9_land_6 15 rfl rfl)
theorem dX9_land_160 : decode cX9_land 160 = .ok (.getfield 229, 3) := dk_180 0 229 (dk_at dksX9_land_6 18 rfl rfl)
theorem dX9_land_163 : decode cX9_land 163 = .ok (.invokevirtual 73, 3) := dk_182 0 73 (dk_at dksX9_land_6 21 rfl rfl)
theorem dX9_land_166 : decode cX9_land 166 = .ok (.ireturn, 1) := dk_172 (dk_at dksX9_land_7 0 rfl rfl)
abbrev cX9_refused : ByteArray := prog_20_method_3_code
def yX9_refused : MethodName := ⟨RX9, "refused", "(I)I"⟩
def dkwX9_refused_0 : List UInt8 := [42, 27, 181, 0, 66, 42, 2, 181, 0, 9, 2, 172]
abbrev dktX9_refused_0 : List UInt8 := dkwX9_refused_0 ++ []
theorem dksX9_refused_0 : cX9_refused.data.toList.drop 0 = dktX9_refused_0 := by decide +kernel
theorem dX9_refused_0 : decode cX9_refused 0 = .ok (.aload_n 0, 1) := dk_42 (dk_at dksX9_refused_0 0 rfl rfl)
theorem dX9_refused_1 : decode cX9_refused 1 = .ok (.iload_n 1, 1) := dk_27 (dk_at dksX9_refused_0 1 rfl rfl)
theorem dX9_refused_2 : decode cX9_refused 2 = .ok (.putfield 66, 3) := dk_181 0 66 (dk_at dksX9_refused_0 2 rfl rfl)
theorem dX9_refused_5 : decode cX9_refused 5 = .ok (.aload_n 0, 1) := dk_42 (dk_at dksX9_refused_0 5 rfl rfl)
theorem dX9_refused_6 : decode cX9_refused 6 = .ok (.iconst (-1), 1) := dk_2 (dk_at dksX9_refused_0 6 rfl rfl)
theorem dX9_refused_7 : decode cX9_refused 7 = .ok (.putfield 9, 3) := dk_181 0 9 (dk_at dksX9_refused_0 7 rfl rfl)
theorem dX9_refused_10 : decode cX9_refused 10 = .ok (.iconst (-1), 1) := dk_2 (dk_at dksX9_refused_0 10 rfl rfl)
theorem dX9_refused_11 : decode cX9_refused 11 = .ok (.ireturn, 1) := dk_172 (dk_at dksX9_refused_0 11 rfl rfl)
abbrev cX9_goesOn : ByteArray := prog_20_method_14_code
def yX9_goesOn : MethodName := ⟨RX9, "goesOn", "()V"⟩
def dkwX9_goesOn_12 : List UInt8 := [181, 0, 94, 177]
abbrev dktX9_goesOn_12 : List UInt8 := dkwX9_goesOn_12 ++ []
def dkwX9_goesOn_11 : List UInt8 := [16, 44, 160, 0, 23, 42, 7, 181, 0, 91, 42, 27, 181, 0, 103, 42, 89, 180, 0, 94, 4, 96]
abbrev dktX9_goesOn_11 : List UInt8 := dkwX9_goesOn_11 ++ dktX9_goesOn_12
def dkwX9_goesOn_10 : List UInt8 := [167, 255, 201, 28, 6, 163, 0, 43, 42, 6, 181, 0, 91, 167, 0, 35, 27, 16, 59, 159, 0, 9, 27]
abbrev dktX9_goesOn_10 : List UInt8 := dkwX9_goesOn_10 ++ dktX9_goesOn_11
def dkwX9_goesOn_9 : List UInt8 := [182, 0, 97, 96, 16, 48, 100, 181, 0, 117, 132, 2, 1, 42, 89, 180, 0, 94, 4, 96, 181, 0, 94]
abbrev dktX9_goesOn_9 : List UInt8 := dkwX9_goesOn_9 ++ dktX9_goesOn_10
def dkwX9_goesOn_8 : List UInt8 := [184, 0, 114, 153, 0, 47, 28, 6, 162, 0, 26, 42, 16, 10, 42, 180, 0, 117, 104, 42, 42, 180, 0, 94]
abbrev dktX9_goesOn_8 : List UInt8 := dkwX9_goesOn_8 ++ dktX9_goesOn_9
def dkwX9_goesOn_7 : List UInt8 := [167, 0, 118, 27, 184, 0, 114, 153, 0, 79, 42, 3, 181, 0, 117, 42, 42, 180, 0, 94, 182, 0, 97]
abbrev dktX9_goesOn_7 : List UInt8 := dkwX9_goesOn_7 ++ dktX9_goesOn_8
def dkwX9_goesOn_6 : List UInt8 := [180, 0, 94, 4, 96, 181, 0, 94, 167, 255, 196, 28, 16, 8, 163, 0, 126, 42, 5, 181, 0, 91]
abbrev dktX9_goesOn_6 : List UInt8 := dkwX9_goesOn_6 ++ dktX9_goesOn_7
def dkwX9_goesOn_5 : List UInt8 := [42, 42, 180, 0, 94, 182, 0, 97, 16, 97, 100, 4, 96, 133, 97, 181, 0, 110, 132, 2, 1, 42, 89]
abbrev dktX9_goesOn_5 : List UInt8 := dkwX9_goesOn_5 ++ dktX9_goesOn_6
def dkwX9_goesOn_4 : List UInt8 := [182, 0, 97, 184, 0, 106, 153, 0, 52, 28, 16, 8, 162, 0, 30, 42, 20, 0, 85, 42, 180, 0, 110, 105]
abbrev dktX9_goesOn_4 : List UInt8 := dkwX9_goesOn_4 ++ dktX9_goesOn_5
def dkwX9_goesOn_3 : List UInt8 := [181, 0, 91, 167, 0, 207, 27, 184, 0, 106, 153, 0, 85, 42, 9, 181, 0, 110, 42, 42, 180, 0, 94]
abbrev dktX9_goesOn_3 : List UInt8 := dkwX9_goesOn_3 ++ dktX9_goesOn_4
def dkwX9_goesOn_2 : List UInt8 := [42, 3, 181, 0, 103, 42, 42, 180, 0, 94, 182, 0, 97, 60, 3, 61, 27, 2, 160, 0, 11, 42, 4]
abbrev dktX9_goesOn_2 : List UInt8 := dkwX9_goesOn_2 ++ dktX9_goesOn_3
def dkwX9_goesOn_1 : List UInt8 := [180, 0, 94, 4, 96, 181, 0, 94, 167, 255, 233, 42, 42, 180, 0, 94, 181, 0, 100, 42, 3, 181, 0, 91]
abbrev dktX9_goesOn_1 : List UInt8 := dkwX9_goesOn_1 ++ dktX9_goesOn_2
def dkwX9_goesOn_0 : List UInt8 := [42, 180, 0, 91, 8, 160, 0, 4, 177, 42, 42, 180, 0, 94, 182, 0, 97, 16, 32, 160, 0, 16, 42, 89]
abbrev dktX9_goesOn_0 : List UInt8 := dkwX9_goesOn_0 ++ dktX9_goesOn_1
theorem dksX9_goesOn_0 : cX9_goesOn.data.toList.drop 0 = dktX9_goesOn_0 := by decide +kernel
theorem dksX9_goesOn_1 : cX9_goesOn.data.toList.drop 24 = dktX9_goesOn_1 := dk_seg dksX9_goesOn_0 24 rfl rfl
theorem dksX9_goesOn_2 : cX9_goesOn.data.toList.drop 48 = dktX9_goesOn_2 := dk_seg dksX9_goesOn_1 24 rfl rfl
theorem dksX9_goesOn_3 : cX9_goesOn.data.toList.drop 71 = dktX9_goesOn_3 := dk_seg dksX9_goesOn_2 23 rfl rfl
theorem dksX9_goesOn_4 : cX9_goesOn.data.toList.drop 94 = dktX9_goesOn_4 := dk_seg dksX9_goesOn_3 23 rfl rfl
theorem dksX9_goesOn_5 : cX9_goesOn.data.toList.drop 118 = dktX9_goesOn_5 := dk_seg dksX9_goesOn_4 24 rfl rfl
theorem dksX9_goesOn_6 : cX9_goesOn.data.toList.drop 141 = dktX9_goesOn_6 := dk_seg dksX9_goesOn_5 23 rfl rfl
theorem dksX9_goesOn_7 : cX9_goesOn.data.toList.drop 163 = dktX9_goesOn_7 := dk_seg dksX9_goesOn_6 22 rfl rfl
theorem dksX9_goesOn_8 : cX9_goesOn.data.toList.drop 186 = dktX9_goesOn_8 := dk_seg dksX9_goesOn_7 23 rfl rfl
theorem dksX9_goesOn_9 : cX9_goesOn.data.toList.drop 210 = dktX9_goesOn_9 := dk_seg dksX9_goesOn_8 24 rfl rfl
theorem dksX9_goesOn_10 : cX9_goesOn.data.toList.drop 233 = dktX9_goesOn_10 := dk_seg dksX9_goesOn_9 23 rfl rfl
theorem dksX9_goesOn_11 : cX9_goesOn.data.toList.drop 256 = dktX9_goesOn_11 := dk_seg dksX9_goesOn_10 23 rfl rfl
theorem dksX9_goesOn_12 : cX9_goesOn.data.toList.drop 278 = dktX9_goesOn_12 := dk_seg dksX9_goesOn_11 22 rfl rfl
theorem dX9_goesOn_0 : decode cX9_goesOn 0 = .ok (.aload_n 0, 1) := dk_42 (dk_at dksX9_goesOn_0 0 rfl rfl)
theorem dX9_goesOn_1 : decode cX9_goesOn 1 = .ok (.getfield 91, 3) := dk_180 0 91 (dk_at dksX9_goesOn_0 1 rfl rfl)
theorem dX9_goesOn_4 : decode cX9_goesOn 4 = .ok (.iconst 5, 1) := dk_8 (dk_at dksX9_goesOn_0 4 rfl rfl)
theorem dX9_goesOn_5 : decode cX9_goesOn 5 = .ok (.if_icmp .ne 4, 3) := dk_160 0 4 (dk_at dksX9_goesOn_0 5 rfl rfl)
theorem dX9_goesOn_8 : decode cX9_goesOn 8 = .ok (.return_, 1) := dk_177 (dk_at dksX9_goesOn_0 8 rfl rfl)
theorem dX9_goesOn_9 : decode cX9_goesOn 9 = .ok (.aload_n 0, 1) := dk_42 (dk_at dksX9_goesOn_0 9 rfl rfl)
theorem dX9_goesOn_10 : decode cX9_goesOn 10 = .ok (.aload_n 0, 1) := dk_42 (dk_at dksX9_goesOn_0 10 rfl rfl)
theorem dX9_goesOn_11 : decode cX9_goesOn 11 = .ok (.getfield 94, 3) := dk_180 0 94 (dk_at dksX9_goesOn_0 11 rfl rfl)
theorem dX9_goesOn_14 : decode cX9_goesOn 14 = .ok (.invokevirtual 97, 3) := dk_182 0 97 (dk_at dksX9_goesOn_0 14 rfl rfl)
theorem dX9_goesOn_17 : decode cX9_goesOn 17 = .ok (.bipush 32, 2) := dk_16 32 (dk_at dksX9_goesOn_0 17 rfl rfl)
theorem dX9_goesOn_19 : decode cX9_goesOn 19 = .ok (.if_icmp .ne 16, 3) := dk_160 0 16 (dk_at dksX9_goesOn_0 19 rfl rfl)
theorem dX9_goesOn_22 : decode cX9_goesOn 22 = .ok (.aload_n 0, 1) := dk_42 (dk_at dksX9_goesOn_0 22 rfl rfl)
theorem dX9_goesOn_23 : decode cX9_goesOn 23 = .ok (.dup, 1) := dk_89 (dk_at dksX9_goesOn_0 23 rfl rfl)
theorem dX9_goesOn_24 : decode cX9_goesOn 24 = .ok (.getfield 94, 3) := dk_180 0 94 (dk_at dksX9_goesOn_1 0 rfl rfl)
theorem dX9_goesOn_27 : decode cX9_goesOn 27 = .ok (.iconst 1, 1) := dk_4 (dk_at dksX9_goesOn_1 3 rfl rfl)
theorem dX9_goesOn_28 : decode cX9_goesOn 28 = .ok (.iadd, 1) := dk_96 (dk_at dksX9_goesOn_1 4 rfl rfl)
theorem dX9_goesOn_29 : decode cX9_goesOn 29 = .ok (.putfield 94, 3) := dk_181 0 94 (dk_at dksX9_goesOn_1 5 rfl rfl)
theorem dX9_goesOn_32 : decode cX9_goesOn 32 = .ok (.goto (-23), 3) := dk_167 255 233 (dk_at dksX9_goesOn_1 8 rfl rfl)
theorem dX9_goesOn_35 : decode cX9_goesOn 35 = .ok (.aload_n 0, 1) := dk_42 (dk_at dksX9_goesOn_1 11 rfl rfl)
theorem dX9_goesOn_36 : decode cX9_goesOn 36 = .ok (.aload_n 0, 1) := dk_42 (dk_at dksX9_goesOn_1 12 rfl rfl)
theorem dX9_goesOn_37 : decode cX9_goesOn 37 = .ok (.getfield 94, 3) := dk_180 0 94 (dk_at dksX9_goesOn_1 13 rfl rfl)
theorem dX9_goesOn_40 : decode cX9_goesOn 40 = .ok (.putfield 100, 3) := dk_181 0 100 (dk_at dksX9_goesOn_1 16 rfl rfl)
theorem dX9_goesOn_43 : decode cX9_goesOn 43 = .ok (.aload_n 0, 1) := dk_42 (dk_at dksX9_goesOn_1 19 rfl rfl)
theorem dX9_goesOn_44 : decode cX9_goesOn 44 = .ok (.iconst 0, 1) := dk_3 (dk_at dksX9_goesOn_1 20 rfl rfl)
theorem dX9_goesOn_45 : decode cX9_goesOn 45 = .ok (.putfield 91, 3) := dk_181 0 91 (dk_at dksX9_goesOn_1 21 rfl rfl)
theorem dX9_goesOn_48 : decode cX9_goesOn 48 = .ok (.aload_n 0, 1) := dk_42 (dk_at dksX9_goesOn_2 0 rfl rfl)
theorem dX9_goesOn_49 : decode cX9_goesOn 49 = .ok (.iconst 0, 1) := dk_3 (dk_at dksX9_goesOn_2 1 rfl rfl)
theorem dX9_goesOn_50 : decode cX9_goesOn 50 = .ok (.putfield 103, 3) := dk_181 0 103 (dk_at dksX9_goesOn_2 2 rfl rfl)
theorem dX9_goesOn_53 : decode cX9_goesOn 53 = .ok (.aload_n 0, 1) := dk_42 (dk_at dksX9_goesOn_2 5 rfl rfl)
theorem dX9_goesOn_54 : decode cX9_goesOn 54 = .ok (.aload_n 0, 1) := dk_42 (dk_at dksX9_goesOn_2 6 rfl rfl)
theorem dX9_goesOn_55 : decode cX9_goesOn 55 = .ok (.getfield 94, 3) := dk_180 0 94 (dk_at dksX9_goesOn_2 7 rfl rfl)
theorem dX9_goesOn_58 : decode cX9_goesOn 58 = .ok (.invokevirtual 97, 3) := dk_182 0 97 (dk_at dksX9_goesOn_2 10 rfl rfl)
theorem dX9_goesOn_61 : decode cX9_goesOn 61 = .ok (.istore_n 1, 1) := dk_60 (dk_at dksX9_goesOn_2 13 rfl rfl)
theorem dX9_goesOn_62 : decode cX9_goesOn 62 = .ok (.iconst 0, 1) := dk_3 (dk_at dksX9_goesOn_2 14 rfl rfl)
theorem dX9_goesOn_63 : decode cX9_goesOn 63 = .ok (.istore_n 2, 1) := dk_61 (dk_at dksX9_goesOn_2 15 rfl rfl)
theorem dX9_goesOn_64 : decode cX9_goesOn 64 = .ok (.iload_n 1, 1) := dk_27 (dk_at dksX9_goesOn_2 16 rfl rfl)
theorem dX9_goesOn_65 : decode cX9_goesOn 65 = .ok (.iconst (-1), 1) := dk_2 (dk_at dksX9_goesOn_2 17 rfl rfl)
theorem dX9_goesOn_66 : decode cX9_goesOn 66 = .ok (.if_icmp .ne 11, 3) := dk_160 0 11 (dk_at dksX9_goesOn_2 18 rfl rfl)
theorem dX9_goesOn_69 : decode cX9_goesOn 69 = .ok (.aload_n 0, 1) := dk_42 (dk_at dksX9_goesOn_2 21 rfl rfl)
theorem dX9_goesOn_70 : decode cX9_goesOn 70 = .ok (.iconst 1, 1) := dk_4 (dk_at dksX9_goesOn_2 22 rfl rfl)
theorem dX9_goesOn_71 : decode cX9_goesOn 71 = .ok (.putfield 91, 3) := dk_181 0 91 (dk_at dksX9_goesOn_3 0 rfl rfl)
theorem dX9_goesOn_74 : decode cX9_goesOn 74 = .ok (.goto 207, 3) := dk_167 0 207 (dk_at dksX9_goesOn_3 3 rfl rfl)
theorem dX9_goesOn_77 : decode cX9_goesOn 77 = .ok (.iload_n 1, 1) := dk_27 (dk_at dksX9_goesOn_3 6 rfl rfl)
theorem dX9_goesOn_78 : decode cX9_goesOn 78 = .ok (.invokestatic 106, 3) := dk_184 0 106 (dk_at dksX9_goesOn_3 7 rfl rfl)
theorem dX9_goesOn_81 : decode cX9_goesOn 81 = .ok (.ifCond .eq 85, 3) := dk_153 0 85 (dk_at dksX9_goesOn_3 10 rfl rfl)
theorem dX9_goesOn_84 : decode cX9_goesOn 84 = .ok (.aload_n 0, 1) := dk_42 (dk_at dksX9_goesOn_3 13 rfl rfl)
theorem dX9_goesOn_85 : decode cX9_goesOn 85 = .ok (.lconst 0, 1) := dk_9 (dk_at dksX9_goesOn_3 14 rfl rfl)
theorem dX9_goesOn_86 : decode cX9_goesOn 86 = .ok (.putfield 110, 3) := dk_181 0 110 (dk_at dksX9_goesOn_3 15 rfl rfl)
theorem dX9_goesOn_89 : decode cX9_goesOn 89 = .ok (.aload_n 0, 1) := dk_42 (dk_at dksX9_goesOn_3 18 rfl rfl)
theorem dX9_goesOn_90 : decode cX9_goesOn 90 = .ok (.aload_n 0, 1) := dk_42 (dk_at dksX9_goesOn_3 19 rfl rfl)
theorem dX9_goesOn_91 : decode cX9_goesOn 91 = .ok (.getfield 94, 3) := dk_180 0 94 (dk_at dksX9_goesOn_3 20 rfl rfl)
theorem dX9_goesOn_94 : decode cX9_goesOn 94 = .ok (.invokevirtual 97, 3) := dk_182 0 97 (dk_at dksX9_goesOn_4 0 rfl rfl)
theorem dX9_goesOn_97 : decode cX9_goesOn 97 = .ok (.invokestatic 106, 3) := dk_184 0 106 (dk_at dksX9_goesOn_4 3 rfl rfl)
theorem dX9_goesOn_100 : decode cX9_goesOn 100 = .ok (.ifCond .eq 52, 3) := dk_153 0 52 (dk_at dksX9_goesOn_4 6 rfl rfl)
theorem dX9_goesOn_103 : decode cX9_goesOn 103 = .ok (.iload_n 2, 1) := dk_28 (dk_at dksX9_goesOn_4 9 rfl rfl)
theorem dX9_goesOn_104 : decode cX9_goesOn 104 = .ok (.bipush 8, 2) := dk_16 8 (dk_at dksX9_goesOn_4 10 rfl rfl)
theorem dX9_goesOn_106 : decode cX9_goesOn 106 = .ok (.if_icmp .ge 30, 3) := dk_162 0 30 (dk_at dksX9_goesOn_4 12 rfl rfl)
theorem dX9_goesOn_109 : decode cX9_goesOn 109 = .ok (.aload_n 0, 1) := dk_42 (dk_at dksX9_goesOn_4 15 rfl rfl)
theorem dX9_goesOn_110 : decode cX9_goesOn 110 = .ok (.ldc2_w 85, 3) := dk_20 0 85 (dk_at dksX9_goesOn_4 16 rfl rfl)
theorem dX9_goesOn_113 : decode cX9_goesOn 113 = .ok (.aload_n 0, 1) := dk_42 (dk_at dksX9_goesOn_4 19 rfl rfl)
theorem dX9_goesOn_114 : decode cX9_goesOn 114 = .ok (.getfield 110, 3) := dk_180 0 110 (dk_at dksX9_goesOn_4 20 rfl rfl)
theorem dX9_goesOn_117 : decode cX9_goesOn 117 = .ok (.lmul, 1) := dk_105 (dk_at dksX9_goesOn_4 23 rfl rfl)
theorem dX9_goesOn_118 : decode cX9_goesOn 118 = .ok (.aload_n 0, 1) := dk_42 (dk_at dksX9_goesOn_5 0 rfl rfl)
theorem dX9_goesOn_119 : decode cX9_goesOn 119 = .ok (.aload_n 0, 1) := dk_42 (dk_at dksX9_goesOn_5 1 rfl rfl)
theorem dX9_goesOn_120 : decode cX9_goesOn 120 = .ok (.getfield 94, 3) := dk_180 0 94 (dk_at dksX9_goesOn_5 2 rfl rfl)
theorem dX9_goesOn_123 : decode cX9_goesOn 123 = .ok (.invokevirtual 97, 3) := dk_182 0 97 (dk_at dksX9_goesOn_5 5 rfl rfl)
theorem dX9_goesOn_126 : decode cX9_goesOn 126 = .ok (.bipush 97, 2) := dk_16 97 (dk_at dksX9_goesOn_5 8 rfl rfl)
theorem dX9_goesOn_128 : decode cX9_goesOn 128 = .ok (.isub, 1) := dk_100 (dk_at dksX9_goesOn_5 10 rfl rfl)
theorem dX9_goesOn_129 : decode cX9_goesOn 129 = .ok (.iconst 1, 1) := dk_4 (dk_at dksX9_goesOn_5 11 rfl rfl)
theorem dX9_goesOn_130 : decode cX9_goesOn 130 = .ok (.iadd, 1) := dk_96 (dk_at dksX9_goesOn_5 12 rfl rfl)
theorem dX9_goesOn_131 : decode cX9_goesOn 131 = .ok (.i2l, 1) := dk_133 (dk_at dksX9_goesOn_5 13 rfl rfl)
theorem dX9_goesOn_132 : decode cX9_goesOn 132 = .ok (.ladd, 1) := dk_97 (dk_at dksX9_goesOn_5 14 rfl rfl)
theorem dX9_goesOn_133 : decode cX9_goesOn 133 = .ok (.putfield 110, 3) := dk_181 0 110 (dk_at dksX9_goesOn_5 15 rfl rfl)
theorem dX9_goesOn_136 : decode cX9_goesOn 136 = .ok (.iinc 2 1, 3) := dk_132 2 1 (dk_at dksX9_goesOn_5 18 rfl rfl)
theorem dX9_goesOn_139 : decode cX9_goesOn 139 = .ok (.aload_n 0, 1) := dk_42 (dk_at dksX9_goesOn_5 21 rfl rfl)
theorem dX9_goesOn_140 : decode cX9_goesOn 140 = .ok (.dup, 1) := dk_89 (dk_at dksX9_goesOn_5 22 rfl rfl)
theorem dX9_goesOn_141 : decode cX9_goesOn 141 = .ok (.getfield 94, 3) := dk_180 0 94 (dk_at dksX9_goesOn_6 0 rfl rfl)
theorem dX9_goesOn_144 : decode cX9_goesOn 144 = .ok (.iconst 1, 1) := dk_4 (dk_at dksX9_goesOn_6 3 rfl rfl)
theorem dX9_goesOn_145 : decode cX9_goesOn 145 = .ok (.iadd, 1) := dk_96 (dk_at dksX9_goesOn_6 4 rfl rfl)
theorem dX9_goesOn_146 : decode cX9_goesOn 146 = .ok (.putfield 94, 3) := dk_181 0 94 (dk_at dksX9_goesOn_6 5 rfl rfl)
theorem dX9_goesOn_149 : decode cX9_goesOn 149 = .ok (.goto (-60), 3) := dk_167 255 196 (dk_at dksX9_goesOn_6 8 rfl rfl)
theorem dX9_goesOn_152 : decode cX9_goesOn 152 = .ok (.iload_n 2, 1) := dk_28 (dk_at dksX9_goesOn_6 11 rfl rfl)
theorem dX9_goesOn_153 : decode cX9_goesOn 153 = .ok (.bipush 8, 2) := dk_16 8 (dk_at dksX9_goesOn_6 12 rfl rfl)
theorem dX9_goesOn_155 : decode cX9_goesOn 155 = .ok (.if_icmp .gt 126, 3) := dk_163 0 126 (dk_at dksX9_goesOn_6 14 rfl rfl)
theorem dX9_goesOn_158 : decode cX9_goesOn 158 = .ok (.aload_n 0, 1) := dk_42 (dk_at dksX9_goesOn_6 17 rfl rfl)
theorem dX9_goesOn_159 : decode cX9_goesOn 159 = .ok (.iconst 2, 1) := dk_5 (dk_at dksX9_goesOn_6 18 rfl rfl)
theorem dX9_goesOn_160 : decode cX9_goesOn 160 = .ok (.putfield 91, 3) := dk_181 0 91 (dk_at dksX9_goesOn_6 19 rfl rfl)
theorem dX9_goesOn_163 : decode cX9_goesOn 163 = .ok (.goto 118, 3) := dk_167 0 118 (dk_at dksX9_goesOn_7 0 rfl rfl)
theorem dX9_goesOn_166 : decode cX9_goesOn 166 = .ok (.iload_n 1, 1) := dk_27 (dk_at dksX9_goesOn_7 3 rfl rfl)
theorem dX9_goesOn_167 : decode cX9_goesOn 167 = .ok (.invokestatic 114, 3) := dk_184 0 114 (dk_at dksX9_goesOn_7 4 rfl rfl)
theorem dX9_goesOn_170 : decode cX9_goesOn 170 = .ok (.ifCond .eq 79, 3) := dk_153 0 79 (dk_at dksX9_goesOn_7 7 rfl rfl)
theorem dX9_goesOn_173 : decode cX9_goesOn 173 = .ok (.aload_n 0, 1) := dk_42 (dk_at dksX9_goesOn_7 10 rfl rfl)
theorem dX9_goesOn_174 : decode cX9_goesOn 174 = .ok (.iconst 0, 1) := dk_3 (dk_at dksX9_goesOn_7 11 rfl rfl)
theorem dX9_goesOn_175 : decode cX9_goesOn 175 = .ok (.putfield 117, 3) := dk_181 0 117 (dk_at dksX9_goesOn_7 12 rfl rfl)
theorem dX9_goesOn_178 : decode cX9_goesOn 178 = .ok (.aload_n 0, 1) := dk_42 (dk_at dksX9_goesOn_7 15 rfl rfl)
theorem dX9_goesOn_179 : decode cX9_goesOn 179 = .ok (.aload_n 0, 1) := dk_42 (dk_at dksX9_goesOn_7 16 rfl rfl)
theorem dX9_goesOn_180 : decode cX9_goesOn 180 = .ok (.getfield 94, 3) := dk_180 0 94 (dk_at dksX9_goesOn_7 17 rfl rfl)
theorem dX9_goesOn_183 : decode cX9_goesOn 183 = .ok (.invokevirtual 97, 3) := dk_182 0 97 (dk_at dksX9_goesOn_7 20 rfl rfl)
theorem dX9_goesOn_186 : decode cX9_goesOn 186 = .ok (.invokestatic 114, 3) := dk_184 0 114 (dk_at dksX9_goesOn_8 0 rfl rfl)
theorem dX9_goesOn_189 : decode cX9_goesOn 189 = .ok (.ifCond .eq 47, 3) := dk_153 0 47 (dk_at dksX9_goesOn_8 3 rfl rfl)
theorem dX9_goesOn_192 : decode cX9_goesOn 192 = .ok (.iload_n 2, 1) := dk_28 (dk_at dksX9_goesOn_8 6 rfl rfl)
theorem dX9_goesOn_193 : decode cX9_goesOn 193 = .ok (.iconst 3, 1) := dk_6 (dk_at dksX9_goesOn_8 7 rfl rfl)
theorem dX9_goesOn_194 : decode cX9_goesOn 194 = .ok (.if_icmp .ge 26, 3) := dk_162 0 26 (dk_at dksX9_goesOn_8 8 rfl rfl)
theorem dX9_goesOn_197 : decode cX9_goesOn 197 = .ok (.aload_n 0, 1) := dk_42 (dk_at dksX9_goesOn_8 11 rfl rfl)
theorem dX9_goesOn_198 : decode cX9_goesOn 198 = .ok (.bipush 10, 2) := dk_16 10 (dk_at dksX9_goesOn_8 12 rfl rfl)
theorem dX9_goesOn_200 : decode cX9_goesOn 200 = .ok (.aload_n 0, 1) := dk_42 (dk_at dksX9_goesOn_8 14 rfl rfl)
theorem dX9_goesOn_201 : decode cX9_goesOn 201 = .ok (.getfield 117, 3) := dk_180 0 117 (dk_at dksX9_goesOn_8 15 rfl rfl)
theorem dX9_goesOn_204 : decode cX9_goesOn 204 = .ok (.imul, 1) := dk_104 (dk_at dksX9_goesOn_8 18 rfl rfl)
theorem dX9_goesOn_205 : decode cX9_goesOn 205 = .ok (.aload_n 0, 1) := dk_42 (dk_at dksX9_goesOn_8 19 rfl rfl)
theorem dX9_goesOn_206 : decode cX9_goesOn 206 = .ok (.aload_n 0, 1) := dk_42 (dk_at dksX9_goesOn_8 20 rfl rfl)
theorem dX9_goesOn_207 : decode cX9_goesOn 207 = .ok (.getfield 94, 3) := dk_180 0 94 (dk_at dksX9_goesOn_8 21 rfl rfl)
theorem dX9_goesOn_210 : decode cX9_goesOn 210 = .ok (.invokevirtual 97, 3) := dk_182 0 97 (dk_at dksX9_goesOn_9 0 rfl rfl)
theorem dX9_goesOn_213 : decode cX9_goesOn 213 = .ok (.iadd, 1) := dk_96 (dk_at dksX9_goesOn_9 3 rfl rfl)
theorem dX9_goesOn_214 : decode cX9_goesOn 214 = .ok (.bipush 48, 2) := dk_16 48 (dk_at dksX9_goesOn_9 4 rfl rfl)
theorem dX9_goesOn_216 : decode cX9_goesOn 216 = .ok (.isub, 1) := dk_100 (dk_at dksX9_goesOn_9 6 rfl rfl)
theorem dX9_goesOn_217 : decode cX9_goesOn 217 = .ok (.putfield 117, 3) := dk_181 0 117 (dk_at dksX9_goesOn_9 7 rfl rfl)
theorem dX9_goesOn_220 : decode cX9_goesOn 220 = .ok (.iinc 2 1, 3) := dk_132 2 1 (dk_at dksX9_goesOn_9 10 rfl rfl)
theorem dX9_goesOn_223 : decode cX9_goesOn 223 = .ok (.aload_n 0, 1) := dk_42 (dk_at dksX9_goesOn_9 13 rfl rfl)
theorem dX9_goesOn_224 : decode cX9_goesOn 224 = .ok (.dup, 1) := dk_89 (dk_at dksX9_goesOn_9 14 rfl rfl)
theorem dX9_goesOn_225 : decode cX9_goesOn 225 = .ok (.getfield 94, 3) := dk_180 0 94 (dk_at dksX9_goesOn_9 15 rfl rfl)
theorem dX9_goesOn_228 : decode cX9_goesOn 228 = .ok (.iconst 1, 1) := dk_4 (dk_at dksX9_goesOn_9 18 rfl rfl)
theorem dX9_goesOn_229 : decode cX9_goesOn 229 = .ok (.iadd, 1) := dk_96 (dk_at dksX9_goesOn_9 19 rfl rfl)
theorem dX9_goesOn_230 : decode cX9_goesOn 230 = .ok (.putfield 94, 3) := dk_181 0 94 (dk_at dksX9_goesOn_9 20 rfl rfl)
theorem dX9_goesOn_233 : decode cX9_goesOn 233 = .ok (.goto (-55), 3) := dk_167 255 201 (dk_at dksX9_goesOn_10 0 rfl rfl)
theorem dX9_goesOn_236 : decode cX9_goesOn 236 = .ok (.iload_n 2, 1) := dk_28 (dk_at dksX9_goesOn_10 3 rfl rfl)
theorem dX9_goesOn_237 : decode cX9_goesOn 237 = .ok (.iconst 3, 1) := dk_6 (dk_at dksX9_goesOn_10 4 rfl rfl)
theorem dX9_goesOn_238 : decode cX9_goesOn 238 = .ok (.if_icmp .gt 43, 3) := dk_163 0 43 (dk_at dksX9_goesOn_10 5 rfl rfl)
theorem dX9_goesOn_241 : decode cX9_goesOn 241 = .ok (.aload_n 0, 1) := dk_42 (dk_at dksX9_goesOn_10 8 rfl rfl)
theorem dX9_goesOn_242 : decode cX9_goesOn 242 = .ok (.iconst 3, 1) := dk_6 (dk_at dksX9_goesOn_10 9 rfl rfl)
theorem dX9_goesOn_243 : decode cX9_goesOn 243 = .ok (.putfield 91, 3) := dk_181 0 91 (dk_at dksX9_goesOn_10 10 rfl rfl)
theorem dX9_goesOn_246 : decode cX9_goesOn 246 = .ok (.goto 35, 3) := dk_167 0 35 (dk_at dksX9_goesOn_10 13 rfl rfl)
theorem dX9_goesOn_249 : decode cX9_goesOn 249 = .ok (.iload_n 1, 1) := dk_27 (dk_at dksX9_goesOn_10 16 rfl rfl)
theorem dX9_goesOn_250 : decode cX9_goesOn 250 = .ok (.bipush 59, 2) := dk_16 59 (dk_at dksX9_goesOn_10 17 rfl rfl)
theorem dX9_goesOn_252 : decode cX9_goesOn 252 = .ok (.if_icmp .eq 9, 3) := dk_159 0 9 (dk_at dksX9_goesOn_10 19 rfl rfl)
theorem dX9_goesOn_255 : decode cX9_goesOn 255 = .ok (.iload_n 1, 1) := dk_27 (dk_at dksX9_goesOn_10 22 rfl rfl)
theorem dX9_goesOn_256 : decode cX9_goesOn 256 = .ok (.bipush 44, 2) := dk_16 44 (dk_at dksX9_goesOn_11 0 rfl rfl)
theorem dX9_goesOn_258 : decode cX9_goesOn 258 = .ok (.if_icmp .ne 23, 3) := dk_160 0 23 (dk_at dksX9_goesOn_11 2 rfl rfl)
theorem dX9_goesOn_261 : decode cX9_goesOn 261 = .ok (.aload_n 0, 1) := dk_42 (dk_at dksX9_goesOn_11 5 rfl rfl)
theorem dX9_goesOn_262 : decode cX9_goesOn 262 = .ok (.iconst 4, 1) := dk_7 (dk_at dksX9_goesOn_11 6 rfl rfl)
theorem dX9_goesOn_263 : decode cX9_goesOn 263 = .ok (.putfield 91, 3) := dk_181 0 91 (dk_at dksX9_goesOn_11 7 rfl rfl)
theorem dX9_goesOn_266 : decode cX9_goesOn 266 = .ok (.aload_n 0, 1) := dk_42 (dk_at dksX9_goesOn_11 10 rfl rfl)
theorem dX9_goesOn_267 : decode cX9_goesOn 267 = .ok (.iload_n 1, 1) := dk_27 (dk_at dksX9_goesOn_11 11 rfl rfl)
theorem dX9_goesOn_268 : decode cX9_goesOn 268 = .ok (.putfield 103, 3) := dk_181 0 103 (dk_at dksX9_goesOn_11 12 rfl rfl)
theorem dX9_goesOn_271 : decode cX9_goesOn 271 = .ok (.aload_n 0, 1) := dk_42 (dk_at dksX9_goesOn_11 15 rfl rfl)
theorem dX9_goesOn_272 : decode cX9_goesOn 272 = .ok (.dup, 1) := dk_89 (dk_at dksX9_goesOn_11 16 rfl rfl)
theorem dX9_goesOn_273 : decode cX9_goesOn 273 = .ok (.getfield 94, 3) := dk_180 0 94 (dk_at dksX9_goesOn_11 17 rfl rfl)
theorem dX9_goesOn_276 : decode cX9_goesOn 276 = .ok (.iconst 1, 1) := dk_4 (dk_at dksX9_goesOn_11 20 rfl rfl)
theorem dX9_goesOn_277 : decode cX9_goesOn 277 = .ok (.iadd, 1) := dk_96 (dk_at dksX9_goesOn_11 21 rfl rfl)
theorem dX9_goesOn_278 : decode cX9_goesOn 278 = .ok (.putfield 94, 3) := dk_181 0 94 (dk_at dksX9_goesOn_12 0 rfl rfl)
theorem dX9_goesOn_281 : decode cX9_goesOn 281 = .ok (.return_, 1) := dk_177 (dk_at dksX9_goesOn_12 3 rfl rfl)
abbrev cX9_byteAt : ByteArray := prog_20_method_10_code
def yX9_byteAt : MethodName := ⟨RX9, "byteAt", "(I)I"⟩
def dkwX9_byteAt_0 : List UInt8 := [27, 42, 180, 0, 76, 162, 0, 16, 42, 180, 0, 13, 27, 51, 17, 0, 255, 126, 167, 0, 4, 2, 172]
abbrev dktX9_byteAt_0 : List UInt8 := dkwX9_byteAt_0 ++ []
theorem dksX9_byteAt_0 : cX9_byteAt.data.toList.drop 0 = dktX9_byteAt_0 := by decide +kernel
theorem dX9_byteAt_0 : decode cX9_byteAt 0 = .ok (.iload_n 1, 1) := dk_27 (dk_at dksX9_byteAt_0 0 rfl rfl)
theorem dX9_byteAt_1 : decode cX9_byteAt 1 = .ok (.aload_n 0, 1) := dk_42 (dk_at dksX9_byteAt_0 1 rfl rfl)
theorem dX9_byteAt_2 : decode cX9_byteAt 2 = .ok (.getfield 76, 3) := dk_180 0 76 (dk_at dksX9_byteAt_0 2 rfl rfl)
theorem dX9_byteAt_5 : decode cX9_byteAt 5 = .ok (.if_icmp .ge 16, 3) := dk_162 0 16 (dk_at dksX9_byteAt_0 5 rfl rfl)
theorem dX9_byteAt_8 : decode cX9_byteAt 8 = .ok (.aload_n 0, 1) := dk_42 (dk_at dksX9_byteAt_0 8 rfl rfl)
theorem dX9_byteAt_9 : decode cX9_byteAt 9 = .ok (.getfield 13, 3) := dk_180 0 13 (dk_at dksX9_byteAt_0 9 rfl rfl)
theorem dX9_byteAt_12 : decode cX9_byteAt 12 = .ok (.iload_n 1, 1) := dk_27 (dk_at dksX9_byteAt_0 12 rfl rfl)
theorem dX9_byteAt_13 : decode cX9_byteAt 13 = .ok (.baload, 1) := dk_51 (dk_at dksX9_byteAt_0 13 rfl rfl)
theorem dX9_byteAt_14 : decode cX9_byteAt 14 = .ok (.sipush 255, 3) := dk_17 0 255 (dk_at dksX9_byteAt_0 14 rfl rfl)
theorem dX9_byteAt_17 : decode cX9_byteAt 17 = .ok (.iand, 1) := dk_126 (dk_at dksX9_byteAt_0 17 rfl rfl)
theorem dX9_byteAt_18 : decode cX9_byteAt 18 = .ok (.goto 4, 3) := dk_167 0 4 (dk_at dksX9_byteAt_0 18 rfl rfl)
theorem dX9_byteAt_21 : decode cX9_byteAt 21 = .ok (.iconst (-1), 1) := dk_2 (dk_at dksX9_byteAt_0 21 rfl rfl)
theorem dX9_byteAt_22 : decode cX9_byteAt 22 = .ok (.ireturn, 1) := dk_172 (dk_at dksX9_byteAt_0 22 rfl rfl)
abbrev cX9_isLetter : ByteArray := prog_20_method_11_code
def yX9_isLetter : MethodName := ⟨RX9, "isLetter", "(I)Z"⟩
def dkwX9_isLetter_0 : List UInt8 := [26, 16, 97, 161, 0, 13, 26, 16, 122, 163, 0, 7, 4, 167, 0, 4, 3, 172]
abbrev dktX9_isLetter_0 : List UInt8 := dkwX9_isLetter_0 ++ []
theorem dksX9_isLetter_0 : cX9_isLetter.data.toList.drop 0 = dktX9_isLetter_0 := by decide +kernel
theorem dX9_isLetter_0 : decode cX9_isLetter 0 = .ok (.iload_n 0, 1) := dk_26 (dk_at dksX9_isLetter_0 0 rfl rfl)
theorem dX9_isLetter_1 : decode cX9_isLetter 1 = .ok (.bipush 97, 2) := dk_16 97 (dk_at dksX9_isLetter_0 1 rfl rfl)
theorem dX9_isLetter_3 : decode cX9_isLetter 3 = .ok (.if_icmp .lt 13, 3) := dk_161 0 13 (dk_at dksX9_isLetter_0 3 rfl rfl)
theorem dX9_isLetter_6 : decode cX9_isLetter 6 = .ok (.iload_n 0, 1) := dk_26 (dk_at dksX9_isLetter_0 6 rfl rfl)
theorem dX9_isLetter_7 : decode cX9_isLetter 7 = .ok (.bipush 122, 2) := dk_16 122 (dk_at dksX9_isLetter_0 7 rfl rfl)
theorem dX9_isLetter_9 : decode cX9_isLetter 9 = .ok (.if_icmp .gt 7, 3) := dk_163 0 7 (dk_at dksX9_isLetter_0 9 rfl rfl)
theorem dX9_isLetter_12 : decode cX9_isLetter 12 = .ok (.iconst 1, 1) := dk_4 (dk_at dksX9_isLetter_0 12 rfl rfl)
theorem dX9_isLetter_13 : decode cX9_isLetter 13 = .ok (.goto 4, 3) := dk_167 0 4 (dk_at dksX9_isLetter_0 13 rfl rfl)
theorem dX9_isLetter_16 : decode cX9_isLetter 16 = .ok (.iconst 0, 1) := dk_3 (dk_at dksX9_isLetter_0 16 rfl rfl)
theorem dX9_isLetter_17 : decode cX9_isLetter 17 = .ok (.ireturn, 1) := dk_172 (dk_at dksX9_isLetter_0 17 rfl rfl)
abbrev cX9_isDigit : ByteArray := prog_20_method_12_code
def yX9_isDigit : MethodName := ⟨RX9, "isDigit", "(I)Z"⟩
def dkwX9_isDigit_0 : List UInt8 := [26, 16, 48, 161, 0, 13, 26, 16, 57, 163, 0, 7, 4, 167, 0, 4, 3, 172]
abbrev dktX9_isDigit_0 : List UInt8 := dkwX9_isDigit_0 ++ []
theorem dksX9_isDigit_0 : cX9_isDigit.data.toList.drop 0 = dktX9_isDigit_0 := by decide +kernel
theorem dX9_isDigit_0 : decode cX9_isDigit 0 = .ok (.iload_n 0, 1) := dk_26 (dk_at dksX9_isDigit_0 0 rfl rfl)
theorem dX9_isDigit_1 : decode cX9_isDigit 1 = .ok (.bipush 48, 2) := dk_16 48 (dk_at dksX9_isDigit_0 1 rfl rfl)
theorem dX9_isDigit_3 : decode cX9_isDigit 3 = .ok (.if_icmp .lt 13, 3) := dk_161 0 13 (dk_at dksX9_isDigit_0 3 rfl rfl)
theorem dX9_isDigit_6 : decode cX9_isDigit 6 = .ok (.iload_n 0, 1) := dk_26 (dk_at dksX9_isDigit_0 6 rfl rfl)
theorem dX9_isDigit_7 : decode cX9_isDigit 7 = .ok (.bipush 57, 2) := dk_16 57 (dk_at dksX9_isDigit_0 7 rfl rfl)
theorem dX9_isDigit_9 : decode cX9_isDigit 9 = .ok (.if_icmp .gt 7, 3) := dk_163 0 7 (dk_at dksX9_isDigit_0 9 rfl rfl)
theorem dX9_isDigit_12 : decode cX9_isDigit 12 = .ok (.iconst 1, 1) := dk_4 (dk_at dksX9_isDigit_0 12 rfl rfl)
theorem dX9_isDigit_13 : decode cX9_isDigit 13 = .ok (.goto 4, 3) := dk_167 0 4 (dk_at dksX9_isDigit_0 13 rfl rfl)
theorem dX9_isDigit_16 : decode cX9_isDigit 16 = .ok (.iconst 0, 1) := dk_3 (dk_at dksX9_isDigit_0 16 rfl rfl)
theorem dX9_isDigit_17 : decode cX9_isDigit 17 = .ok (.ireturn, 1) := dk_172 (dk_at dksX9_isDigit_0 17 rfl rfl)
abbrev cX9_readAll : ByteArray := prog_20_method_30_code
def yX9_readAll : MethodName := ⟨RX9, "readAll", "()V"⟩
def dkwX9_readAll_2 : List UInt8 := [180, 0, 226, 153, 0, 13, 42, 180, 0, 156, 180, 0, 229, 154, 0, 9, 42, 16, 6, 182, 0, 137, 177]
abbrev dktX9_readAll_2 : List UInt8 := dkwX9_readAll_2 ++ []
def dkwX9_readAll_1 : List UInt8 := [4, 159, 0, 8, 42, 4, 182, 0, 137, 42, 180, 0, 156, 180, 0, 223, 2, 159, 0, 23, 42, 180, 0, 156]
abbrev dktX9_readAll_1 : List UInt8 := dkwX9_readAll_1 ++ dktX9_readAll_2
def dkwX9_readAll_0 : List UInt8 := [4, 60, 27, 153, 0, 17, 42, 182, 0, 217, 42, 16, 59, 182, 0, 220, 60, 167, 255, 241, 42, 180, 0, 91]
abbrev dktX9_readAll_0 : List UInt8 := dkwX9_readAll_0 ++ dktX9_readAll_1
theorem dksX9_readAll_0 : cX9_readAll.data.toList.drop 0 = dktX9_readAll_0 := by decide +kernel
theorem dksX9_readAll_1 : cX9_readAll.data.toList.drop 24 = dktX9_readAll_1 := dk_seg dksX9_readAll_0 24 rfl rfl
theorem dksX9_readAll_2 : cX9_readAll.data.toList.drop 48 = dktX9_readAll_2 := dk_seg dksX9_readAll_1 24 rfl rfl
theorem dX9_readAll_0 : decode cX9_readAll 0 = .ok (.iconst 1, 1) := dk_4 (dk_at dksX9_readAll_0 0 rfl rfl)
theorem dX9_readAll_1 : decode cX9_readAll 1 = .ok (.istore_n 1, 1) := dk_60 (dk_at dksX9_readAll_0 1 rfl rfl)
theorem dX9_readAll_2 : decode cX9_readAll 2 = .ok (.iload_n 1, 1) := dk_27 (dk_at dksX9_readAll_0 2 rfl rfl)
theorem dX9_readAll_3 : decode cX9_readAll 3 = .ok (.ifCond .eq 17, 3) := dk_153 0 17 (dk_at dksX9_readAll_0 3 rfl rfl)
theorem dX9_readAll_6 : decode cX9_readAll 6 = .ok (.aload_n 0, 1) := dk_42 (dk_at dksX9_readAll_0 6 rfl rfl)
theorem dX9_readAll_7 : decode cX9_readAll 7 = .ok (.invokevirtual 217, 3) := dk_182 0 217 (dk_at dksX9_readAll_0 7 rfl rfl)
theorem dX9_readAll_10 : decode cX9_readAll 10 = .ok (.aload_n 0, 1) := dk_42 (dk_at dksX9_readAll_0 10 rfl rfl)
theorem dX9_readAll_11 : decode cX9_readAll 11 = .ok (.bipush 59, 2) := dk_16 59 (dk_at dksX9_readAll_0 11 rfl rfl)
theorem dX9_readAll_13 : decode cX9_readAll 13 = .ok (.invokevirtual 220, 3) := dk_182 0 220 (dk_at dksX9_readAll_0 13 rfl rfl)
theorem dX9_readAll_16 : decode cX9_readAll 16 = .ok (.istore_n 1, 1) := dk_60 (dk_at dksX9_readAll_0 16 rfl rfl)
theorem dX9_readAll_17 : decode cX9_readAll 17 = .ok (.goto (-15), 3) := dk_167 255 241 (dk_at dksX9_readAll_0 17 rfl rfl)
theorem dX9_readAll_20 : decode cX9_readAll 20 = .ok (.aload_n 0, 1) := dk_42 (dk_at dksX9_readAll_0 20 rfl rfl)
theorem dX9_readAll_21 : decode cX9_readAll 21 = .ok (.getfield 91, 3) := dk_180 0 91 (dk_at dksX9_readAll_0 21 rfl rfl)
theorem dX9_readAll_24 : decode cX9_readAll 24 = .ok (.iconst 1, 1) := dk_4 (dk_at dksX9_readAll_1 0 rfl rfl)
theorem dX9_readAll_25 : decode cX9_readAll 25 = .ok (.if_icmp .eq 8, 3) := dk_159 0 8 (dk_at dksX9_readAll_1 1 rfl rfl)
theorem dX9_readAll_28 : decode cX9_readAll 28 = .ok (.aload_n 0, 1) := dk_42 (dk_at dksX9_readAll_1 4 rfl rfl)
theorem dX9_readAll_29 : decode cX9_readAll 29 = .ok (.iconst 1, 1) := dk_4 (dk_at dksX9_readAll_1 5 rfl rfl)
theorem dX9_readAll_30 : decode cX9_readAll 30 = .ok (.invokevirtual 137, 3) := dk_182 0 137 (dk_at dksX9_readAll_1 6 rfl rfl)
theorem dX9_readAll_33 : decode cX9_readAll 33 = .ok (.aload_n 0, 1) := dk_42 (dk_at dksX9_readAll_1 9 rfl rfl)
theorem dX9_readAll_34 : decode cX9_readAll 34 = .ok (.getfield 156, 3) := dk_180 0 156 (dk_at dksX9_readAll_1 10 rfl rfl)
theorem dX9_readAll_37 : decode cX9_readAll 37 = .ok (.getfield 223, 3) := dk_180 0 223 (dk_at dksX9_readAll_1 13 rfl rfl)
theorem dX9_readAll_40 : decode cX9_readAll 40 = .ok (.iconst (-1), 1) := dk_2 (dk_at dksX9_readAll_1 16 rfl rfl)
theorem dX9_readAll_41 : decode cX9_readAll 41 = .ok (.if_icmp .eq 23, 3) := dk_159 0 23 (dk_at dksX9_readAll_1 17 rfl rfl)
theorem dX9_readAll_44 : decode cX9_readAll 44 = .ok (.aload_n 0, 1) := dk_42 (dk_at dksX9_readAll_1 20 rfl rfl)
theorem dX9_readAll_45 : decode cX9_readAll 45 = .ok (.getfield 156, 3) := dk_180 0 156 (dk_at dksX9_readAll_1 21 rfl rfl)
theorem dX9_readAll_48 : decode cX9_readAll 48 = .ok (.getfield 226, 3) := dk_180 0 226 (dk_at dksX9_readAll_2 0 rfl rfl)
theorem dX9_readAll_51 : decode cX9_readAll 51 = .ok (.ifCond .eq 13, 3) := dk_153 0 13 (dk_at dksX9_readAll_2 3 rfl rfl)
theorem dX9_readAll_54 : decode cX9_readAll 54 = .ok (.aload_n 0, 1) := dk_42 (dk_at dksX9_readAll_2 6 rfl rfl)
theorem dX9_readAll_55 : decode cX9_readAll 55 = .ok (.getfield 156, 3) := dk_180 0 156 (dk_at dksX9_readAll_2 7 rfl rfl)
theorem dX9_readAll_58 : decode cX9_readAll 58 = .ok (.getfield 229, 3) := dk_180 0 229 (dk_at dksX9_readAll_2 10 rfl rfl)
theorem dX9_readAll_61 : decode cX9_readAll 61 = .ok (.ifCond .ne 9, 3) := dk_154 0 9 (dk_at dksX9_readAll_2 13 rfl rfl)
theorem dX9_readAll_64 : decode cX9_readAll 64 = .ok (.aload_n 0, 1) := dk_42 (dk_at dksX9_readAll_2 16 rfl rfl)
theorem dX9_readAll_65 : decode cX9_readAll 65 = .ok (.bipush 6, 2) := dk_16 6 (dk_at dksX9_readAll_2 17 rfl rfl)
theorem dX9_readAll_67 : decode cX9_readAll 67 = .ok (.invokevirtual 137, 3) := dk_182 0 137 (dk_at dksX9_readAll_2 19 rfl rfl)
theorem dX9_readAll_70 : decode cX9_readAll 70 = .ok (.return_, 1) := dk_177 (dk_at dksX9_readAll_2 22 rfl rfl)
abbrev cX9_readLine : ByteArray := prog_20_method_31_code
def yX9_readLine : MethodName := ⟨RX9, "readLine", "()V"⟩
def dkwX9_readLine_7 : List UInt8 := [42, 18, 191, 182, 0, 133, 153, 0, 11, 42, 3, 182, 1, 3, 167, 0, 8, 42, 4, 182, 0, 137, 177]
abbrev dktX9_readLine_7 : List UInt8 := dkwX9_readLine_7 ++ []
def dkwX9_readLine_6 : List UInt8 := [42, 182, 1, 0, 167, 0, 42, 42, 18, 189, 182, 0, 133, 153, 0, 11, 42, 4, 182, 1, 3, 167, 0, 25]
abbrev dktX9_readLine_6 : List UInt8 := dkwX9_readLine_6 ++ dktX9_readLine_7
def dkwX9_readLine_5 : List UInt8 := [18, 185, 182, 0, 133, 153, 0, 10, 42, 182, 0, 253, 167, 0, 58, 42, 18, 187, 182, 0, 133, 153, 0, 10]
abbrev dktX9_readLine_5 : List UInt8 := dkwX9_readLine_5 ++ dktX9_readLine_6
def dkwX9_readLine_4 : List UInt8 := [182, 0, 247, 167, 0, 90, 42, 18, 183, 182, 0, 133, 153, 0, 10, 42, 182, 0, 250, 167, 0, 74, 42]
abbrev dktX9_readLine_4 : List UInt8 := dkwX9_readLine_4 ++ dktX9_readLine_5
def dkwX9_readLine_3 : List UInt8 := [182, 0, 133, 153, 0, 10, 42, 182, 0, 244, 167, 0, 106, 42, 18, 181, 182, 0, 133, 153, 0, 10, 42]
abbrev dktX9_readLine_3 : List UInt8 := dkwX9_readLine_3 ++ dktX9_readLine_4
def dkwX9_readLine_2 : List UInt8 := [167, 0, 138, 42, 18, 177, 182, 0, 133, 153, 0, 10, 42, 182, 0, 241, 167, 0, 122, 42, 18, 179]
abbrev dktX9_readLine_2 : List UInt8 := dkwX9_readLine_2 ++ dktX9_readLine_3
def dkwX9_readLine_1 : List UInt8 := [153, 0, 10, 42, 182, 0, 235, 167, 0, 154, 42, 18, 175, 182, 0, 133, 153, 0, 10, 42, 182, 0, 238]
abbrev dktX9_readLine_1 : List UInt8 := dkwX9_readLine_1 ++ dktX9_readLine_2
def dkwX9_readLine_0 : List UInt8 := [42, 18, 171, 182, 0, 133, 153, 0, 10, 42, 182, 0, 232, 167, 0, 170, 42, 18, 173, 182, 0, 133]
abbrev dktX9_readLine_0 : List UInt8 := dkwX9_readLine_0 ++ dktX9_readLine_1
theorem dksX9_readLine_0 : cX9_readLine.data.toList.drop 0 = dktX9_readLine_0 := by decide +kernel
theorem dksX9_readLine_1 : cX9_readLine.data.toList.drop 22 = dktX9_readLine_1 := dk_seg dksX9_readLine_0 22 rfl rfl
theorem dksX9_readLine_2 : cX9_readLine.data.toList.drop 45 = dktX9_readLine_2 := dk_seg dksX9_readLine_1 23 rfl rfl
theorem dksX9_readLine_3 : cX9_readLine.data.toList.drop 67 = dktX9_readLine_3 := dk_seg dksX9_readLine_2 22 rfl rfl
theorem dksX9_readLine_4 : cX9_readLine.data.toList.drop 90 = dktX9_readLine_4 := dk_seg dksX9_readLine_3 23 rfl rfl
theorem dksX9_readLine_5 : cX9_readLine.data.toList.drop 113 = dktX9_readLine_5 := dk_seg dksX9_readLine_4 23 rfl rfl
theorem dksX9_readLine_6 : cX9_readLine.data.toList.drop 137 = dktX9_readLine_6 := dk_seg dksX9_readLine_5 24 rfl rfl
theorem dksX9_readLine_7 : cX9_readLine.data.toList.drop 161 = dktX9_readLine_7 := dk_seg dksX9_readLine_6 24 rfl rfl
theorem dX9_readLine_0 : decode cX9_readLine 0 = .ok (.aload_n 0, 1) := dk_42 (dk_at dksX9_readLine_0 0 rfl rfl)
theorem dX9_readLine_1 : decode cX9_readLine 1 = .ok (.ldc 171, 2) := dk_18 171 (dk_at dksX9_readLine_0 1 rfl rfl)
theorem dX9_readLine_3 : decode cX9_readLine 3 = .ok (.invokevirtual 133, 3) := dk_182 0 133 (dk_at dksX9_readLine_0 3 rfl rfl)
theorem dX9_readLine_6 : decode cX9_readLine 6 = .ok (.ifCond .eq 10, 3) := dk_153 0 10 (dk_at dksX9_readLine_0 6 rfl rfl)
theorem dX9_readLine_9 : decode cX9_readLine 9 = .ok (.aload_n 0, 1) := dk_42 (dk_at dksX9_readLine_0 9 rfl rfl)
theorem dX9_readLine_10 : decode cX9_readLine 10 = .ok (.invokevirtual 232, 3) := dk_182 0 232 (dk_at dksX9_readLine_0 10 rfl rfl)
theorem dX9_readLine_13 : decode cX9_readLine 13 = .ok (.goto 170, 3) := dk_167 0 170 (dk_at dksX9_readLine_0 13 rfl rfl)
theorem dX9_readLine_16 : decode cX9_readLine 16 = .ok (.aload_n 0, 1) := dk_42 (dk_at dksX9_readLine_0 16 rfl rfl)
theorem dX9_readLine_17 : decode cX9_readLine 17 = .ok (.ldc 173, 2) := dk_18 173 (dk_at dksX9_readLine_0 17 rfl rfl)
theorem dX9_readLine_19 : decode cX9_readLine 19 = .ok (.invokevirtual 133, 3) := dk_182 0 133 (dk_at dksX9_readLine_0 19 rfl rfl)
theorem dX9_readLine_22 : decode cX9_readLine 22 = .ok (.ifCond .eq 10, 3) := dk_153 0 10 (dk_at dksX9_readLine_1 0 rfl rfl)
theorem dX9_readLine_25 : decode cX9_readLine 25 = .ok (.aload_n 0, 1) := dk_42 (dk_at dksX9_readLine_1 3 rfl rfl)
theorem dX9_readLine_26 : decode cX9_readLine 26 = .ok (.invokevirtual 235, 3) := dk_182 0 235 (dk_at dksX9_readLine_1 4 rfl rfl)
theorem dX9_readLine_29 : decode cX9_readLine 29 = .ok (.goto 154, 3) := dk_167 0 154 (dk_at dksX9_readLine_1 7 rfl rfl)
theorem dX9_readLine_32 : decode cX9_readLine 32 = .ok (.aload_n 0, 1) := dk_42 (dk_at dksX9_readLine_1 10 rfl rfl)
theorem dX9_readLine_33 : decode cX9_readLine 33 = .ok (.ldc 175, 2) := dk_18 175 (dk_at dksX9_readLine_1 11 rfl rfl)
theorem dX9_readLine_35 : decode cX9_readLine 35 = .ok (.invokevirtual 133, 3) := dk_182 0 133 (dk_at dksX9_readLine_1 13 rfl rfl)
theorem dX9_readLine_38 : decode cX9_readLine 38 = .ok (.ifCond .eq 10, 3) := dk_153 0 10 (dk_at dksX9_readLine_1 16 rfl rfl)
theorem dX9_readLine_41 : decode cX9_readLine 41 = .ok (.aload_n 0, 1) := dk_42 (dk_at dksX9_readLine_1 19 rfl rfl)
theorem dX9_readLine_42 : decode cX9_readLine 42 = .ok (.invokevirtual 238, 3) := dk_182 0 238 (dk_at dksX9_readLine_1 20 rfl rfl)
theorem dX9_readLine_45 : decode cX9_readLine 45 = .ok (.goto 138, 3) := dk_167 0 138 (dk_at dksX9_readLine_2 0 rfl rfl)
theorem dX9_readLine_48 : decode cX9_readLine 48 = .ok (.aload_n 0, 1) := dk_42 (dk_at dksX9_readLine_2 3 rfl rfl)
theorem dX9_readLine_49 : decode cX9_readLine 49 = .ok (.ldc 177, 2) := dk_18 177 (dk_at dksX9_readLine_2 4 rfl rfl)
theorem dX9_readLine_51 : decode cX9_readLine 51 = .ok (.invokevirtual 133, 3) := dk_182 0 133 (dk_at dksX9_readLine_2 6 rfl rfl)
theorem dX9_readLine_54 : decode cX9_readLine 54 = .ok (.ifCond .eq 10, 3) := dk_153 0 10 (dk_at dksX9_readLine_2 9 rfl rfl)
theorem dX9_readLine_57 : decode cX9_readLine 57 = .ok (.aload_n 0, 1) := dk_42 (dk_at dksX9_readLine_2 12 rfl rfl)
theorem dX9_readLine_58 : decode cX9_readLine 58 = .ok (.invokevirtual 241, 3) := dk_182 0 241 (dk_at dksX9_readLine_2 13 rfl rfl)
theorem dX9_readLine_61 : decode cX9_readLine 61 = .ok (.goto 122, 3) := dk_167 0 122 (dk_at dksX9_readLine_2 16 rfl rfl)
theorem dX9_readLine_64 : decode cX9_readLine 64 = .ok (.aload_n 0, 1) := dk_42 (dk_at dksX9_readLine_2 19 rfl rfl)
theorem dX9_readLine_65 : decode cX9_readLine 65 = .ok (.ldc 179, 2) := dk_18 179 (dk_at dksX9_readLine_2 20 rfl rfl)
theorem dX9_readLine_67 : decode cX9_readLine 67 = .ok (.invokevirtual 133, 3) := dk_182 0 133 (dk_at dksX9_readLine_3 0 rfl rfl)
theorem dX9_readLine_70 : decode cX9_readLine 70 = .ok (.ifCond .eq 10, 3) := dk_153 0 10 (dk_at dksX9_readLine_3 3 rfl rfl)
theorem dX9_readLine_73 : decode cX9_readLine 73 = .ok (.aload_n 0, 1) := dk_42 (dk_at dksX9_readLine_3 6 rfl rfl)
theorem dX9_readLine_74 : decode cX9_readLine 74 = .ok (.invokevirtual 244, 3) := dk_182 0 244 (dk_at dksX9_readLine_3 7 rfl rfl)
theorem dX9_readLine_77 : decode cX9_readLine 77 = .ok (.goto 106, 3) := dk_167 0 106 (dk_at dksX9_readLine_3 10 rfl rfl)
theorem dX9_readLine_80 : decode cX9_readLine 80 = .ok (.aload_n 0, 1) := dk_42 (dk_at dksX9_readLine_3 13 rfl rfl)
theorem dX9_readLine_81 : decode cX9_readLine 81 = .ok (.ldc 181, 2) := dk_18 181 (dk_at dksX9_readLine_3 14 rfl rfl)
theorem dX9_readLine_83 : decode cX9_readLine 83 = .ok (.invokevirtual 133, 3) := dk_182 0 133 (dk_at dksX9_readLine_3 16 rfl rfl)
theorem dX9_readLine_86 : decode cX9_readLine 86 = .ok (.ifCond .eq 10, 3) := dk_153 0 10 (dk_at dksX9_readLine_3 19 rfl rfl)
theorem dX9_readLine_89 : decode cX9_readLine 89 = .ok (.aload_n 0, 1) := dk_42 (dk_at dksX9_readLine_3 22 rfl rfl)
theorem dX9_readLine_90 : decode cX9_readLine 90 = .ok (.invokevirtual 247, 3) := dk_182 0 247 (dk_at dksX9_readLine_4 0 rfl rfl)
theorem dX9_readLine_93 : decode cX9_readLine 93 = .ok (.goto 90, 3) := dk_167 0 90 (dk_at dksX9_readLine_4 3 rfl rfl)
theorem dX9_readLine_96 : decode cX9_readLine 96 = .ok (.aload_n 0, 1) := dk_42 (dk_at dksX9_readLine_4 6 rfl rfl)
theorem dX9_readLine_97 : decode cX9_readLine 97 = .ok (.ldc 183, 2) := dk_18 183 (dk_at dksX9_readLine_4 7 rfl rfl)
theorem dX9_readLine_99 : decode cX9_readLine 99 = .ok (.invokevirtual 133, 3) := dk_182 0 133 (dk_at dksX9_readLine_4 9 rfl rfl)
theorem dX9_readLine_102 : decode cX9_readLine 102 = .ok (.ifCond .eq 10, 3) := dk_153 0 10 (dk_at dksX9_readLine_4 12 rfl rfl)
theorem dX9_readLine_105 : decode cX9_readLine 105 = .ok (.aload_n 0, 1) := dk_42 (dk_at dksX9_readLine_4 15 rfl rfl)
theorem dX9_readLine_106 : decode cX9_readLine 106 = .ok (.invokevirtual 250, 3) := dk_182 0 250 (dk_at dksX9_readLine_4 16 rfl rfl)
theorem dX9_readLine_109 : decode cX9_readLine 109 = .ok (.goto 74, 3) := dk_167 0 74 (dk_at dksX9_readLine_4 19 rfl rfl)
theorem dX9_readLine_112 : decode cX9_readLine 112 = .ok (.aload_n 0, 1) := dk_42 (dk_at dksX9_readLine_4 22 rfl rfl)
theorem dX9_readLine_113 : decode cX9_readLine 113 = .ok (.ldc 185, 2) := dk_18 185 (dk_at dksX9_readLine_5 0 rfl rfl)
theorem dX9_readLine_115 : decode cX9_readLine 115 = .ok (.invokevirtual 133, 3) := dk_182 0 133 (dk_at dksX9_readLine_5 2 rfl rfl)
theorem dX9_readLine_118 : decode cX9_readLine 118 = .ok (.ifCond .eq 10, 3) := dk_153 0 10 (dk_at dksX9_readLine_5 5 rfl rfl)
theorem dX9_readLine_121 : decode cX9_readLine 121 = .ok (.aload_n 0, 1) := dk_42 (dk_at dksX9_readLine_5 8 rfl rfl)
theorem dX9_readLine_122 : decode cX9_readLine 122 = .ok (.invokevirtual 253, 3) := dk_182 0 253 (dk_at dksX9_readLine_5 9 rfl rfl)
theorem dX9_readLine_125 : decode cX9_readLine 125 = .ok (.goto 58, 3) := dk_167 0 58 (dk_at dksX9_readLine_5 12 rfl rfl)
theorem dX9_readLine_128 : decode cX9_readLine 128 = .ok (.aload_n 0, 1) := dk_42 (dk_at dksX9_readLine_5 15 rfl rfl)
theorem dX9_readLine_129 : decode cX9_readLine 129 = .ok (.ldc 187, 2) := dk_18 187 (dk_at dksX9_readLine_5 16 rfl rfl)
theorem dX9_readLine_131 : decode cX9_readLine 131 = .ok (.invokevirtual 133, 3) := dk_182 0 133 (dk_at dksX9_readLine_5 18 rfl rfl)
theorem dX9_readLine_134 : decode cX9_readLine 134 = .ok (.ifCond .eq 10, 3) := dk_153 0 10 (dk_at dksX9_readLine_5 21 rfl rfl)
theorem dX9_readLine_137 : decode cX9_readLine 137 = .ok (.aload_n 0, 1) := dk_42 (dk_at dksX9_readLine_6 0 rfl rfl)
theorem dX9_readLine_138 : decode cX9_readLine 138 = .ok (.invokevirtual 256, 3) := dk_182 1 0 (dk_at dksX9_readLine_6 1 rfl rfl)
theorem dX9_readLine_141 : decode cX9_readLine 141 = .ok (.goto 42, 3) := dk_167 0 42 (dk_at dksX9_readLine_6 4 rfl rfl)
theorem dX9_readLine_144 : decode cX9_readLine 144 = .ok (.aload_n 0, 1) := dk_42 (dk_at dksX9_readLine_6 7 rfl rfl)
theorem dX9_readLine_145 : decode cX9_readLine 145 = .ok (.ldc 189, 2) := dk_18 189 (dk_at dksX9_readLine_6 8 rfl rfl)
theorem dX9_readLine_147 : decode cX9_readLine 147 = .ok (.invokevirtual 133, 3) := dk_182 0 133 (dk_at dksX9_readLine_6 10 rfl rfl)
theorem dX9_readLine_150 : decode cX9_readLine 150 = .ok (.ifCond .eq 11, 3) := dk_153 0 11 (dk_at dksX9_readLine_6 13 rfl rfl)
theorem dX9_readLine_153 : decode cX9_readLine 153 = .ok (.aload_n 0, 1) := dk_42 (dk_at dksX9_readLine_6 16 rfl rfl)
theorem dX9_readLine_154 : decode cX9_readLine 154 = .ok (.iconst 1, 1) := dk_4 (dk_at dksX9_readLine_6 17 rfl rfl)
theorem dX9_readLine_155 : decode cX9_readLine 155 = .ok (.invokevirtual 259, 3) := dk_182 1 3 (dk_at dksX9_readLine_6 18 rfl rfl)
theorem dX9_readLine_158 : decode cX9_readLine 158 = .ok (.goto 25, 3) := dk_167 0 25 (dk_at dksX9_readLine_6 21 rfl rfl)
theorem dX9_readLine_161 : decode cX9_readLine 161 = .ok (.aload_n 0, 1) := dk_42 (dk_at dksX9_readLine_7 0 rfl rfl)
theorem dX9_readLine_162 : decode cX9_readLine 162 = .ok (.ldc 191, 2) := dk_18 191 (dk_at dksX9_readLine_7 1 rfl rfl)
theorem dX9_readLine_164 : decode cX9_readLine 164 = .ok (.invokevirtual 133, 3) := dk_182 0 133 (dk_at dksX9_readLine_7 3 rfl rfl)
theorem dX9_readLine_167 : decode cX9_readLine 167 = .ok (.ifCond .eq 11, 3) := dk_153 0 11 (dk_at dksX9_readLine_7 6 rfl rfl)
theorem dX9_readLine_170 : decode cX9_readLine 170 = .ok (.aload_n 0, 1) := dk_42 (dk_at dksX9_readLine_7 9 rfl rfl)
theorem dX9_readLine_171 : decode cX9_readLine 171 = .ok (.iconst 0, 1) := dk_3 (dk_at dksX9_readLine_7 10 rfl rfl)
theorem dX9_readLine_172 : decode cX9_readLine 172 = .ok (.invokevirtual 259, 3) := dk_182 1 3 (dk_at dksX9_readLine_7 11 rfl rfl)
theorem dX9_readLine_175 : decode cX9_readLine 175 = .ok (.goto 8, 3) := dk_167 0 8 (dk_at dksX9_readLine_7 14 rfl rfl)
theorem dX9_readLine_178 : decode cX9_readLine 178 = .ok (.aload_n 0, 1) := dk_42 (dk_at dksX9_readLine_7 17 rfl rfl)
theorem dX9_readLine_179 : decode cX9_readLine 179 = .ok (.iconst 1, 1) := dk_4 (dk_at dksX9_readLine_7 18 rfl rfl)
theorem dX9_readLine_180 : decode cX9_readLine 180 = .ok (.invokevirtual 137, 3) := dk_182 0 137 (dk_at dksX9_readLine_7 19 rfl rfl)
theorem dX9_readLine_183 : decode cX9_readLine 183 = .ok (.return_, 1) := dk_177 (dk_at dksX9_readLine_7 22 rfl rfl)
abbrev cX9_isWord : ByteArray := prog_20_method_16_code
def yX9_isWord : MethodName := ⟨RX9, "isWord", "(Ljava/lang/String;)Z"⟩
def dkwX9_isWord_1 : List UInt8 := [3, 172]
abbrev dktX9_isWord_1 : List UInt8 := dkwX9_isWord_1 ++ []
def dkwX9_isWord_0 : List UInt8 := [42, 180, 0, 91, 5, 160, 0, 19, 42, 180, 0, 110, 43, 184, 0, 126, 148, 154, 0, 7, 4, 167, 0, 4]
abbrev dktX9_isWord_0 : List UInt8 := dkwX9_isWord_0 ++ dktX9_isWord_1
theorem dksX9_isWord_0 : cX9_isWord.data.toList.drop 0 = dktX9_isWord_0 := by decide +kernel
theorem dksX9_isWord_1 : cX9_isWord.data.toList.drop 24 = dktX9_isWord_1 := dk_seg dksX9_isWord_0 24 rfl rfl
theorem dX9_isWord_0 : decode cX9_isWord 0 = .ok (.aload_n 0, 1) := dk_42 (dk_at dksX9_isWord_0 0 rfl rfl)
theorem dX9_isWord_1 : decode cX9_isWord 1 = .ok (.getfield 91, 3) := dk_180 0 91 (dk_at dksX9_isWord_0 1 rfl rfl)
theorem dX9_isWord_4 : decode cX9_isWord 4 = .ok (.iconst 2, 1) := dk_5 (dk_at dksX9_isWord_0 4 rfl rfl)
theorem dX9_isWord_5 : decode cX9_isWord 5 = .ok (.if_icmp .ne 19, 3) := dk_160 0 19 (dk_at dksX9_isWord_0 5 rfl rfl)
theorem dX9_isWord_8 : decode cX9_isWord 8 = .ok (.aload_n 0, 1) := dk_42 (dk_at dksX9_isWord_0 8 rfl rfl)
theorem dX9_isWord_9 : decode cX9_isWord 9 = .ok (.getfield 110, 3) := dk_180 0 110 (dk_at dksX9_isWord_0 9 rfl rfl)
theorem dX9_isWord_12 : decode cX9_isWord 12 = .ok (.aload_n 1, 1) := dk_43 (dk_at dksX9_isWord_0 12 rfl rfl)
theorem dX9_isWord_13 : decode cX9_isWord 13 = .ok (.invokestatic 126, 3) := dk_184 0 126 (dk_at dksX9_isWord_0 13 rfl rfl)
theorem dX9_isWord_16 : decode cX9_isWord 16 = .ok (.lcmp, 1) := dk_148 (dk_at dksX9_isWord_0 16 rfl rfl)
theorem dX9_isWord_17 : decode cX9_isWord 17 = .ok (.ifCond .ne 7, 3) := dk_154 0 7 (dk_at dksX9_isWord_0 17 rfl rfl)
theorem dX9_isWord_20 : decode cX9_isWord 20 = .ok (.iconst 1, 1) := dk_4 (dk_at dksX9_isWord_0 20 rfl rfl)
theorem dX9_isWord_21 : decode cX9_isWord 21 = .ok (.goto 4, 3) := dk_167 0 4 (dk_at dksX9_isWord_0 21 rfl rfl)
theorem dX9_isWord_24 : decode cX9_isWord 24 = .ok (.iconst 0, 1) := dk_3 (dk_at dksX9_isWord_1 0 rfl rfl)
theorem dX9_isWord_25 : decode cX9_isWord 25 = .ok (.ireturn, 1) := dk_172 (dk_at dksX9_isWord_1 1 rfl rfl)
abbrev cX9_wordOf : ByteArray := prog_20_method_13_code
def yX9_wordOf : MethodName := ⟨RX9, "wordOf", "(Ljava/lang/String;)J"⟩
def dkwX9_wordOf_1 : List UInt8 := [100, 4, 96, 133, 97, 64, 132, 3, 1, 167, 255, 227, 31, 173]
abbrev dktX9_wordOf_1 : List UInt8 := dkwX9_wordOf_1 ++ []
def dkwX9_wordOf_0 : List UInt8 := [9, 64, 3, 62, 29, 42, 182, 0, 79, 162, 0, 27, 20, 0, 85, 31, 105, 42, 29, 182, 0, 87, 16, 97]
abbrev dktX9_wordOf_0 : List UInt8 := dkwX9_wordOf_0 ++ dktX9_wordOf_1
theorem dksX9_wordOf_0 : cX9_wordOf.data.toList.drop 0 = dktX9_wordOf_0 := by decide +kernel
theorem dksX9_wordOf_1 : cX9_wordOf.data.toList.drop 24 = dktX9_wordOf_1 := dk_seg dksX9_wordOf_0 24 rfl rfl
theorem dX9_wordOf_0 : decode cX9_wordOf 0 = .ok (.lconst 0, 1) := dk_9 (dk_at dksX9_wordOf_0 0 rfl rfl)
theorem dX9_wordOf_1 : decode cX9_wordOf 1 = .ok (.lstore_n 1, 1) := dk_64 (dk_at dksX9_wordOf_0 1 rfl rfl)
theorem dX9_wordOf_2 : decode cX9_wordOf 2 = .ok (.iconst 0, 1) := dk_3 (dk_at dksX9_wordOf_0 2 rfl rfl)
theorem dX9_wordOf_3 : decode cX9_wordOf 3 = .ok (.istore_n 3, 1) := dk_62 (dk_at dksX9_wordOf_0 3 rfl rfl)
theorem dX9_wordOf_4 : decode cX9_wordOf 4 = .ok (.iload_n 3, 1) := dk_29 (dk_at dksX9_wordOf_0 4 rfl rfl)
theorem dX9_wordOf_5 : decode cX9_wordOf 5 = .ok (.aload_n 0, 1) := dk_42 (dk_at dksX9_wordOf_0 5 rfl rfl)
theorem dX9_wordOf_6 : decode cX9_wordOf 6 = .ok (.invokevirtual 79, 3) := dk_182 0 79 (dk_at dksX9_wordOf_0 6 rfl rfl)
theorem dX9_wordOf_9 : decode cX9_wordOf 9 = .ok (.if_icmp .ge 27, 3) := dk_162 0 27 (dk_at dksX9_wordOf_0 9 rfl rfl)
theorem dX9_wordOf_12 : decode cX9_wordOf 12 = .ok (.ldc2_w 85, 3) := dk_20 0 85 (dk_at dksX9_wordOf_0 12 rfl rfl)
theorem dX9_wordOf_15 : decode cX9_wordOf 15 = .ok (.lload_n 1, 1) := dk_31 (dk_at dksX9_wordOf_0 15 rfl rfl)
theorem dX9_wordOf_16 : decode cX9_wordOf 16 = .ok (.lmul, 1) := dk_105 (dk_at dksX9_wordOf_0 16 rfl rfl)
theorem dX9_wordOf_17 : decode cX9_wordOf 17 = .ok (.aload_n 0, 1) := dk_42 (dk_at dksX9_wordOf_0 17 rfl rfl)
theorem dX9_wordOf_18 : decode cX9_wordOf 18 = .ok (.iload_n 3, 1) := dk_29 (dk_at dksX9_wordOf_0 18 rfl rfl)
theorem dX9_wordOf_19 : decode cX9_wordOf 19 = .ok (.invokevirtual 87, 3) := dk_182 0 87 (dk_at dksX9_wordOf_0 19 rfl rfl)
theorem dX9_wordOf_22 : decode cX9_wordOf 22 = .ok (.bipush 97, 2) := dk_16 97 (dk_at dksX9_wordOf_0 22 rfl rfl)
theorem dX9_wordOf_24 : decode cX9_wordOf 24 = .ok (.isub, 1) := dk_100 (dk_at dksX9_wordOf_1 0 rfl rfl)
theorem dX9_wordOf_25 : decode cX9_wordOf 25 = .ok (.iconst 1, 1) := dk_4 (dk_at dksX9_wordOf_1 1 rfl rfl)
theorem dX9_wordOf_26 : decode cX9_wordOf 26 = .ok (.iadd, 1) := dk_96 (dk_at dksX9_wordOf_1 2 rfl rfl)
theorem dX9_wordOf_27 : decode cX9_wordOf 27 = .ok (.i2l, 1) := dk_133 (dk_at dksX9_wordOf_1 3 rfl rfl)
theorem dX9_wordOf_28 : decode cX9_wordOf 28 = .ok (.ladd, 1) := dk_97 (dk_at dksX9_wordOf_1 4 rfl rfl)
theorem dX9_wordOf_29 : decode cX9_wordOf 29 = .ok (.lstore_n 1, 1) := dk_64 (dk_at dksX9_wordOf_1 5 rfl rfl)
theorem dX9_wordOf_30 : decode cX9_wordOf 30 = .ok (.iinc 3 1, 3) := dk_132 3 1 (dk_at dksX9_wordOf_1 6 rfl rfl)
theorem dX9_wordOf_33 : decode cX9_wordOf 33 = .ok (.goto (-29), 3) := dk_167 255 227 (dk_at dksX9_wordOf_1 9 rfl rfl)
theorem dX9_wordOf_36 : decode cX9_wordOf 36 = .ok (.lload_n 1, 1) := dk_31 (dk_at dksX9_wordOf_1 12 rfl rfl)
theorem dX9_wordOf_37 : decode cX9_wordOf 37 = .ok (.lreturn, 1) := dk_173 (dk_at dksX9_wordOf_1 13 rfl rfl)
abbrev cX9_readLand : ByteArray := prog_20_method_32_code
def yX9_readLand : MethodName := ⟨RX9, "readLand", "()V"⟩
def dkwX9_readLand_6 : List UInt8 := [181, 0, 168, 42, 180, 0, 156, 29, 181, 1, 25, 42, 180, 0, 156, 21, 4, 181, 1, 28, 177]
abbrev dktX9_readLand_6 : List UInt8 := dkwX9_readLand_6 ++ []
def dkwX9_readLand_5 : List UInt8 := [42, 180, 0, 91, 8, 160, 0, 4, 177, 42, 180, 0, 156, 27, 181, 0, 160, 42, 180, 0, 156, 28]
abbrev dktX9_readLand_5 : List UInt8 := dkwX9_readLand_5 ++ dktX9_readLand_6
def dkwX9_readLand_4 : List UInt8 := [21, 4, 154, 0, 18, 42, 19, 1, 23, 182, 0, 133, 154, 0, 8, 42, 4, 182, 0, 137, 42, 182, 0, 130]
abbrev dktX9_readLand_4 : List UInt8 := dkwX9_readLand_4 ++ dktX9_readLand_5
def dkwX9_readLand_3 : List UInt8 := [182, 0, 137, 42, 182, 0, 130, 42, 19, 1, 19, 182, 0, 149, 42, 19, 1, 21, 182, 0, 133, 54, 4]
abbrev dktX9_readLand_3 : List UInt8 := dkwX9_readLand_3 ++ dktX9_readLand_4
def dkwX9_readLand_2 : List UInt8 := [42, 19, 1, 15, 182, 0, 133, 62, 29, 154, 0, 18, 42, 19, 1, 17, 182, 0, 133, 154, 0, 8, 42, 4]
abbrev dktX9_readLand_2 : List UInt8 := dkwX9_readLand_2 ++ dktX9_readLand_3
def dkwX9_readLand_1 : List UInt8 := [16, 12, 182, 1, 8, 60, 42, 19, 1, 12, 6, 16, 12, 182, 1, 8, 61, 42, 19, 1, 13, 182, 0, 149]
abbrev dktX9_readLand_1 : List UInt8 := dkwX9_readLand_1 ++ dktX9_readLand_2
def dkwX9_readLand_0 : List UInt8 := [42, 180, 0, 156, 180, 0, 160, 158, 0, 8, 42, 6, 182, 0, 137, 42, 182, 0, 130, 42, 19, 1, 7, 6]
abbrev dktX9_readLand_0 : List UInt8 := dkwX9_readLand_0 ++ dktX9_readLand_1
theorem dksX9_readLand_0 : cX9_readLand.data.toList.drop 0 = dktX9_readLand_0 := by decide +kernel
theorem dksX9_readLand_1 : cX9_readLand.data.toList.drop 24 = dktX9_readLand_1 := dk_seg dksX9_readLand_0 24 rfl rfl
theorem dksX9_readLand_2 : cX9_readLand.data.toList.drop 48 = dktX9_readLand_2 := dk_seg dksX9_readLand_1 24 rfl rfl
theorem dksX9_readLand_3 : cX9_readLand.data.toList.drop 72 = dktX9_readLand_3 := dk_seg dksX9_readLand_2 24 rfl rfl
theorem dksX9_readLand_4 : cX9_readLand.data.toList.drop 95 = dktX9_readLand_4 := dk_seg dksX9_readLand_3 23 rfl rfl
theorem dksX9_readLand_5 : cX9_readLand.data.toList.drop 119 = dktX9_readLand_5 := dk_seg dksX9_readLand_4 24 rfl rfl
theorem dksX9_readLand_6 : cX9_readLand.data.toList.drop 141 = dktX9_readLand_6 := dk_seg dksX9_readLand_5 22 rfl rfl
theorem dX9_readLand_0 : decode cX9_readLand 0 = .ok (.aload_n 0, 1) := dk_42 (dk_at dksX9_readLand_0 0 rfl rfl)
theorem dX9_readLand_1 : decode cX9_readLand 1 = .ok (.getfield 156, 3) := dk_180 0 156 (dk_at dksX9_readLand_0 1 rfl rfl)
theorem dX9_readLand_4 : decode cX9_readLand 4 = .ok (.getfield 160, 3) := dk_180 0 160 (dk_at dksX9_readLand_0 4 rfl rfl)
theorem dX9_readLand_7 : decode cX9_readLand 7 = .ok (.ifCond .le 8, 3) := dk_158 0 8 (dk_at dksX9_readLand_0 7 rfl rfl)
theorem dX9_readLand_10 : decode cX9_readLand 10 = .ok (.aload_n 0, 1) := dk_42 (dk_at dksX9_readLand_0 10 rfl rfl)
theorem dX9_readLand_11 : decode cX9_readLand 11 = .ok (.iconst 3, 1) := dk_6 (dk_at dksX9_readLand_0 11 rfl rfl)
theorem dX9_readLand_12 : decode cX9_readLand 12 = .ok (.invokevirtual 137, 3) := dk_182 0 137 (dk_at dksX9_readLand_0 12 rfl rfl)
theorem dX9_readLand_15 : decode cX9_readLand 15 = .ok (.aload_n 0, 1) := dk_42 (dk_at dksX9_readLand_0 15 rfl rfl)
theorem dX9_readLand_16 : decode cX9_readLand 16 = .ok (.invokevirtual 130, 3) := dk_182 0 130 (dk_at dksX9_readLand_0 16 rfl rfl)
theorem dX9_readLand_19 : decode cX9_readLand 19 = .ok (.aload_n 0, 1) := dk_42 (dk_at dksX9_readLand_0 19 rfl rfl)
theorem dX9_readLand_20 : decode cX9_readLand 20 = .ok (.ldc_w 263, 3) := dk_19 1 7 (dk_at dksX9_readLand_0 20 rfl rfl)
theorem dX9_readLand_23 : decode cX9_readLand 23 = .ok (.iconst 3, 1) := dk_6 (dk_at dksX9_readLand_0 23 rfl rfl)
theorem dX9_readLand_24 : decode cX9_readLand 24 = .ok (.bipush 12, 2) := dk_16 12 (dk_at dksX9_readLand_1 0 rfl rfl)
theorem dX9_readLand_26 : decode cX9_readLand 26 = .ok (.invokevirtual 264, 3) := dk_182 1 8 (dk_at dksX9_readLand_1 2 rfl rfl)
theorem dX9_readLand_29 : decode cX9_readLand 29 = .ok (.istore_n 1, 1) := dk_60 (dk_at dksX9_readLand_1 5 rfl rfl)
theorem dX9_readLand_30 : decode cX9_readLand 30 = .ok (.aload_n 0, 1) := dk_42 (dk_at dksX9_readLand_1 6 rfl rfl)
theorem dX9_readLand_31 : decode cX9_readLand 31 = .ok (.ldc_w 268, 3) := dk_19 1 12 (dk_at dksX9_readLand_1 7 rfl rfl)
theorem dX9_readLand_34 : decode cX9_readLand 34 = .ok (.iconst 3, 1) := dk_6 (dk_at dksX9_readLand_1 10 rfl rfl)
theorem dX9_readLand_35 : decode cX9_readLand 35 = .ok (.bipush 12, 2) := dk_16 12 (dk_at dksX9_readLand_1 11 rfl rfl)
theorem dX9_readLand_37 : decode cX9_readLand 37 = .ok (.invokevirtual 264, 3) := dk_182 1 8 (dk_at dksX9_readLand_1 13 rfl rfl)
theorem dX9_readLand_40 : decode cX9_readLand 40 = .ok (.istore_n 2, 1) := dk_61 (dk_at dksX9_readLand_1 16 rfl rfl)
theorem dX9_readLand_41 : decode cX9_readLand 41 = .ok (.aload_n 0, 1) := dk_42 (dk_at dksX9_readLand_1 17 rfl rfl)
theorem dX9_readLand_42 : decode cX9_readLand 42 = .ok (.ldc_w 269, 3) := dk_19 1 13 (dk_at dksX9_readLand_1 18 rfl rfl)
theorem dX9_readLand_45 : decode cX9_readLand 45 = .ok (.invokevirtual 149, 3) := dk_182 0 149 (dk_at dksX9_readLand_1 21 rfl rfl)
theorem dX9_readLand_48 : decode cX9_readLand 48 = .ok (.aload_n 0, 1) := dk_42 (dk_at dksX9_readLand_2 0 rfl rfl)
theorem dX9_readLand_49 : decode cX9_readLand 49 = .ok (.ldc_w 271, 3) := dk_19 1 15 (dk_at dksX9_readLand_2 1 rfl rfl)
theorem dX9_readLand_52 : decode cX9_readLand 52 = .ok (.invokevirtual 133, 3) := dk_182 0 133 (dk_at dksX9_readLand_2 4 rfl rfl)
theorem dX9_readLand_55 : decode cX9_readLand 55 = .ok (.istore_n 3, 1) := dk_62 (dk_at dksX9_readLand_2 7 rfl rfl)
theorem dX9_readLand_56 : decode cX9_readLand 56 = .ok (.iload_n 3, 1) := dk_29 (dk_at dksX9_readLand_2 8 rfl rfl)
theorem dX9_readLand_57 : decode cX9_readLand 57 = .ok (.ifCond .ne 18, 3) := dk_154 0 18 (dk_at dksX9_readLand_2 9 rfl rfl)
theorem dX9_readLand_60 : decode cX9_readLand 60 = .ok (.aload_n 0, 1) := dk_42 (dk_at dksX9_readLand_2 12 rfl rfl)
theorem dX9_readLand_61 : decode cX9_readLand 61 = .ok (.ldc_w 273, 3) := dk_19 1 17 (dk_at dksX9_readLand_2 13 rfl rfl)
theorem dX9_readLand_64 : decode cX9_readLand 64 = .ok (.invokevirtual 133, 3) := dk_182 0 133 (dk_at dksX9_readLand_2 16 rfl rfl)
theorem dX9_readLand_67 : decode cX9_readLand 67 = .ok (.ifCond .ne 8, 3) := dk_154 0 8 (dk_at dksX9_readLand_2 19 rfl rfl)
theorem dX9_readLand_70 : decode cX9_readLand 70 = .ok (.aload_n 0, 1) := dk_42 (dk_at dksX9_readLand_2 22 rfl rfl)
theorem dX9_readLand_71 : decode cX9_readLand 71 = .ok (.iconst 1, 1) := dk_4 (dk_at dksX9_readLand_2 23 rfl rfl)
theorem dX9_readLand_72 : decode cX9_readLand 72 = .ok (.invokevirtual 137, 3) := dk_182 0 137 (dk_at dksX9_readLand_3 0 rfl rfl)
theorem dX9_readLand_75 : decode cX9_readLand 75 = .ok (.aload_n 0, 1) := dk_42 (dk_at dksX9_readLand_3 3 rfl rfl)
theorem dX9_readLand_76 : decode cX9_readLand 76 = .ok (.invokevirtual 130, 3) := dk_182 0 130 (dk_at dksX9_readLand_3 4 rfl rfl)
theorem dX9_readLand_79 : decode cX9_readLand 79 = .ok (.aload_n 0, 1) := dk_42 (dk_at dksX9_readLand_3 7 rfl rfl)
theorem dX9_readLand_80 : decode cX9_readLand 80 = .ok (.ldc_w 275, 3) := dk_19 1 19 (dk_at dksX9_readLand_3 8 rfl rfl)
theorem dX9_readLand_83 : decode cX9_readLand 83 = .ok (.invokevirtual 149, 3) := dk_182 0 149 (dk_at dksX9_readLand_3 11 rfl rfl)
theorem dX9_readLand_86 : decode cX9_readLand 86 = .ok (.aload_n 0, 1) := dk_42 (dk_at dksX9_readLand_3 14 rfl rfl)
theorem dX9_readLand_87 : decode cX9_readLand 87 = .ok (.ldc_w 277, 3) := dk_19 1 21 (dk_at dksX9_readLand_3 15 rfl rfl)
theorem dX9_readLand_90 : decode cX9_readLand 90 = .ok (.invokevirtual 133, 3) := dk_182 0 133 (dk_at dksX9_readLand_3 18 rfl rfl)
theorem dX9_readLand_93 : decode cX9_readLand 93 = .ok (.istore 4, 2) := dk_54 4 (dk_at dksX9_readLand_3 21 rfl rfl)
theorem dX9_readLand_95 : decode cX9_readLand 95 = .ok (.iload 4, 2) := dk_21 4 (dk_at dksX9_readLand_4 0 rfl rfl)
theorem dX9_readLand_97 : decode cX9_readLand 97 = .ok (.ifCond .ne 18, 3) := dk_154 0 18 (dk_at dksX9_readLand_4 2 rfl rfl)
theorem dX9_readLand_100 : decode cX9_readLand 100 = .ok (.aload_n 0, 1) := dk_42 (dk_at dksX9_readLand_4 5 rfl rfl)
theorem dX9_readLand_101 : decode cX9_readLand 101 = .ok (.ldc_w 279, 3) := dk_19 1 23 (dk_at dksX9_readLand_4 6 rfl rfl)
theorem dX9_readLand_104 : decode cX9_readLand 104 = .ok (.invokevirtual 133, 3) := dk_182 0 133 (dk_at dksX9_readLand_4 9 rfl rfl)
theorem dX9_readLand_107 : decode cX9_readLand 107 = .ok (.ifCond .ne 8, 3) := dk_154 0 8 (dk_at dksX9_readLand_4 12 rfl rfl)
theorem dX9_readLand_110 : decode cX9_readLand 110 = .ok (.aload_n 0, 1) := dk_42 (dk_at dksX9_readLand_4 15 rfl rfl)
theorem dX9_readLand_111 : decode cX9_readLand 111 = .ok (.iconst 1, 1) := dk_4 (dk_at dksX9_readLand_4 16 rfl rfl)
theorem dX9_readLand_112 : decode cX9_readLand 112 = .ok (.invokevirtual 137, 3) := dk_182 0 137 (dk_at dksX9_readLand_4 17 rfl rfl)
theorem dX9_readLand_115 : decode cX9_readLand 115 = .ok (.aload_n 0, 1) := dk_42 (dk_at dksX9_readLand_4 20 rfl rfl)
theorem dX9_readLand_116 : decode cX9_readLand 116 = .ok (.invokevirtual 130, 3) := dk_182 0 130 (dk_at dksX9_readLand_4 21 rfl rfl)
theorem dX9_readLand_119 : decode cX9_readLand 119 = .ok (.aload_n 0, 1) := dk_42 (dk_at dksX9_readLand_5 0 rfl rfl)
theorem dX9_readLand_120 : decode cX9_readLand 120 = .ok (.getfield 91, 3) := dk_180 0 91 (dk_at dksX9_readLand_5 1 rfl rfl)
theorem dX9_readLand_123 : decode cX9_readLand 123 = .ok (.iconst 5, 1) := dk_8 (dk_at dksX9_readLand_5 4 rfl rfl)
theorem dX9_readLand_124 : decode cX9_readLand 124 = .ok (.if_icmp .ne 4, 3) := dk_160 0 4 (dk_at dksX9_readLand_5 5 rfl rfl)
theorem dX9_readLand_127 : decode cX9_readLand 127 = .ok (.return_, 1) := dk_177 (dk_at dksX9_readLand_5 8 rfl rfl)
theorem dX9_readLand_128 : decode cX9_readLand 128 = .ok (.aload_n 0, 1) := dk_42 (dk_at dksX9_readLand_5 9 rfl rfl)
theorem dX9_readLand_129 : decode cX9_readLand 129 = .ok (.getfield 156, 3) := dk_180 0 156 (dk_at dksX9_readLand_5 10 rfl rfl)
theorem dX9_readLand_132 : decode cX9_readLand 132 = .ok (.iload_n 1, 1) := dk_27 (dk_at dksX9_readLand_5 13 rfl rfl)
theorem dX9_readLand_133 : decode cX9_readLand 133 = .ok (.putfield 160, 3) := dk_181 0 160 (dk_at dksX9_readLand_5 14 rfl rfl)
theorem dX9_readLand_136 : decode cX9_readLand 136 = .ok (.aload_n 0, 1) := dk_42 (dk_at dksX9_readLand_5 17 rfl rfl)
theorem dX9_readLand_137 : decode cX9_readLand 137 = .ok (.getfield 156, 3) := dk_180 0 156 (dk_at dksX9_readLand_5 18 rfl rfl)
theorem dX9_readLand_140 : decode cX9_readLand 140 = .ok (.iload_n 2, 1) := dk_28 (dk_at dksX9_readLand_5 21 rfl rfl)
theorem dX9_readLand_141 : decode cX9_readLand 141 = .ok (.putfield 168, 3) := dk_181 0 168 (dk_at dksX9_readLand_6 0 rfl rfl)
theorem dX9_readLand_144 : decode cX9_readLand 144 = .ok (.aload_n 0, 1) := dk_42 (dk_at dksX9_readLand_6 3 rfl rfl)
theorem dX9_readLand_145 : decode cX9_readLand 145 = .ok (.getfield 156, 3) := dk_180 0 156 (dk_at dksX9_readLand_6 4 rfl rfl)
theorem dX9_readLand_148 : decode cX9_readLand 148 = .ok (.iload_n 3, 1) := dk_29 (dk_at dksX9_readLand_6 7 rfl rfl)
theorem dX9_readLand_149 : decode cX9_readLand 149 = .ok (.putfield 281, 3) := dk_181 1 25 (dk_at dksX9_readLand_6 8 rfl rfl)
theorem dX9_readLand_152 : decode cX9_readLand 152 = .ok (.aload_n 0, 1) := dk_42 (dk_at dksX9_readLand_6 11 rfl rfl)
theorem dX9_readLand_153 : decode cX9_readLand 153 = .ok (.getfield 156, 3) := dk_180 0 156 (dk_at dksX9_readLand_6 12 rfl rfl)
theorem dX9_readLand_156 : decode cX9_readLand 156 = .ok (.iload 4, 2) := dk_21 4 (dk_at dksX9_readLand_6 15 rfl rfl)
theorem dX9_readLand_158 : decode cX9_readLand 158 = .ok (.putfield 284, 3) := dk_181 1 28 (dk_at dksX9_readLand_6 17 rfl rfl)
theorem dX9_readLand_161 : decode cX9_readLand 161 = .ok (.return_, 1) := dk_177 (dk_at dksX9_readLand_6 20 rfl rfl)
abbrev cX9_flaw : ByteArray := prog_20_method_15_code
def yX9_flaw : MethodName := ⟨RX9, "flaw", "(I)V"⟩
def dkwX9_flaw_1 : List UInt8 := [181, 0, 91, 177]
abbrev dktX9_flaw_1 : List UInt8 := dkwX9_flaw_1 ++ []
def dkwX9_flaw_0 : List UInt8 := [42, 180, 0, 91, 8, 160, 0, 4, 177, 42, 27, 181, 0, 120, 42, 42, 180, 0, 100, 181, 0, 123, 42, 8]
abbrev dktX9_flaw_0 : List UInt8 := dkwX9_flaw_0 ++ dktX9_flaw_1
theorem dksX9_flaw_0 : cX9_flaw.data.toList.drop 0 = dktX9_flaw_0 := by decide +kernel
theorem dksX9_flaw_1 : cX9_flaw.data.toList.drop 24 = dktX9_flaw_1 := dk_seg dksX9_flaw_0 24 rfl rfl
theorem dX9_flaw_0 : decode cX9_flaw 0 = .ok (.aload_n 0, 1) := dk_42 (dk_at dksX9_flaw_0 0 rfl rfl)
theorem dX9_flaw_1 : decode cX9_flaw 1 = .ok (.getfield 91, 3) := dk_180 0 91 (dk_at dksX9_flaw_0 1 rfl rfl)
theorem dX9_flaw_4 : decode cX9_flaw 4 = .ok (.iconst 5, 1) := dk_8 (dk_at dksX9_flaw_0 4 rfl rfl)
theorem dX9_flaw_5 : decode cX9_flaw 5 = .ok (.if_icmp .ne 4, 3) := dk_160 0 4 (dk_at dksX9_flaw_0 5 rfl rfl)
theorem dX9_flaw_8 : decode cX9_flaw 8 = .ok (.return_, 1) := dk_177 (dk_at dksX9_flaw_0 8 rfl rfl)
theorem dX9_flaw_9 : decode cX9_flaw 9 = .ok (.aload_n 0, 1) := dk_42 (dk_at dksX9_flaw_0 9 rfl rfl)
theorem dX9_flaw_10 : decode cX9_flaw 10 = .ok (.iload_n 1, 1) := dk_27 (dk_at dksX9_flaw_0 10 rfl rfl)
theorem dX9_flaw_11 : decode cX9_flaw 11 = .ok (.putfield 120, 3) := dk_181 0 120 (dk_at dksX9_flaw_0 11 rfl rfl)
theorem dX9_flaw_14 : decode cX9_flaw 14 = .ok (.aload_n 0, 1) := dk_42 (dk_at dksX9_flaw_0 14 rfl rfl)
theorem dX9_flaw_15 : decode cX9_flaw 15 = .ok (.aload_n 0, 1) := dk_42 (dk_at dksX9_flaw_0 15 rfl rfl)
theorem dX9_flaw_16 : decode cX9_flaw 16 = .ok (.getfield 100, 3) := dk_180 0 100 (dk_at dksX9_flaw_0 16 rfl rfl)
theorem dX9_flaw_19 : decode cX9_flaw 19 = .ok (.putfield 123, 3) := dk_181 0 123 (dk_at dksX9_flaw_0 19 rfl rfl)
theorem dX9_flaw_22 : decode cX9_flaw 22 = .ok (.aload_n 0, 1) := dk_42 (dk_at dksX9_flaw_0 22 rfl rfl)
theorem dX9_flaw_23 : decode cX9_flaw 23 = .ok (.iconst 5, 1) := dk_8 (dk_at dksX9_flaw_0 23 rfl rfl)
theorem dX9_flaw_24 : decode cX9_flaw 24 = .ok (.putfield 91, 3) := dk_181 0 91 (dk_at dksX9_flaw_1 0 rfl rfl)
theorem dX9_flaw_27 : decode cX9_flaw 27 = .ok (.return_, 1) := dk_177 (dk_at dksX9_flaw_1 3 rfl rfl)
abbrev cX9_readPart : ByteArray := prog_20_method_22_code
def yX9_readPart : MethodName := ⟨RX9, "readPart", "(Ljava/lang/String;II)I"⟩
def dkwX9_readPart_0 : List UInt8 := [42, 43, 182, 0, 149, 42, 28, 29, 182, 0, 153, 172]
abbrev dktX9_readPart_0 : List UInt8 := dkwX9_readPart_0 ++ []
theorem dksX9_readPart_0 : cX9_readPart.data.toList.drop 0 = dktX9_readPart_0 := by decide +kernel
theorem dX9_readPart_0 : decode cX9_readPart 0 = .ok (.aload_n 0, 1) := dk_42 (dk_at dksX9_readPart_0 0 rfl rfl)
theorem dX9_readPart_1 : decode cX9_readPart 1 = .ok (.aload_n 1, 1) := dk_43 (dk_at dksX9_readPart_0 1 rfl rfl)
theorem dX9_readPart_2 : decode cX9_readPart 2 = .ok (.invokevirtual 149, 3) := dk_182 0 149 (dk_at dksX9_readPart_0 2 rfl rfl)
theorem dX9_readPart_5 : decode cX9_readPart 5 = .ok (.aload_n 0, 1) := dk_42 (dk_at dksX9_readPart_0 5 rfl rfl)
theorem dX9_readPart_6 : decode cX9_readPart 6 = .ok (.iload_n 2, 1) := dk_28 (dk_at dksX9_readPart_0 6 rfl rfl)
theorem dX9_readPart_7 : decode cX9_readPart 7 = .ok (.iload_n 3, 1) := dk_29 (dk_at dksX9_readPart_0 7 rfl rfl)
theorem dX9_readPart_8 : decode cX9_readPart 8 = .ok (.invokevirtual 153, 3) := dk_182 0 153 (dk_at dksX9_readPart_0 8 rfl rfl)
theorem dX9_readPart_11 : decode cX9_readPart 11 = .ok (.ireturn, 1) := dk_172 (dk_at dksX9_readPart_0 11 rfl rfl)
abbrev cX9_needs : ByteArray := prog_20_method_18_code
def yX9_needs : MethodName := ⟨RX9, "needs", "(Ljava/lang/String;)V"⟩
def dkwX9_needs_0 : List UInt8 := [42, 43, 182, 0, 133, 154, 0, 8, 42, 4, 182, 0, 137, 42, 182, 0, 130, 177]
abbrev dktX9_needs_0 : List UInt8 := dkwX9_needs_0 ++ []
theorem dksX9_needs_0 : cX9_needs.data.toList.drop 0 = dktX9_needs_0 := by decide +kernel
theorem dX9_needs_0 : decode cX9_needs 0 = .ok (.aload_n 0, 1) := dk_42 (dk_at dksX9_needs_0 0 rfl rfl)
theorem dX9_needs_1 : decode cX9_needs 1 = .ok (.aload_n 1, 1) := dk_43 (dk_at dksX9_needs_0 1 rfl rfl)
theorem dX9_needs_2 : decode cX9_needs 2 = .ok (.invokevirtual 133, 3) := dk_182 0 133 (dk_at dksX9_needs_0 2 rfl rfl)
theorem dX9_needs_5 : decode cX9_needs 5 = .ok (.ifCond .ne 8, 3) := dk_154 0 8 (dk_at dksX9_needs_0 5 rfl rfl)
theorem dX9_needs_8 : decode cX9_needs 8 = .ok (.aload_n 0, 1) := dk_42 (dk_at dksX9_needs_0 8 rfl rfl)
theorem dX9_needs_9 : decode cX9_needs 9 = .ok (.iconst 1, 1) := dk_4 (dk_at dksX9_needs_0 9 rfl rfl)
theorem dX9_needs_10 : decode cX9_needs 10 = .ok (.invokevirtual 137, 3) := dk_182 0 137 (dk_at dksX9_needs_0 10 rfl rfl)
theorem dX9_needs_13 : decode cX9_needs 13 = .ok (.aload_n 0, 1) := dk_42 (dk_at dksX9_needs_0 13 rfl rfl)
theorem dX9_needs_14 : decode cX9_needs 14 = .ok (.invokevirtual 130, 3) := dk_182 0 130 (dk_at dksX9_needs_0 14 rfl rfl)
theorem dX9_needs_17 : decode cX9_needs 17 = .ok (.return_, 1) := dk_177 (dk_at dksX9_needs_0 17 rfl rfl)
abbrev cX9_readWhole : ByteArray := prog_20_method_21_code
def yX9_readWhole : MethodName := ⟨RX9, "readWhole", "(II)I"⟩
def dkwX9_readWhole_0 : List UInt8 := [42, 27, 28, 182, 0, 145, 62, 42, 182, 0, 130, 29, 172]
abbrev dktX9_readWhole_0 : List UInt8 := dkwX9_readWhole_0 ++ []
theorem dksX9_readWhole_0 : cX9_readWhole.data.toList.drop 0 = dktX9_readWhole_0 := by decide +kernel
theorem dX9_readWhole_0 : decode cX9_readWhole 0 = .ok (.aload_n 0, 1) := dk_42 (dk_at dksX9_readWhole_0 0 rfl rfl)
theorem dX9_readWhole_1 : decode cX9_readWhole 1 = .ok (.iload_n 1, 1) := dk_27 (dk_at dksX9_readWhole_0 1 rfl rfl)
theorem dX9_readWhole_2 : decode cX9_readWhole 2 = .ok (.iload_n 2, 1) := dk_28 (dk_at dksX9_readWhole_0 2 rfl rfl)
theorem dX9_readWhole_3 : decode cX9_readWhole 3 = .ok (.invokevirtual 145, 3) := dk_182 0 145 (dk_at dksX9_readWhole_0 3 rfl rfl)
theorem dX9_readWhole_6 : decode cX9_readWhole 6 = .ok (.istore_n 3, 1) := dk_62 (dk_at dksX9_readWhole_0 6 rfl rfl)
theorem dX9_readWhole_7 : decode cX9_readWhole 7 = .ok (.aload_n 0, 1) := dk_42 (dk_at dksX9_readWhole_0 7 rfl rfl)
theorem dX9_readWhole_8 : decode cX9_readWhole 8 = .ok (.invokevirtual 130, 3) := dk_182 0 130 (dk_at dksX9_readWhole_0 8 rfl rfl)
theorem dX9_readWhole_11 : decode cX9_readWhole 11 = .ok (.iload_n 3, 1) := dk_29 (dk_at dksX9_readWhole_0 11 rfl rfl)
theorem dX9_readWhole_12 : decode cX9_readWhole 12 = .ok (.ireturn, 1) := dk_172 (dk_at dksX9_readWhole_0 12 rfl rfl)
abbrev cX9_bounded : ByteArray := prog_20_method_20_code
def yX9_bounded : MethodName := ⟨RX9, "bounded", "(II)I"⟩
def dkwX9_bounded_2 : List UInt8 := [180, 0, 117, 172]
abbrev dktX9_bounded_2 : List UInt8 := dkwX9_bounded_2 ++ []
def dkwX9_bounded_1 : List UInt8 := [184, 0, 141, 154, 0, 8, 42, 7, 182, 0, 137, 42, 180, 0, 91, 8, 160, 0, 7, 27, 167, 0, 7, 42]
abbrev dktX9_bounded_1 : List UInt8 := dkwX9_bounded_1 ++ dktX9_bounded_2
def dkwX9_bounded_0 : List UInt8 := [42, 180, 0, 91, 6, 159, 0, 11, 42, 4, 182, 0, 137, 167, 0, 20, 42, 180, 0, 117, 27, 28]
abbrev dktX9_bounded_0 : List UInt8 := dkwX9_bounded_0 ++ dktX9_bounded_1
theorem dksX9_bounded_0 : cX9_bounded.data.toList.drop 0 = dktX9_bounded_0 := by decide +kernel
theorem dksX9_bounded_1 : cX9_bounded.data.toList.drop 22 = dktX9_bounded_1 := dk_seg dksX9_bounded_0 22 rfl rfl
theorem dksX9_bounded_2 : cX9_bounded.data.toList.drop 46 = dktX9_bounded_2 := dk_seg dksX9_bounded_1 24 rfl rfl
theorem dX9_bounded_0 : decode cX9_bounded 0 = .ok (.aload_n 0, 1) := dk_42 (dk_at dksX9_bounded_0 0 rfl rfl)
theorem dX9_bounded_1 : decode cX9_bounded 1 = .ok (.getfield 91, 3) := dk_180 0 91 (dk_at dksX9_bounded_0 1 rfl rfl)
theorem dX9_bounded_4 : decode cX9_bounded 4 = .ok (.iconst 3, 1) := dk_6 (dk_at dksX9_bounded_0 4 rfl rfl)
theorem dX9_bounded_5 : decode cX9_bounded 5 = .ok (.if_icmp .eq 11, 3) := dk_159 0 11 (dk_at dksX9_bounded_0 5 rfl rfl)
theorem dX9_bounded_8 : decode cX9_bounded 8 = .ok (.aload_n 0, 1) := dk_42 (dk_at dksX9_bounded_0 8 rfl rfl)
theorem dX9_bounded_9 : decode cX9_bounded 9 = .ok (.iconst 1, 1) := dk_4 (dk_at dksX9_bounded_0 9 rfl rfl)
theorem dX9_bounded_10 : decode cX9_bounded 10 = .ok (.invokevirtual 137, 3) := dk_182 0 137 (dk_at dksX9_bounded_0 10 rfl rfl)
theorem dX9_bounded_13 : decode cX9_bounded 13 = .ok (.goto 20, 3) := dk_167 0 20 (dk_at dksX9_bounded_0 13 rfl rfl)
theorem dX9_bounded_16 : decode cX9_bounded 16 = .ok (.aload_n 0, 1) := dk_42 (dk_at dksX9_bounded_0 16 rfl rfl)
theorem dX9_bounded_17 : decode cX9_bounded 17 = .ok (.getfield 117, 3) := dk_180 0 117 (dk_at dksX9_bounded_0 17 rfl rfl)
theorem dX9_bounded_20 : decode cX9_bounded 20 = .ok (.iload_n 1, 1) := dk_27 (dk_at dksX9_bounded_0 20 rfl rfl)
theorem dX9_bounded_21 : decode cX9_bounded 21 = .ok (.iload_n 2, 1) := dk_28 (dk_at dksX9_bounded_0 21 rfl rfl)
theorem dX9_bounded_22 : decode cX9_bounded 22 = .ok (.invokestatic 141, 3) := dk_184 0 141 (dk_at dksX9_bounded_1 0 rfl rfl)
theorem dX9_bounded_25 : decode cX9_bounded 25 = .ok (.ifCond .ne 8, 3) := dk_154 0 8 (dk_at dksX9_bounded_1 3 rfl rfl)
theorem dX9_bounded_28 : decode cX9_bounded 28 = .ok (.aload_n 0, 1) := dk_42 (dk_at dksX9_bounded_1 6 rfl rfl)
theorem dX9_bounded_29 : decode cX9_bounded 29 = .ok (.iconst 4, 1) := dk_7 (dk_at dksX9_bounded_1 7 rfl rfl)
theorem dX9_bounded_30 : decode cX9_bounded 30 = .ok (.invokevirtual 137, 3) := dk_182 0 137 (dk_at dksX9_bounded_1 8 rfl rfl)
theorem dX9_bounded_33 : decode cX9_bounded 33 = .ok (.aload_n 0, 1) := dk_42 (dk_at dksX9_bounded_1 11 rfl rfl)
theorem dX9_bounded_34 : decode cX9_bounded 34 = .ok (.getfield 91, 3) := dk_180 0 91 (dk_at dksX9_bounded_1 12 rfl rfl)
theorem dX9_bounded_37 : decode cX9_bounded 37 = .ok (.iconst 5, 1) := dk_8 (dk_at dksX9_bounded_1 15 rfl rfl)
theorem dX9_bounded_38 : decode cX9_bounded 38 = .ok (.if_icmp .ne 7, 3) := dk_160 0 7 (dk_at dksX9_bounded_1 16 rfl rfl)
theorem dX9_bounded_41 : decode cX9_bounded 41 = .ok (.iload_n 1, 1) := dk_27 (dk_at dksX9_bounded_1 19 rfl rfl)
theorem dX9_bounded_42 : decode cX9_bounded 42 = .ok (.goto 7, 3) := dk_167 0 7 (dk_at dksX9_bounded_1 20 rfl rfl)
theorem dX9_bounded_45 : decode cX9_bounded 45 = .ok (.aload_n 0, 1) := dk_42 (dk_at dksX9_bounded_1 23 rfl rfl)
theorem dX9_bounded_46 : decode cX9_bounded 46 = .ok (.getfield 117, 3) := dk_180 0 117 (dk_at dksX9_bounded_2 0 rfl rfl)
theorem dX9_bounded_49 : decode cX9_bounded 49 = .ok (.ireturn, 1) := dk_172 (dk_at dksX9_bounded_2 3 rfl rfl)
abbrev cX9_within : ByteArray := prog_20_method_7_code
def yX9_within : MethodName := ⟨RX9, "within", "(III)Z"⟩
def dkwX9_within_0 : List UInt8 := [26, 27, 161, 0, 12, 26, 28, 163, 0, 7, 4, 167, 0, 4, 3, 172]
abbrev dktX9_within_0 : List UInt8 := dkwX9_within_0 ++ []
theorem dksX9_within_0 : cX9_within.data.toList.drop 0 = dktX9_within_0 := by decide +kernel
theorem dX9_within_0 : decode cX9_within 0 = .ok (.iload_n 0, 1) := dk_26 (dk_at dksX9_within_0 0 rfl rfl)
theorem dX9_within_1 : decode cX9_within 1 = .ok (.iload_n 1, 1) := dk_27 (dk_at dksX9_within_0 1 rfl rfl)
theorem dX9_within_2 : decode cX9_within 2 = .ok (.if_icmp .lt 12, 3) := dk_161 0 12 (dk_at dksX9_within_0 2 rfl rfl)
theorem dX9_within_5 : decode cX9_within 5 = .ok (.iload_n 0, 1) := dk_26 (dk_at dksX9_within_0 5 rfl rfl)
theorem dX9_within_6 : decode cX9_within 6 = .ok (.iload_n 2, 1) := dk_28 (dk_at dksX9_within_0 6 rfl rfl)
theorem dX9_within_7 : decode cX9_within 7 = .ok (.if_icmp .gt 7, 3) := dk_163 0 7 (dk_at dksX9_within_0 7 rfl rfl)
theorem dX9_within_10 : decode cX9_within 10 = .ok (.iconst 1, 1) := dk_4 (dk_at dksX9_within_0 10 rfl rfl)
theorem dX9_within_11 : decode cX9_within 11 = .ok (.goto 4, 3) := dk_167 0 4 (dk_at dksX9_within_0 11 rfl rfl)
theorem dX9_within_14 : decode cX9_within 14 = .ok (.iconst 0, 1) := dk_3 (dk_at dksX9_within_0 14 rfl rfl)
theorem dX9_within_15 : decode cX9_within 15 = .ok (.ireturn, 1) := dk_172 (dk_at dksX9_within_0 15 rfl rfl)
abbrev cX9_readYears : ByteArray := prog_20_method_33_code
def yX9_readYears : MethodName := ⟨RX9, "readYears", "()V"⟩
def dkwX9_readYears_4 : List UInt8 := [29, 181, 1, 42, 42, 180, 0, 156, 21, 4, 181, 1, 44, 177]
abbrev dktX9_readYears_4 : List UInt8 := dkwX9_readYears_4 ++ []
def dkwX9_readYears_3 : List UInt8 := [160, 0, 4, 177, 42, 180, 0, 156, 27, 181, 0, 223, 42, 180, 0, 156, 28, 181, 1, 40, 42, 180, 0, 156]
abbrev dktX9_readYears_3 : List UInt8 := dkwX9_readYears_3 ++ dktX9_readYears_4
def dkwX9_readYears_2 : List UInt8 := [16, 100, 182, 1, 8, 62, 42, 19, 1, 38, 3, 16, 9, 182, 1, 8, 54, 4, 42, 180, 0, 91, 8]
abbrev dktX9_readYears_2 : List UInt8 := dkwX9_readYears_2 ++ dktX9_readYears_3
def dkwX9_readYears_1 : List UInt8 := [17, 3, 132, 182, 0, 153, 60, 42, 19, 1, 34, 3, 16, 100, 182, 1, 8, 61, 42, 19, 1, 36, 3]
abbrev dktX9_readYears_1 : List UInt8 := dkwX9_readYears_1 ++ dktX9_readYears_2
def dkwX9_readYears_0 : List UInt8 := [42, 180, 0, 156, 180, 0, 223, 2, 159, 0, 8, 42, 6, 182, 0, 137, 42, 3, 4, 182, 1, 30, 42, 3]
abbrev dktX9_readYears_0 : List UInt8 := dkwX9_readYears_0 ++ dktX9_readYears_1
theorem dksX9_readYears_0 : cX9_readYears.data.toList.drop 0 = dktX9_readYears_0 := by decide +kernel
theorem dksX9_readYears_1 : cX9_readYears.data.toList.drop 24 = dktX9_readYears_1 := dk_seg dksX9_readYears_0 24 rfl rfl
theorem dksX9_readYears_2 : cX9_readYears.data.toList.drop 47 = dktX9_readYears_2 := dk_seg dksX9_readYears_1 23 rfl rfl
theorem dksX9_readYears_3 : cX9_readYears.data.toList.drop 70 = dktX9_readYears_3 := dk_seg dksX9_readYears_2 23 rfl rfl
theorem dksX9_readYears_4 : cX9_readYears.data.toList.drop 94 = dktX9_readYears_4 := dk_seg dksX9_readYears_3 24 rfl rfl
theorem dX9_readYears_0 : decode cX9_readYears 0 = .ok (.aload_n 0, 1) := dk_42 (dk_at dksX9_readYears_0 0 rfl rfl)
theorem dX9_readYears_1 : decode cX9_readYears 1 = .ok (.getfield 156, 3) := dk_180 0 156 (dk_at dksX9_readYears_0 1 rfl rfl)
theorem dX9_readYears_4 : decode cX9_readYears 4 = .ok (.getfield 223, 3) := dk_180 0 223 (dk_at dksX9_readYears_0 4 rfl rfl)
theorem dX9_readYears_7 : decode cX9_readYears 7 = .ok (.iconst (-1), 1) := dk_2 (dk_at dksX9_readYears_0 7 rfl rfl)
theorem dX9_readYears_8 : decode cX9_readYears 8 = .ok (.if_icmp .eq 8, 3) := dk_159 0 8 (dk_at dksX9_readYears_0 8 rfl rfl)
theorem dX9_readYears_11 : decode cX9_readYears 11 = .ok (.aload_n 0, 1) := dk_42 (dk_at dksX9_readYears_0 11 rfl rfl)
theorem dX9_readYears_12 : decode cX9_readYears 12 = .ok (.iconst 3, 1) := dk_6 (dk_at dksX9_readYears_0 12 rfl rfl)
theorem dX9_readYears_13 : decode cX9_readYears 13 = .ok (.invokevirtual 137, 3) := dk_182 0 137 (dk_at dksX9_readYears_0 13 rfl rfl)
theorem dX9_readYears_16 : decode cX9_readYears 16 = .ok (.aload_n 0, 1) := dk_42 (dk_at dksX9_readYears_0 16 rfl rfl)
theorem dX9_readYears_17 : decode cX9_readYears 17 = .ok (.iconst 0, 1) := dk_3 (dk_at dksX9_readYears_0 17 rfl rfl)
theorem dX9_readYears_18 : decode cX9_readYears 18 = .ok (.iconst 1, 1) := dk_4 (dk_at dksX9_readYears_0 18 rfl rfl)
theorem dX9_readYears_19 : decode cX9_readYears 19 = .ok (.invokevirtual 286, 3) := dk_182 1 30 (dk_at dksX9_readYears_0 19 rfl rfl)
theorem dX9_readYears_22 : decode cX9_readYears 22 = .ok (.aload_n 0, 1) := dk_42 (dk_at dksX9_readYears_0 22 rfl rfl)
theorem dX9_readYears_23 : decode cX9_readYears 23 = .ok (.iconst 0, 1) := dk_3 (dk_at dksX9_readYears_0 23 rfl rfl)
theorem dX9_readYears_24 : decode cX9_readYears 24 = .ok (.sipush 900, 3) := dk_17 3 132 (dk_at dksX9_readYears_1 0 rfl rfl)
theorem dX9_readYears_27 : decode cX9_readYears 27 = .ok (.invokevirtual 153, 3) := dk_182 0 153 (dk_at dksX9_readYears_1 3 rfl rfl)
theorem dX9_readYears_30 : decode cX9_readYears 30 = .ok (.istore_n 1, 1) := dk_60 (dk_at dksX9_readYears_1 6 rfl rfl)
theorem dX9_readYears_31 : decode cX9_readYears 31 = .ok (.aload_n 0, 1) := dk_42 (dk_at dksX9_readYears_1 7 rfl rfl)
theorem dX9_readYears_32 : decode cX9_readYears 32 = .ok (.ldc_w 290, 3) := dk_19 1 34 (dk_at dksX9_readYears_1 8 rfl rfl)
theorem dX9_readYears_35 : decode cX9_readYears 35 = .ok (.iconst 0, 1) := dk_3 (dk_at dksX9_readYears_1 11 rfl rfl)
theorem dX9_readYears_36 : decode cX9_readYears 36 = .ok (.bipush 100, 2) := dk_16 100 (dk_at dksX9_readYears_1 12 rfl rfl)
theorem dX9_readYears_38 : decode cX9_readYears 38 = .ok (.invokevirtual 264, 3) := dk_182 1 8 (dk_at dksX9_readYears_1 14 rfl rfl)
theorem dX9_readYears_41 : decode cX9_readYears 41 = .ok (.istore_n 2, 1) := dk_61 (dk_at dksX9_readYears_1 17 rfl rfl)
theorem dX9_readYears_42 : decode cX9_readYears 42 = .ok (.aload_n 0, 1) := dk_42 (dk_at dksX9_readYears_1 18 rfl rfl)
theorem dX9_readYears_43 : decode cX9_readYears 43 = .ok (.ldc_w 292, 3) := dk_19 1 36 (dk_at dksX9_readYears_1 19 rfl rfl)
theorem dX9_readYears_46 : decode cX9_readYears 46 = .ok (.iconst 0, 1) := dk_3 (dk_at dksX9_readYears_1 22 rfl rfl)
theorem dX9_readYears_47 : decode cX9_readYears 47 = .ok (.bipush 100, 2) := dk_16 100 (dk_at dksX9_readYears_2 0 rfl rfl)
theorem dX9_readYears_49 : decode cX9_readYears 49 = .ok (.invokevirtual 264, 3) := dk_182 1 8 (dk_at dksX9_readYears_2 2 rfl rfl)
theorem dX9_readYears_52 : decode cX9_readYears 52 = .ok (.istore_n 3, 1) := dk_62 (dk_at dksX9_readYears_2 5 rfl rfl)
theorem dX9_readYears_53 : decode cX9_readYears 53 = .ok (.aload_n 0, 1) := dk_42 (dk_at dksX9_readYears_2 6 rfl rfl)
theorem dX9_readYears_54 : decode cX9_readYears 54 = .ok (.ldc_w 294, 3) := dk_19 1 38 (dk_at dksX9_readYears_2 7 rfl rfl)
theorem dX9_readYears_57 : decode cX9_readYears 57 = .ok (.iconst 0, 1) := dk_3 (dk_at dksX9_readYears_2 10 rfl rfl)
theorem dX9_readYears_58 : decode cX9_readYears 58 = .ok (.bipush 9, 2) := dk_16 9 (dk_at dksX9_readYears_2 11 rfl rfl)
theorem dX9_readYears_60 : decode cX9_readYears 60 = .ok (.invokevirtual 264, 3) := dk_182 1 8 (dk_at dksX9_readYears_2 13 rfl rfl)
theorem dX9_readYears_63 : decode cX9_readYears 63 = .ok (.istore 4, 2) := dk_54 4 (dk_at dksX9_readYears_2 16 rfl rfl)
theorem dX9_readYears_65 : decode cX9_readYears 65 = .ok (.aload_n 0, 1) := dk_42 (dk_at dksX9_readYears_2 18 rfl rfl)
theorem dX9_readYears_66 : decode cX9_readYears 66 = .ok (.getfield 91, 3) := dk_180 0 91 (dk_at dksX9_readYears_2 19 rfl rfl)
theorem dX9_readYears_69 : decode cX9_readYears 69 = .ok (.iconst 5, 1) := dk_8 (dk_at dksX9_readYears_2 22 rfl rfl)
theorem dX9_readYears_70 : decode cX9_readYears 70 = .ok (.if_icmp .ne 4, 3) := dk_160 0 4 (dk_at dksX9_readYears_3 0 rfl rfl)
theorem dX9_readYears_73 : decode cX9_readYears 73 = .ok (.return_, 1) := dk_177 (dk_at dksX9_readYears_3 3 rfl rfl)
theorem dX9_readYears_74 : decode cX9_readYears 74 = .ok (.aload_n 0, 1) := dk_42 (dk_at dksX9_readYears_3 4 rfl rfl)
theorem dX9_readYears_75 : decode cX9_readYears 75 = .ok (.getfield 156, 3) := dk_180 0 156 (dk_at dksX9_readYears_3 5 rfl rfl)
theorem dX9_readYears_78 : decode cX9_readYears 78 = .ok (.iload_n 1, 1) := dk_27 (dk_at dksX9_readYears_3 8 rfl rfl)
theorem dX9_readYears_79 : decode cX9_readYears 79 = .ok (.putfield 223, 3) := dk_181 0 223 (dk_at dksX9_readYears_3 9 rfl rfl)
theorem dX9_readYears_82 : decode cX9_readYears 82 = .ok (.aload_n 0, 1) := dk_42 (dk_at dksX9_readYears_3 12 rfl rfl)
theorem dX9_readYears_83 : decode cX9_readYears 83 = .ok (.getfield 156, 3) := dk_180 0 156 (dk_at dksX9_readYears_3 13 rfl rfl)
theorem dX9_readYears_86 : decode cX9_readYears 86 = .ok (.iload_n 2, 1) := dk_28 (dk_at dksX9_readYears_3 16 rfl rfl)
theorem dX9_readYears_87 : decode cX9_readYears 87 = .ok (.putfield 296, 3) := dk_181 1 40 (dk_at dksX9_readYears_3 17 rfl rfl)
theorem dX9_readYears_90 : decode cX9_readYears 90 = .ok (.aload_n 0, 1) := dk_42 (dk_at dksX9_readYears_3 20 rfl rfl)
theorem dX9_readYears_91 : decode cX9_readYears 91 = .ok (.getfield 156, 3) := dk_180 0 156 (dk_at dksX9_readYears_3 21 rfl rfl)
theorem dX9_readYears_94 : decode cX9_readYears 94 = .ok (.iload_n 3, 1) := dk_29 (dk_at dksX9_readYears_4 0 rfl rfl)
theorem dX9_readYears_95 : decode cX9_readYears 95 = .ok (.putfield 298, 3) := dk_181 1 42 (dk_at dksX9_readYears_4 1 rfl rfl)
theorem dX9_readYears_98 : decode cX9_readYears 98 = .ok (.aload_n 0, 1) := dk_42 (dk_at dksX9_readYears_4 4 rfl rfl)
theorem dX9_readYears_99 : decode cX9_readYears 99 = .ok (.getfield 156, 3) := dk_180 0 156 (dk_at dksX9_readYears_4 5 rfl rfl)
theorem dX9_readYears_102 : decode cX9_readYears 102 = .ok (.iload 4, 2) := dk_21 4 (dk_at dksX9_readYears_4 8 rfl rfl)
theorem dX9_readYears_104 : decode cX9_readYears 104 = .ok (.putfield 300, 3) := dk_181 1 44 (dk_at dksX9_readYears_4 10 rfl rfl)
theorem dX9_readYears_107 : decode cX9_readYears 107 = .ok (.return_, 1) := dk_177 (dk_at dksX9_readYears_4 13 rfl rfl)
abbrev cX9_begins : ByteArray := prog_20_method_25_code
def yX9_begins : MethodName := ⟨RX9, "begins", "(II)V"⟩
def dkwX9_begins_1 : List UInt8 := [182, 0, 137, 42, 182, 0, 130, 177]
abbrev dktX9_begins_1 : List UInt8 := dkwX9_begins_1 ++ []
def dkwX9_begins_0 : List UInt8 := [27, 28, 160, 0, 8, 42, 8, 182, 0, 137, 42, 180, 0, 156, 180, 0, 160, 154, 0, 9, 42, 16, 6]
abbrev dktX9_begins_0 : List UInt8 := dkwX9_begins_0 ++ dktX9_begins_1
theorem dksX9_begins_0 : cX9_begins.data.toList.drop 0 = dktX9_begins_0 := by decide +kernel
theorem dksX9_begins_1 : cX9_begins.data.toList.drop 23 = dktX9_begins_1 := dk_seg dksX9_begins_0 23 rfl rfl
theorem dX9_begins_0 : decode cX9_begins 0 = .ok (.iload_n 1, 1) := dk_27 (dk_at dksX9_begins_0 0 rfl rfl)
theorem dX9_begins_1 : decode cX9_begins 1 = .ok (.iload_n 2, 1) := dk_28 (dk_at dksX9_begins_0 1 rfl rfl)
theorem dX9_begins_2 : decode cX9_begins 2 = .ok (.if_icmp .ne 8, 3) := dk_160 0 8 (dk_at dksX9_begins_0 2 rfl rfl)
theorem dX9_begins_5 : decode cX9_begins 5 = .ok (.aload_n 0, 1) := dk_42 (dk_at dksX9_begins_0 5 rfl rfl)
theorem dX9_begins_6 : decode cX9_begins 6 = .ok (.iconst 5, 1) := dk_8 (dk_at dksX9_begins_0 6 rfl rfl)
theorem dX9_begins_7 : decode cX9_begins 7 = .ok (.invokevirtual 137, 3) := dk_182 0 137 (dk_at dksX9_begins_0 7 rfl rfl)
theorem dX9_begins_10 : decode cX9_begins 10 = .ok (.aload_n 0, 1) := dk_42 (dk_at dksX9_begins_0 10 rfl rfl)
theorem dX9_begins_11 : decode cX9_begins 11 = .ok (.getfield 156, 3) := dk_180 0 156 (dk_at dksX9_begins_0 11 rfl rfl)
theorem dX9_begins_14 : decode cX9_begins 14 = .ok (.getfield 160, 3) := dk_180 0 160 (dk_at dksX9_begins_0 14 rfl rfl)
theorem dX9_begins_17 : decode cX9_begins 17 = .ok (.ifCond .ne 9, 3) := dk_154 0 9 (dk_at dksX9_begins_0 17 rfl rfl)
theorem dX9_begins_20 : decode cX9_begins 20 = .ok (.aload_n 0, 1) := dk_42 (dk_at dksX9_begins_0 20 rfl rfl)
theorem dX9_begins_21 : decode cX9_begins 21 = .ok (.bipush 6, 2) := dk_16 6 (dk_at dksX9_begins_0 21 rfl rfl)
theorem dX9_begins_23 : decode cX9_begins 23 = .ok (.invokevirtual 137, 3) := dk_182 0 137 (dk_at dksX9_begins_1 0 rfl rfl)
theorem dX9_begins_26 : decode cX9_begins 26 = .ok (.aload_n 0, 1) := dk_42 (dk_at dksX9_begins_1 3 rfl rfl)
theorem dX9_begins_27 : decode cX9_begins 27 = .ok (.invokevirtual 130, 3) := dk_182 0 130 (dk_at dksX9_begins_1 4 rfl rfl)
theorem dX9_begins_30 : decode cX9_begins 30 = .ok (.return_, 1) := dk_177 (dk_at dksX9_begins_1 7 rfl rfl)
abbrev cX9_readWater : ByteArray := prog_20_method_34_code
def yX9_readWater : MethodName := ⟨RX9, "readWater", "()V"⟩
def dkwX9_readWater_4 : List UInt8 := [180, 1, 52, 27, 4, 84, 42, 180, 0, 156, 89, 180, 1, 46, 4, 96, 181, 1, 46, 177]
abbrev dktX9_readWater_4 : List UInt8 := dkwX9_readWater_4 ++ []
def dkwX9_readWater_3 : List UInt8 := [42, 6, 182, 0, 137, 42, 182, 0, 130, 42, 180, 0, 91, 8, 160, 0, 4, 177, 42, 180, 0, 156]
abbrev dktX9_readWater_3 : List UInt8 := dkwX9_readWater_3 ++ dktX9_readWater_4
def dkwX9_readWater_2 : List UInt8 := [182, 1, 49, 60, 42, 180, 0, 91, 8, 159, 0, 20, 42, 180, 0, 156, 180, 1, 52, 27, 51, 153, 0, 8]
abbrev dktX9_readWater_2 : List UInt8 := dkwX9_readWater_2 ++ dktX9_readWater_3
def dkwX9_readWater_1 : List UInt8 := [153, 0, 13, 42, 180, 0, 156, 180, 0, 229, 158, 0, 9, 42, 16, 6, 182, 0, 137, 42, 182, 0, 130, 42]
abbrev dktX9_readWater_1 : List UInt8 := dkwX9_readWater_1 ++ dktX9_readWater_2
def dkwX9_readWater_0 : List UInt8 := [42, 180, 0, 156, 180, 1, 46, 16, 10, 160, 0, 8, 42, 8, 182, 0, 137, 42, 180, 0, 156, 180, 0, 160]
abbrev dktX9_readWater_0 : List UInt8 := dkwX9_readWater_0 ++ dktX9_readWater_1
theorem dksX9_readWater_0 : cX9_readWater.data.toList.drop 0 = dktX9_readWater_0 := by decide +kernel
theorem dksX9_readWater_1 : cX9_readWater.data.toList.drop 24 = dktX9_readWater_1 := dk_seg dksX9_readWater_0 24 rfl rfl
theorem dksX9_readWater_2 : cX9_readWater.data.toList.drop 48 = dktX9_readWater_2 := dk_seg dksX9_readWater_1 24 rfl rfl
theorem dksX9_readWater_3 : cX9_readWater.data.toList.drop 72 = dktX9_readWater_3 := dk_seg dksX9_readWater_2 24 rfl rfl
theorem dksX9_readWater_4 : cX9_readWater.data.toList.drop 94 = dktX9_readWater_4 := dk_seg dksX9_readWater_3 22 rfl rfl
theorem dX9_readWater_0 : decode cX9_readWater 0 = .ok (.aload_n 0, 1) := dk_42 (dk_at dksX9_readWater_0 0 rfl rfl)
theorem dX9_readWater_1 : decode cX9_readWater 1 = .ok (.getfield 156, 3) := dk_180 0 156 (dk_at dksX9_readWater_0 1 rfl rfl)
theorem dX9_readWater_4 : decode cX9_readWater 4 = .ok (.getfield 302, 3) := dk_180 1 46 (dk_at dksX9_readWater_0 4 rfl rfl)
theorem dX9_readWater_7 : decode cX9_readWater 7 = .ok (.bipush 10, 2) := dk_16 10 (dk_at dksX9_readWater_0 7 rfl rfl)
theorem dX9_readWater_9 : decode cX9_readWater 9 = .ok (.if_icmp .ne 8, 3) := dk_160 0 8 (dk_at dksX9_readWater_0 9 rfl rfl)
theorem dX9_readWater_12 : decode cX9_readWater 12 = .ok (.aload_n 0, 1) := dk_42 (dk_at dksX9_readWater_0 12 rfl rfl)
theorem dX9_readWater_13 : decode cX9_readWater 13 = .ok (.iconst 5, 1) := dk_8 (dk_at dksX9_readWater_0 13 rfl rfl)
theorem dX9_readWater_14 : decode cX9_readWater 14 = .ok (.invokevirtual 137, 3) := dk_182 0 137 (dk_at dksX9_readWater_0 14 rfl rfl)
theorem dX9_readWater_17 : decode cX9_readWater 17 = .ok (.aload_n 0, 1) := dk_42 (dk_at dksX9_readWater_0 17 rfl rfl)
theorem dX9_readWater_18 : decode cX9_readWater 18 = .ok (.getfield 156, 3) := dk_180 0 156 (dk_at dksX9_readWater_0 18 rfl rfl)
theorem dX9_readWater_21 : decode cX9_readWater 21 = .ok (.getfield 160, 3) := dk_180 0 160 (dk_at dksX9_readWater_0 21 rfl rfl)
theorem dX9_readWater_24 : decode cX9_readWater 24 = .ok (.ifCond .eq 13, 3) := dk_153 0 13 (dk_at dksX9_readWater_1 0 rfl rfl)
theorem dX9_readWater_27 : decode cX9_readWater 27 = .ok (.aload_n 0, 1) := dk_42 (dk_at dksX9_readWater_1 3 rfl rfl)
theorem dX9_readWater_28 : decode cX9_readWater 28 = .ok (.getfield 156, 3) := dk_180 0 156 (dk_at dksX9_readWater_1 4 rfl rfl)
theorem dX9_readWater_31 : decode cX9_readWater 31 = .ok (.getfield 229, 3) := dk_180 0 229 (dk_at dksX9_readWater_1 7 rfl rfl)
theorem dX9_readWater_34 : decode cX9_readWater 34 = .ok (.ifCond .le 9, 3) := dk_158 0 9 (dk_at dksX9_readWater_1 10 rfl rfl)
theorem dX9_readWater_37 : decode cX9_readWater 37 = .ok (.aload_n 0, 1) := dk_42 (dk_at dksX9_readWater_1 13 rfl rfl)
theorem dX9_readWater_38 : decode cX9_readWater 38 = .ok (.bipush 6, 2) := dk_16 6 (dk_at dksX9_readWater_1 14 rfl rfl)
theorem dX9_readWater_40 : decode cX9_readWater 40 = .ok (.invokevirtual 137, 3) := dk_182 0 137 (dk_at dksX9_readWater_1 16 rfl rfl)
theorem dX9_readWater_43 : decode cX9_readWater 43 = .ok (.aload_n 0, 1) := dk_42 (dk_at dksX9_readWater_1 19 rfl rfl)
theorem dX9_readWater_44 : decode cX9_readWater 44 = .ok (.invokevirtual 130, 3) := dk_182 0 130 (dk_at dksX9_readWater_1 20 rfl rfl)
theorem dX9_readWater_47 : decode cX9_readWater 47 = .ok (.aload_n 0, 1) := dk_42 (dk_at dksX9_readWater_1 23 rfl rfl)
theorem dX9_readWater_48 : decode cX9_readWater 48 = .ok (.invokevirtual 305, 3) := dk_182 1 49 (dk_at dksX9_readWater_2 0 rfl rfl)
theorem dX9_readWater_51 : decode cX9_readWater 51 = .ok (.istore_n 1, 1) := dk_60 (dk_at dksX9_readWater_2 3 rfl rfl)
theorem dX9_readWater_52 : decode cX9_readWater 52 = .ok (.aload_n 0, 1) := dk_42 (dk_at dksX9_readWater_2 4 rfl rfl)
theorem dX9_readWater_53 : decode cX9_readWater 53 = .ok (.getfield 91, 3) := dk_180 0 91 (dk_at dksX9_readWater_2 5 rfl rfl)
theorem dX9_readWater_56 : decode cX9_readWater 56 = .ok (.iconst 5, 1) := dk_8 (dk_at dksX9_readWater_2 8 rfl rfl)
theorem dX9_readWater_57 : decode cX9_readWater 57 = .ok (.if_icmp .eq 20, 3) := dk_159 0 20 (dk_at dksX9_readWater_2 9 rfl rfl)
theorem dX9_readWater_60 : decode cX9_readWater 60 = .ok (.aload_n 0, 1) := dk_42 (dk_at dksX9_readWater_2 12 rfl rfl)
theorem dX9_readWater_61 : decode cX9_readWater 61 = .ok (.getfield 156, 3) := dk_180 0 156 (dk_at dksX9_readWater_2 13 rfl rfl)
theorem dX9_readWater_64 : decode cX9_readWater 64 = .ok (.getfield 308, 3) := dk_180 1 52 (dk_at dksX9_readWater_2 16 rfl rfl)
theorem dX9_readWater_67 : decode cX9_readWater 67 = .ok (.iload_n 1, 1) := dk_27 (dk_at dksX9_readWater_2 19 rfl rfl)
theorem dX9_readWater_68 : decode cX9_readWater 68 = .ok (.baload, 1) := dk_51 (dk_at dksX9_readWater_2 20 rfl rfl)
theorem dX9_readWater_69 : decode cX9_readWater 69 = .ok (.ifCond .eq 8, 3) := dk_153 0 8 (dk_at dksX9_readWater_2 21 rfl rfl)
theorem dX9_readWater_72 : decode cX9_readWater 72 = .ok (.aload_n 0, 1) := dk_42 (dk_at dksX9_readWater_3 0 rfl rfl)
theorem dX9_readWater_73 : decode cX9_readWater 73 = .ok (.iconst 3, 1) := dk_6 (dk_at dksX9_readWater_3 1 rfl rfl)
theorem dX9_readWater_74 : decode cX9_readWater 74 = .ok (.invokevirtual 137, 3) := dk_182 0 137 (dk_at dksX9_readWater_3 2 rfl rfl)
theorem dX9_readWater_77 : decode cX9_readWater 77 = .ok (.aload_n 0, 1) := dk_42 (dk_at dksX9_readWater_3 5 rfl rfl)
theorem dX9_readWater_78 : decode cX9_readWater 78 = .ok (.invokevirtual 130, 3) := dk_182 0 130 (dk_at dksX9_readWater_3 6 rfl rfl)
theorem dX9_readWater_81 : decode cX9_readWater 81 = .ok (.aload_n 0, 1) := dk_42 (dk_at dksX9_readWater_3 9 rfl rfl)
theorem dX9_readWater_82 : decode cX9_readWater 82 = .ok (.getfield 91, 3) := dk_180 0 91 (dk_at dksX9_readWater_3 10 rfl rfl)
theorem dX9_readWater_85 : decode cX9_readWater 85 = .ok (.iconst 5, 1) := dk_8 (dk_at dksX9_readWater_3 13 rfl rfl)
theorem dX9_readWater_86 : decode cX9_readWater 86 = .ok (.if_icmp .ne 4, 3) := dk_160 0 4 (dk_at dksX9_readWater_3 14 rfl rfl)
theorem dX9_readWater_89 : decode cX9_readWater 89 = .ok (.return_, 1) := dk_177 (dk_at dksX9_readWater_3 17 rfl rfl)
theorem dX9_readWater_90 : decode cX9_readWater 90 = .ok (.aload_n 0, 1) := dk_42 (dk_at dksX9_readWater_3 18 rfl rfl)
theorem dX9_readWater_91 : decode cX9_readWater 91 = .ok (.getfield 156, 3) := dk_180 0 156 (dk_at dksX9_readWater_3 19 rfl rfl)
theorem dX9_readWater_94 : decode cX9_readWater 94 = .ok (.getfield 308, 3) := dk_180 1 52 (dk_at dksX9_readWater_4 0 rfl rfl)
theorem dX9_readWater_97 : decode cX9_readWater 97 = .ok (.iload_n 1, 1) := dk_27 (dk_at dksX9_readWater_4 3 rfl rfl)
theorem dX9_readWater_98 : decode cX9_readWater 98 = .ok (.iconst 1, 1) := dk_4 (dk_at dksX9_readWater_4 4 rfl rfl)
theorem dX9_readWater_99 : decode cX9_readWater 99 = .ok (.bastore, 1) := dk_84 (dk_at dksX9_readWater_4 5 rfl rfl)
theorem dX9_readWater_100 : decode cX9_readWater 100 = .ok (.aload_n 0, 1) := dk_42 (dk_at dksX9_readWater_4 6 rfl rfl)
theorem dX9_readWater_101 : decode cX9_readWater 101 = .ok (.getfield 156, 3) := dk_180 0 156 (dk_at dksX9_readWater_4 7 rfl rfl)
theorem dX9_readWater_104 : decode cX9_readWater 104 = .ok (.dup, 1) := dk_89 (dk_at dksX9_readWater_4 10 rfl rfl)
theorem dX9_readWater_105 : decode cX9_readWater 105 = .ok (.getfield 302, 3) := dk_180 1 46 (dk_at dksX9_readWater_4 11 rfl rfl)
theorem dX9_readWater_108 : decode cX9_readWater 108 = .ok (.iconst 1, 1) := dk_4 (dk_at dksX9_readWater_4 14 rfl rfl)
theorem dX9_readWater_109 : decode cX9_readWater 109 = .ok (.iadd, 1) := dk_96 (dk_at dksX9_readWater_4 15 rfl rfl)
theorem dX9_readWater_110 : decode cX9_readWater 110 = .ok (.putfield 302, 3) := dk_181 1 46 (dk_at dksX9_readWater_4 16 rfl rfl)
theorem dX9_readWater_113 : decode cX9_readWater 113 = .ok (.return_, 1) := dk_177 (dk_at dksX9_readWater_4 19 rfl rfl)
abbrev cX9_knownCell : ByteArray := prog_20_method_23_code
def yX9_knownCell : MethodName := ⟨RX9, "knownCell", "()I"⟩
def dkwX9_knownCell_1 : List UInt8 := [180, 0, 156, 180, 0, 160, 42, 3, 42, 180, 0, 156, 180, 0, 168, 4, 100, 182, 0, 145, 104, 27, 96, 172]
abbrev dktX9_knownCell_1 : List UInt8 := dkwX9_knownCell_1 ++ []
def dkwX9_knownCell_0 : List UInt8 := [42, 3, 42, 180, 0, 156, 180, 0, 160, 4, 100, 182, 0, 153, 60, 42, 16, 44, 182, 0, 165, 42]
abbrev dktX9_knownCell_0 : List UInt8 := dkwX9_knownCell_0 ++ dktX9_knownCell_1
theorem dksX9_knownCell_0 : cX9_knownCell.data.toList.drop 0 = dktX9_knownCell_0 := by decide +kernel
theorem dksX9_knownCell_1 : cX9_knownCell.data.toList.drop 22 = dktX9_knownCell_1 := dk_seg dksX9_knownCell_0 22 rfl rfl
theorem dX9_knownCell_0 : decode cX9_knownCell 0 = .ok (.aload_n 0, 1) := dk_42 (dk_at dksX9_knownCell_0 0 rfl rfl)
theorem dX9_knownCell_1 : decode cX9_knownCell 1 = .ok (.iconst 0, 1) := dk_3 (dk_at dksX9_knownCell_0 1 rfl rfl)
theorem dX9_knownCell_2 : decode cX9_knownCell 2 = .ok (.aload_n 0, 1) := dk_42 (dk_at dksX9_knownCell_0 2 rfl rfl)
theorem dX9_knownCell_3 : decode cX9_knownCell 3 = .ok (.getfield 156, 3) := dk_180 0 156 (dk_at dksX9_knownCell_0 3 rfl rfl)
theorem dX9_knownCell_6 : decode cX9_knownCell 6 = .ok (.getfield 160, 3) := dk_180 0 160 (dk_at dksX9_knownCell_0 6 rfl rfl)
theorem dX9_knownCell_9 : decode cX9_knownCell 9 = .ok (.iconst 1, 1) := dk_4 (dk_at dksX9_knownCell_0 9 rfl rfl)
theorem dX9_knownCell_10 : decode cX9_knownCell 10 = .ok (.isub, 1) := dk_100 (dk_at dksX9_knownCell_0 10 rfl rfl)
theorem dX9_knownCell_11 : decode cX9_knownCell 11 = .ok (.invokevirtual 153, 3) := dk_182 0 153 (dk_at dksX9_knownCell_0 11 rfl rfl)
theorem dX9_knownCell_14 : decode cX9_knownCell 14 = .ok (.istore_n 1, 1) := dk_60 (dk_at dksX9_knownCell_0 14 rfl rfl)
theorem dX9_knownCell_15 : decode cX9_knownCell 15 = .ok (.aload_n 0, 1) := dk_42 (dk_at dksX9_knownCell_0 15 rfl rfl)
theorem dX9_knownCell_16 : decode cX9_knownCell 16 = .ok (.bipush 44, 2) := dk_16 44 (dk_at dksX9_knownCell_0 16 rfl rfl)
theorem dX9_knownCell_18 : decode cX9_knownCell 18 = .ok (.invokevirtual 165, 3) := dk_182 0 165 (dk_at dksX9_knownCell_0 18 rfl rfl)
theorem dX9_knownCell_21 : decode cX9_knownCell 21 = .ok (.aload_n 0, 1) := dk_42 (dk_at dksX9_knownCell_0 21 rfl rfl)
theorem dX9_knownCell_22 : decode cX9_knownCell 22 = .ok (.getfield 156, 3) := dk_180 0 156 (dk_at dksX9_knownCell_1 0 rfl rfl)
theorem dX9_knownCell_25 : decode cX9_knownCell 25 = .ok (.getfield 160, 3) := dk_180 0 160 (dk_at dksX9_knownCell_1 3 rfl rfl)
theorem dX9_knownCell_28 : decode cX9_knownCell 28 = .ok (.aload_n 0, 1) := dk_42 (dk_at dksX9_knownCell_1 6 rfl rfl)
theorem dX9_knownCell_29 : decode cX9_knownCell 29 = .ok (.iconst 0, 1) := dk_3 (dk_at dksX9_knownCell_1 7 rfl rfl)
theorem dX9_knownCell_30 : decode cX9_knownCell 30 = .ok (.aload_n 0, 1) := dk_42 (dk_at dksX9_knownCell_1 8 rfl rfl)
theorem dX9_knownCell_31 : decode cX9_knownCell 31 = .ok (.getfield 156, 3) := dk_180 0 156 (dk_at dksX9_knownCell_1 9 rfl rfl)
theorem dX9_knownCell_34 : decode cX9_knownCell 34 = .ok (.getfield 168, 3) := dk_180 0 168 (dk_at dksX9_knownCell_1 12 rfl rfl)
theorem dX9_knownCell_37 : decode cX9_knownCell 37 = .ok (.iconst 1, 1) := dk_4 (dk_at dksX9_knownCell_1 15 rfl rfl)
theorem dX9_knownCell_38 : decode cX9_knownCell 38 = .ok (.isub, 1) := dk_100 (dk_at dksX9_knownCell_1 16 rfl rfl)
theorem dX9_knownCell_39 : decode cX9_knownCell 39 = .ok (.invokevirtual 145, 3) := dk_182 0 145 (dk_at dksX9_knownCell_1 17 rfl rfl)
theorem dX9_knownCell_42 : decode cX9_knownCell 42 = .ok (.imul, 1) := dk_104 (dk_at dksX9_knownCell_1 20 rfl rfl)
theorem dX9_knownCell_43 : decode cX9_knownCell 43 = .ok (.iload_n 1, 1) := dk_27 (dk_at dksX9_knownCell_1 21 rfl rfl)
theorem dX9_knownCell_44 : decode cX9_knownCell 44 = .ok (.iadd, 1) := dk_96 (dk_at dksX9_knownCell_1 22 rfl rfl)
theorem dX9_knownCell_45 : decode cX9_knownCell 45 = .ok (.ireturn, 1) := dk_172 (dk_at dksX9_knownCell_1 23 rfl rfl)
abbrev cX9_needsSign : ByteArray := prog_20_method_19_code
def yX9_needsSign : MethodName := ⟨RX9, "needsSign", "(I)V"⟩
def dkwX9_needsSign_1 : List UInt8 := [182, 0, 130, 177]
abbrev dktX9_needsSign_1 : List UInt8 := dkwX9_needsSign_1 ++ []
def dkwX9_needsSign_0 : List UInt8 := [42, 180, 0, 91, 7, 160, 0, 11, 42, 180, 0, 103, 27, 159, 0, 8, 42, 4, 182, 0, 137, 42]
abbrev dktX9_needsSign_0 : List UInt8 := dkwX9_needsSign_0 ++ dktX9_needsSign_1
theorem dksX9_needsSign_0 : cX9_needsSign.data.toList.drop 0 = dktX9_needsSign_0 := by decide +kernel
theorem dksX9_needsSign_1 : cX9_needsSign.data.toList.drop 22 = dktX9_needsSign_1 := dk_seg dksX9_needsSign_0 22 rfl rfl
theorem dX9_needsSign_0 : decode cX9_needsSign 0 = .ok (.aload_n 0, 1) := dk_42 (dk_at dksX9_needsSign_0 0 rfl rfl)
theorem dX9_needsSign_1 : decode cX9_needsSign 1 = .ok (.getfield 91, 3) := dk_180 0 91 (dk_at dksX9_needsSign_0 1 rfl rfl)
theorem dX9_needsSign_4 : decode cX9_needsSign 4 = .ok (.iconst 4, 1) := dk_7 (dk_at dksX9_needsSign_0 4 rfl rfl)
theorem dX9_needsSign_5 : decode cX9_needsSign 5 = .ok (.if_icmp .ne 11, 3) := dk_160 0 11 (dk_at dksX9_needsSign_0 5 rfl rfl)
theorem dX9_needsSign_8 : decode cX9_needsSign 8 = .ok (.aload_n 0, 1) := dk_42 (dk_at dksX9_needsSign_0 8 rfl rfl)
theorem dX9_needsSign_9 : decode cX9_needsSign 9 = .ok (.getfield 103, 3) := dk_180 0 103 (dk_at dksX9_needsSign_0 9 rfl rfl)
theorem dX9_needsSign_12 : decode cX9_needsSign 12 = .ok (.iload_n 1, 1) := dk_27 (dk_at dksX9_needsSign_0 12 rfl rfl)
theorem dX9_needsSign_13 : decode cX9_needsSign 13 = .ok (.if_icmp .eq 8, 3) := dk_159 0 8 (dk_at dksX9_needsSign_0 13 rfl rfl)
theorem dX9_needsSign_16 : decode cX9_needsSign 16 = .ok (.aload_n 0, 1) := dk_42 (dk_at dksX9_needsSign_0 16 rfl rfl)
theorem dX9_needsSign_17 : decode cX9_needsSign 17 = .ok (.iconst 1, 1) := dk_4 (dk_at dksX9_needsSign_0 17 rfl rfl)
theorem dX9_needsSign_18 : decode cX9_needsSign 18 = .ok (.invokevirtual 137, 3) := dk_182 0 137 (dk_at dksX9_needsSign_0 18 rfl rfl)
theorem dX9_needsSign_21 : decode cX9_needsSign 21 = .ok (.aload_n 0, 1) := dk_42 (dk_at dksX9_needsSign_0 21 rfl rfl)
theorem dX9_needsSign_22 : decode cX9_needsSign 22 = .ok (.invokevirtual 130, 3) := dk_182 0 130 (dk_at dksX9_needsSign_1 0 rfl rfl)
theorem dX9_needsSign_25 : decode cX9_needsSign 25 = .ok (.return_, 1) := dk_177 (dk_at dksX9_needsSign_1 3 rfl rfl)
abbrev cX9_readStone : ByteArray := prog_20_method_35_code
def yX9_readStone : MethodName := ⟨RX9, "readStone", "()V"⟩
def dkwX9_readStone_9 : List UInt8 := [180, 0, 156, 89, 180, 0, 226, 4, 96, 181, 0, 226, 177]
abbrev dktX9_readStone_9 : List UInt8 := dkwX9_readStone_9 ++ []
def dkwX9_readStone_8 : List UInt8 := [180, 0, 156, 180, 1, 83, 21, 8, 21, 6, 79, 42, 180, 0, 156, 180, 1, 85, 21, 8, 21, 7, 79, 42]
abbrev dktX9_readStone_8 : List UInt8 := dkwX9_readStone_8 ++ dktX9_readStone_9
def dkwX9_readStone_7 : List UInt8 := [180, 0, 156, 180, 1, 79, 21, 8, 21, 4, 79, 42, 180, 0, 156, 180, 1, 81, 21, 8, 21, 5, 79, 42]
abbrev dktX9_readStone_7 : List UInt8 := dkwX9_readStone_7 ++ dktX9_readStone_8
def dkwX9_readStone_6 : List UInt8 := [54, 8, 42, 31, 3, 21, 8, 182, 1, 73, 42, 180, 0, 156, 180, 1, 76, 21, 8, 29, 79, 42]
abbrev dktX9_readStone_6 : List UInt8 := dkwX9_readStone_6 ++ dktX9_readStone_7
def dkwX9_readStone_5 : List UInt8 := [16, 99, 182, 1, 8, 54, 7, 42, 180, 0, 91, 8, 160, 0, 4, 177, 42, 180, 0, 156, 180, 0, 226]
abbrev dktX9_readStone_5 : List UInt8 := dkwX9_readStone_5 ++ dktX9_readStone_6
def dkwX9_readStone_4 : List UInt8 := [16, 9, 182, 1, 8, 54, 5, 42, 19, 1, 69, 3, 16, 9, 182, 1, 8, 54, 6, 42, 19, 1, 71, 4]
abbrev dktX9_readStone_4 : List UInt8 := dkwX9_readStone_4 ++ dktX9_readStone_5
def dkwX9_readStone_3 : List UInt8 := [182, 0, 137, 42, 182, 0, 130, 42, 19, 1, 65, 4, 16, 9, 182, 1, 8, 54, 4, 42, 19, 1, 67, 3]
abbrev dktX9_readStone_3 : List UInt8 := dkwX9_readStone_3 ++ dktX9_readStone_4
def dkwX9_readStone_2 : List UInt8 := [19, 1, 63, 182, 0, 133, 153, 0, 7, 5, 167, 0, 4, 2, 62, 29, 2, 160, 0, 8, 42, 4]
abbrev dktX9_readStone_2 : List UInt8 := dkwX9_readStone_2 ++ dktX9_readStone_3
def dkwX9_readStone_1 : List UInt8 := [153, 0, 7, 3, 167, 0, 32, 42, 19, 1, 61, 182, 0, 133, 153, 0, 7, 4, 167, 0, 18, 42]
abbrev dktX9_readStone_1 : List UInt8 := dkwX9_readStone_1 ++ dktX9_readStone_2
def dkwX9_readStone_0 : List UInt8 := [42, 42, 180, 0, 156, 180, 0, 226, 7, 182, 1, 30, 42, 182, 1, 55, 64, 42, 19, 1, 59, 182, 0, 133]
abbrev dktX9_readStone_0 : List UInt8 := dkwX9_readStone_0 ++ dktX9_readStone_1
theorem dksX9_readStone_0 : cX9_readStone.data.toList.drop 0 = dktX9_readStone_0 := by decide +kernel
theorem dksX9_readStone_1 : cX9_readStone.data.toList.drop 24 = dktX9_readStone_1 := dk_seg dksX9_readStone_0 24 rfl rfl
theorem dksX9_readStone_2 : cX9_readStone.data.toList.drop 46 = dktX9_readStone_2 := dk_seg dksX9_readStone_1 22 rfl rfl
theorem dksX9_readStone_3 : cX9_readStone.data.toList.drop 68 = dktX9_readStone_3 := dk_seg dksX9_readStone_2 22 rfl rfl
theorem dksX9_readStone_4 : cX9_readStone.data.toList.drop 92 = dktX9_readStone_4 := dk_seg dksX9_readStone_3 24 rfl rfl
theorem dksX9_readStone_5 : cX9_readStone.data.toList.drop 116 = dktX9_readStone_5 := dk_seg dksX9_readStone_4 24 rfl rfl
theorem dksX9_readStone_6 : cX9_readStone.data.toList.drop 139 = dktX9_readStone_6 := dk_seg dksX9_readStone_5 23 rfl rfl
theorem dksX9_readStone_7 : cX9_readStone.data.toList.drop 161 = dktX9_readStone_7 := dk_seg dksX9_readStone_6 22 rfl rfl
theorem dksX9_readStone_8 : cX9_readStone.data.toList.drop 185 = dktX9_readStone_8 := dk_seg dksX9_readStone_7 24 rfl rfl
theorem dksX9_readStone_9 : cX9_readStone.data.toList.drop 209 = dktX9_readStone_9 := dk_seg dksX9_readStone_8 24 rfl rfl
theorem dX9_readStone_0 : decode cX9_readStone 0 = .ok (.aload_n 0, 1) := dk_42 (dk_at dksX9_readStone_0 0 rfl rfl)
theorem dX9_readStone_1 : decode cX9_readStone 1 = .ok (.aload_n 0, 1) := dk_42 (dk_at dksX9_readStone_0 1 rfl rfl)
theorem dX9_readStone_2 : decode cX9_readStone 2 = .ok (.getfield 156, 3) := dk_180 0 156 (dk_at dksX9_readStone_0 2 rfl rfl)
theorem dX9_readStone_5 : decode cX9_readStone 5 = .ok (.getfield 226, 3) := dk_180 0 226 (dk_at dksX9_readStone_0 5 rfl rfl)
theorem dX9_readStone_8 : decode cX9_readStone 8 = .ok (.iconst 4, 1) := dk_7 (dk_at dksX9_readStone_0 8 rfl rfl)
theorem dX9_readStone_9 : decode cX9_readStone 9 = .ok (.invokevirtual 286, 3) := dk_182 1 30 (dk_at dksX9_readStone_0 9 rfl rfl)
theorem dX9_readStone_12 : decode cX9_readStone 12 = .ok (.aload_n 0, 1) := dk_42 (dk_at dksX9_readStone_0 12 rfl rfl)
theorem dX9_readStone_13 : decode cX9_readStone 13 = .ok (.invokevirtual 311, 3) := dk_182 1 55 (dk_at dksX9_readStone_0 13 rfl rfl)
theorem dX9_readStone_16 : decode cX9_readStone 16 = .ok (.lstore_n 1, 1) := dk_64 (dk_at dksX9_readStone_0 16 rfl rfl)
theorem dX9_readStone_17 : decode cX9_readStone 17 = .ok (.aload_n 0, 1) := dk_42 (dk_at dksX9_readStone_0 17 rfl rfl)
theorem dX9_readStone_18 : decode cX9_readStone 18 = .ok (.ldc_w 315, 3) := dk_19 1 59 (dk_at dksX9_readStone_0 18 rfl rfl)
theorem dX9_readStone_21 : decode cX9_readStone 21 = .ok (.invokevirtual 133, 3) := dk_182 0 133 (dk_at dksX9_readStone_0 21 rfl rfl)
theorem dX9_readStone_24 : decode cX9_readStone 24 = .ok (.ifCond .eq 7, 3) := dk_153 0 7 (dk_at dksX9_readStone_1 0 rfl rfl)
theorem dX9_readStone_27 : decode cX9_readStone 27 = .ok (.iconst 0, 1) := dk_3 (dk_at dksX9_readStone_1 3 rfl rfl)
theorem dX9_readStone_28 : decode cX9_readStone 28 = .ok (.goto 32, 3) := dk_167 0 32 (dk_at dksX9_readStone_1 4 rfl rfl)
theorem dX9_readStone_31 : decode cX9_readStone 31 = .ok (.aload_n 0, 1) := dk_42 (dk_at dksX9_readStone_1 7 rfl rfl)
theorem dX9_readStone_32 : decode cX9_readStone 32 = .ok (.ldc_w 317, 3) := dk_19 1 61 (dk_at dksX9_readStone_1 8 rfl rfl)
theorem dX9_readStone_35 : decode cX9_readStone 35 = .ok (.invokevirtual 133, 3) := dk_182 0 133 (dk_at dksX9_readStone_1 11 rfl rfl)
theorem dX9_readStone_38 : decode cX9_readStone 38 = .ok (.ifCond .eq 7, 3) := dk_153 0 7 (dk_at dksX9_readStone_1 14 rfl rfl)
theorem dX9_readStone_41 : decode cX9_readStone 41 = .ok (.iconst 1, 1) := dk_4 (dk_at dksX9_readStone_1 17 rfl rfl)
theorem dX9_readStone_42 : decode cX9_readStone 42 = .ok (.goto 18, 3) := dk_167 0 18 (dk_at dksX9_readStone_1 18 rfl rfl)
theorem dX9_readStone_45 : decode cX9_readStone 45 = .ok (.aload_n 0, 1) := dk_42 (dk_at dksX9_readStone_1 21 rfl rfl)
theorem dX9_readStone_46 : decode cX9_readStone 46 = .ok (.ldc_w 319, 3) := dk_19 1 63 (dk_at dksX9_readStone_2 0 rfl rfl)
theorem dX9_readStone_49 : decode cX9_readStone 49 = .ok (.invokevirtual 133, 3) := dk_182 0 133 (dk_at dksX9_readStone_2 3 rfl rfl)
theorem dX9_readStone_52 : decode cX9_readStone 52 = .ok (.ifCond .eq 7, 3) := dk_153 0 7 (dk_at dksX9_readStone_2 6 rfl rfl)
theorem dX9_readStone_55 : decode cX9_readStone 55 = .ok (.iconst 2, 1) := dk_5 (dk_at dksX9_readStone_2 9 rfl rfl)
theorem dX9_readStone_56 : decode cX9_readStone 56 = .ok (.goto 4, 3) := dk_167 0 4 (dk_at dksX9_readStone_2 10 rfl rfl)
theorem dX9_readStone_59 : decode cX9_readStone 59 = .ok (.iconst (-1), 1) := dk_2 (dk_at dksX9_readStone_2 13 rfl rfl)
theorem dX9_readStone_60 : decode cX9_readStone 60 = .ok (.istore_n 3, 1) := dk_62 (dk_at dksX9_readStone_2 14 rfl rfl)
theorem dX9_readStone_61 : decode cX9_readStone 61 = .ok (.iload_n 3, 1) := dk_29 (dk_at dksX9_readStone_2 15 rfl rfl)
theorem dX9_readStone_62 : decode cX9_readStone 62 = .ok (.iconst (-1), 1) := dk_2 (dk_at dksX9_readStone_2 16 rfl rfl)
theorem dX9_readStone_63 : decode cX9_readStone 63 = .ok (.if_icmp .ne 8, 3) := dk_160 0 8 (dk_at dksX9_readStone_2 17 rfl rfl)
theorem dX9_readStone_66 : decode cX9_readStone 66 = .ok (.aload_n 0, 1) := dk_42 (dk_at dksX9_readStone_2 20 rfl rfl)
theorem dX9_readStone_67 : decode cX9_readStone 67 = .ok (.iconst 1, 1) := dk_4 (dk_at dksX9_readStone_2 21 rfl rfl)
theorem dX9_readStone_68 : decode cX9_readStone 68 = .ok (.invokevirtual 137, 3) := dk_182 0 137 (dk_at dksX9_readStone_3 0 rfl rfl)
theorem dX9_readStone_71 : decode cX9_readStone 71 = .ok (.aload_n 0, 1) := dk_42 (dk_at dksX9_readStone_3 3 rfl rfl)
theorem dX9_readStone_72 : decode cX9_readStone 72 = .ok (.invokevirtual 130, 3) := dk_182 0 130 (dk_at dksX9_readStone_3 4 rfl rfl)
theorem dX9_readStone_75 : decode cX9_readStone 75 = .ok (.aload_n 0, 1) := dk_42 (dk_at dksX9_readStone_3 7 rfl rfl)
theorem dX9_readStone_76 : decode cX9_readStone 76 = .ok (.ldc_w 321, 3) := dk_19 1 65 (dk_at dksX9_readStone_3 8 rfl rfl)
theorem dX9_readStone_79 : decode cX9_readStone 79 = .ok (.iconst 1, 1) := dk_4 (dk_at dksX9_readStone_3 11 rfl rfl)
theorem dX9_readStone_80 : decode cX9_readStone 80 = .ok (.bipush 9, 2) := dk_16 9 (dk_at dksX9_readStone_3 12 rfl rfl)
theorem dX9_readStone_82 : decode cX9_readStone 82 = .ok (.invokevirtual 264, 3) := dk_182 1 8 (dk_at dksX9_readStone_3 14 rfl rfl)
theorem dX9_readStone_85 : decode cX9_readStone 85 = .ok (.istore 4, 2) := dk_54 4 (dk_at dksX9_readStone_3 17 rfl rfl)
theorem dX9_readStone_87 : decode cX9_readStone 87 = .ok (.aload_n 0, 1) := dk_42 (dk_at dksX9_readStone_3 19 rfl rfl)
theorem dX9_readStone_88 : decode cX9_readStone 88 = .ok (.ldc_w 323, 3) := dk_19 1 67 (dk_at dksX9_readStone_3 20 rfl rfl)
theorem dX9_readStone_91 : decode cX9_readStone 91 = .ok (.iconst 0, 1) := dk_3 (dk_at dksX9_readStone_3 23 rfl rfl)
theorem dX9_readStone_92 : decode cX9_readStone 92 = .ok (.bipush 9, 2) := dk_16 9 (dk_at dksX9_readStone_4 0 rfl rfl)
theorem dX9_readStone_94 : decode cX9_readStone 94 = .ok (.invokevirtual 264, 3) := dk_182 1 8 (dk_at dksX9_readStone_4 2 rfl rfl)
theorem dX9_readStone_97 : decode cX9_readStone 97 = .ok (.istore 5, 2) := dk_54 5 (dk_at dksX9_readStone_4 5 rfl rfl)
theorem dX9_readStone_99 : decode cX9_readStone 99 = .ok (.aload_n 0, 1) := dk_42 (dk_at dksX9_readStone_4 7 rfl rfl)
theorem dX9_readStone_100 : decode cX9_readStone 100 = .ok (.ldc_w 325, 3) := dk_19 1 69 (dk_at dksX9_readStone_4 8 rfl rfl)
theorem dX9_readStone_103 : decode cX9_readStone 103 = .ok (.iconst 0, 1) := dk_3 (dk_at dksX9_readStone_4 11 rfl rfl)
theorem dX9_readStone_104 : decode cX9_readStone 104 = .ok (.bipush 9, 2) := dk_16 9 (dk_at dksX9_readStone_4 12 rfl rfl)
theorem dX9_readStone_106 : decode cX9_readStone 106 = .ok (.invokevirtual 264, 3) := dk_182 1 8 (dk_at dksX9_readStone_4 14 rfl rfl)
theorem dX9_readStone_109 : decode cX9_readStone 109 = .ok (.istore 6, 2) := dk_54 6 (dk_at dksX9_readStone_4 17 rfl rfl)
theorem dX9_readStone_111 : decode cX9_readStone 111 = .ok (.aload_n 0, 1) := dk_42 (dk_at dksX9_readStone_4 19 rfl rfl)
theorem dX9_readStone_112 : decode cX9_readStone 112 = .ok (.ldc_w 327, 3) := dk_19 1 71 (dk_at dksX9_readStone_4 20 rfl rfl)
theorem dX9_readStone_115 : decode cX9_readStone 115 = .ok (.iconst 1, 1) := dk_4 (dk_at dksX9_readStone_4 23 rfl rfl)
theorem dX9_readStone_116 : decode cX9_readStone 116 = .ok (.bipush 99, 2) := dk_16 99 (dk_at dksX9_readStone_5 0 rfl rfl)
theorem dX9_readStone_118 : decode cX9_readStone 118 = .ok (.invokevirtual 264, 3) := dk_182 1 8 (dk_at dksX9_readStone_5 2 rfl rfl)
theorem dX9_readStone_121 : decode cX9_readStone 121 = .ok (.istore 7, 2) := dk_54 7 (dk_at dksX9_readStone_5 5 rfl rfl)
theorem dX9_readStone_123 : decode cX9_readStone 123 = .ok (.aload_n 0, 1) := dk_42 (dk_at dksX9_readStone_5 7 rfl rfl)
theorem dX9_readStone_124 : decode cX9_readStone 124 = .ok (.getfield 91, 3) := dk_180 0 91 (dk_at dksX9_readStone_5 8 rfl rfl)
theorem dX9_readStone_127 : decode cX9_readStone 127 = .ok (.iconst 5, 1) := dk_8 (dk_at dksX9_readStone_5 11 rfl rfl)
theorem dX9_readStone_128 : decode cX9_readStone 128 = .ok (.if_icmp .ne 4, 3) := dk_160 0 4 (dk_at dksX9_readStone_5 12 rfl rfl)
theorem dX9_readStone_131 : decode cX9_readStone 131 = .ok (.return_, 1) := dk_177 (dk_at dksX9_readStone_5 15 rfl rfl)
theorem dX9_readStone_132 : decode cX9_readStone 132 = .ok (.aload_n 0, 1) := dk_42 (dk_at dksX9_readStone_5 16 rfl rfl)
theorem dX9_readStone_133 : decode cX9_readStone 133 = .ok (.getfield 156, 3) := dk_180 0 156 (dk_at dksX9_readStone_5 17 rfl rfl)
theorem dX9_readStone_136 : decode cX9_readStone 136 = .ok (.getfield 226, 3) := dk_180 0 226 (dk_at dksX9_readStone_5 20 rfl rfl)
theorem dX9_readStone_139 : decode cX9_readStone 139 = .ok (.istore 8, 2) := dk_54 8 (dk_at dksX9_readStone_6 0 rfl rfl)
theorem dX9_readStone_141 : decode cX9_readStone 141 = .ok (.aload_n 0, 1) := dk_42 (dk_at dksX9_readStone_6 2 rfl rfl)
theorem dX9_readStone_142 : decode cX9_readStone 142 = .ok (.lload_n 1, 1) := dk_31 (dk_at dksX9_readStone_6 3 rfl rfl)
theorem dX9_readStone_143 : decode cX9_readStone 143 = .ok (.iconst 0, 1) := dk_3 (dk_at dksX9_readStone_6 4 rfl rfl)
theorem dX9_readStone_144 : decode cX9_readStone 144 = .ok (.iload 8, 2) := dk_21 8 (dk_at dksX9_readStone_6 5 rfl rfl)
theorem dX9_readStone_146 : decode cX9_readStone 146 = .ok (.invokevirtual 329, 3) := dk_182 1 73 (dk_at dksX9_readStone_6 7 rfl rfl)
theorem dX9_readStone_149 : decode cX9_readStone 149 = .ok (.aload_n 0, 1) := dk_42 (dk_at dksX9_readStone_6 10 rfl rfl)
theorem dX9_readStone_150 : decode cX9_readStone 150 = .ok (.getfield 156, 3) := dk_180 0 156 (dk_at dksX9_readStone_6 11 rfl rfl)
theorem dX9_readStone_153 : decode cX9_readStone 153 = .ok (.getfield 332, 3) := dk_180 1 76 (dk_at dksX9_readStone_6 14 rfl rfl)
theorem dX9_readStone_156 : decode cX9_readStone 156 = .ok (.iload 8, 2) := dk_21 8 (dk_at dksX9_readStone_6 17 rfl rfl)
theorem dX9_readStone_158 : decode cX9_readStone 158 = .ok (.iload_n 3, 1) := dk_29 (dk_at dksX9_readStone_6 19 rfl rfl)
theorem dX9_readStone_159 : decode cX9_readStone 159 = .ok (.iastore, 1) := dk_79 (dk_at dksX9_readStone_6 20 rfl rfl)
theorem dX9_readStone_160 : decode cX9_readStone 160 = .ok (.aload_n 0, 1) := dk_42 (dk_at dksX9_readStone_6 21 rfl rfl)
theorem dX9_readStone_161 : decode cX9_readStone 161 = .ok (.getfield 156, 3) := dk_180 0 156 (dk_at dksX9_readStone_7 0 rfl rfl)
theorem dX9_readStone_164 : decode cX9_readStone 164 = .ok (.getfield 335, 3) := dk_180 1 79 (dk_at dksX9_readStone_7 3 rfl rfl)
theorem dX9_readStone_167 : decode cX9_readStone 167 = .ok (.iload 8, 2) := dk_21 8 (dk_at dksX9_readStone_7 6 rfl rfl)
theorem dX9_readStone_169 : decode cX9_readStone 169 = .ok (.iload 4, 2) := dk_21 4 (dk_at dksX9_readStone_7 8 rfl rfl)
theorem dX9_readStone_171 : decode cX9_readStone 171 = .ok (.iastore, 1) := dk_79 (dk_at dksX9_readStone_7 10 rfl rfl)
theorem dX9_readStone_172 : decode cX9_readStone 172 = .ok (.aload_n 0, 1) := dk_42 (dk_at dksX9_readStone_7 11 rfl rfl)
theorem dX9_readStone_173 : decode cX9_readStone 173 = .ok (.getfield 156, 3) := dk_180 0 156 (dk_at dksX9_readStone_7 12 rfl rfl)
theorem dX9_readStone_176 : decode cX9_readStone 176 = .ok (.getfield 337, 3) := dk_180 1 81 (dk_at dksX9_readStone_7 15 rfl rfl)
theorem dX9_readStone_179 : decode cX9_readStone 179 = .ok (.iload 8, 2) := dk_21 8 (dk_at dksX9_readStone_7 18 rfl rfl)
theorem dX9_readStone_181 : decode cX9_readStone 181 = .ok (.iload 5, 2) := dk_21 5 (dk_at dksX9_readStone_7 20 rfl rfl)
theorem dX9_readStone_183 : decode cX9_readStone 183 = .ok (.iastore, 1) := dk_79 (dk_at dksX9_readStone_7 22 rfl rfl)
theorem dX9_readStone_184 : decode cX9_readStone 184 = .ok (.aload_n 0, 1) := dk_42 (dk_at dksX9_readStone_7 23 rfl rfl)
theorem dX9_readStone_185 : decode cX9_readStone 185 = .ok (.getfield 156, 3) := dk_180 0 156 (dk_at dksX9_readStone_8 0 rfl rfl)
theorem dX9_readStone_188 : decode cX9_readStone 188 = .ok (.getfield 339, 3) := dk_180 1 83 (dk_at dksX9_readStone_8 3 rfl rfl)
theorem dX9_readStone_191 : decode cX9_readStone 191 = .ok (.iload 8, 2) := dk_21 8 (dk_at dksX9_readStone_8 6 rfl rfl)
theorem dX9_readStone_193 : decode cX9_readStone 193 = .ok (.iload 6, 2) := dk_21 6 (dk_at dksX9_readStone_8 8 rfl rfl)
theorem dX9_readStone_195 : decode cX9_readStone 195 = .ok (.iastore, 1) := dk_79 (dk_at dksX9_readStone_8 10 rfl rfl)
theorem dX9_readStone_196 : decode cX9_readStone 196 = .ok (.aload_n 0, 1) := dk_42 (dk_at dksX9_readStone_8 11 rfl rfl)
theorem dX9_readStone_197 : decode cX9_readStone 197 = .ok (.getfield 156, 3) := dk_180 0 156 (dk_at dksX9_readStone_8 12 rfl rfl)
theorem dX9_readStone_200 : decode cX9_readStone 200 = .ok (.getfield 341, 3) := dk_180 1 85 (dk_at dksX9_readStone_8 15 rfl rfl)
theorem dX9_readStone_203 : decode cX9_readStone 203 = .ok (.iload 8, 2) := dk_21 8 (dk_at dksX9_readStone_8 18 rfl rfl)
theorem dX9_readStone_205 : decode cX9_readStone 205 = .ok (.iload 7, 2) := dk_21 7 (dk_at dksX9_readStone_8 20 rfl rfl)
theorem dX9_readStone_207 : decode cX9_readStone 207 = .ok (.iastore, 1) := dk_79 (dk_at dksX9_readStone_8 22 rfl rfl)
theorem dX9_readStone_208 : decode cX9_readStone 208 = .ok (.aload_n 0, 1) := dk_42 (dk_at dksX9_readStone_8 23 rfl rfl)
theorem dX9_readStone_209 : decode cX9_readStone 209 = .ok (.getfield 156, 3) := dk_180 0 156 (dk_at dksX9_readStone_9 0 rfl rfl)
theorem dX9_readStone_212 : decode cX9_readStone 212 = .ok (.dup, 1) := dk_89 (dk_at dksX9_readStone_9 3 rfl rfl)
theorem dX9_readStone_213 : decode cX9_readStone 213 = .ok (.getfield 226, 3) := dk_180 0 226 (dk_at dksX9_readStone_9 4 rfl rfl)
theorem dX9_readStone_216 : decode cX9_readStone 216 = .ok (.iconst 1, 1) := dk_4 (dk_at dksX9_readStone_9 7 rfl rfl)
theorem dX9_readStone_217 : decode cX9_readStone 217 = .ok (.iadd, 1) := dk_96 (dk_at dksX9_readStone_9 8 rfl rfl)
theorem dX9_readStone_218 : decode cX9_readStone 218 = .ok (.putfield 226, 3) := dk_181 0 226 (dk_at dksX9_readStone_9 9 rfl rfl)
theorem dX9_readStone_221 : decode cX9_readStone 221 = .ok (.return_, 1) := dk_177 (dk_at dksX9_readStone_9 12 rfl rfl)
abbrev cX9_readFresh : ByteArray := prog_20_method_26_code
def yX9_readFresh : MethodName := ⟨RX9, "readFresh", "()J"⟩
def dkwX9_readFresh_1 : List UInt8 := [159, 0, 8, 42, 6, 182, 0, 137, 42, 180, 0, 110, 64, 42, 182, 0, 130, 31, 173]
abbrev dktX9_readFresh_1 : List UInt8 := dkwX9_readFresh_1 ++ []
def dkwX9_readFresh_0 : List UInt8 := [42, 182, 0, 193, 154, 0, 8, 42, 4, 182, 0, 137, 42, 180, 0, 156, 42, 180, 0, 110, 182, 0, 197, 2]
abbrev dktX9_readFresh_0 : List UInt8 := dkwX9_readFresh_0 ++ dktX9_readFresh_1
theorem dksX9_readFresh_0 : cX9_readFresh.data.toList.drop 0 = dktX9_readFresh_0 := by decide +kernel
theorem dksX9_readFresh_1 : cX9_readFresh.data.toList.drop 24 = dktX9_readFresh_1 := dk_seg dksX9_readFresh_0 24 rfl rfl
theorem dX9_readFresh_0 : decode cX9_readFresh 0 = .ok (.aload_n 0, 1) := dk_42 (dk_at dksX9_readFresh_0 0 rfl rfl)
theorem dX9_readFresh_1 : decode cX9_readFresh 1 = .ok (.invokevirtual 193, 3) := dk_182 0 193 (dk_at dksX9_readFresh_0 1 rfl rfl)
theorem dX9_readFresh_4 : decode cX9_readFresh 4 = .ok (.ifCond .ne 8, 3) := dk_154 0 8 (dk_at dksX9_readFresh_0 4 rfl rfl)
theorem dX9_readFresh_7 : decode cX9_readFresh 7 = .ok (.aload_n 0, 1) := dk_42 (dk_at dksX9_readFresh_0 7 rfl rfl)
theorem dX9_readFresh_8 : decode cX9_readFresh 8 = .ok (.iconst 1, 1) := dk_4 (dk_at dksX9_readFresh_0 8 rfl rfl)
theorem dX9_readFresh_9 : decode cX9_readFresh 9 = .ok (.invokevirtual 137, 3) := dk_182 0 137 (dk_at dksX9_readFresh_0 9 rfl rfl)
theorem dX9_readFresh_12 : decode cX9_readFresh 12 = .ok (.aload_n 0, 1) := dk_42 (dk_at dksX9_readFresh_0 12 rfl rfl)
theorem dX9_readFresh_13 : decode cX9_readFresh 13 = .ok (.getfield 156, 3) := dk_180 0 156 (dk_at dksX9_readFresh_0 13 rfl rfl)
theorem dX9_readFresh_16 : decode cX9_readFresh 16 = .ok (.aload_n 0, 1) := dk_42 (dk_at dksX9_readFresh_0 16 rfl rfl)
theorem dX9_readFresh_17 : decode cX9_readFresh 17 = .ok (.getfield 110, 3) := dk_180 0 110 (dk_at dksX9_readFresh_0 17 rfl rfl)
theorem dX9_readFresh_20 : decode cX9_readFresh 20 = .ok (.invokevirtual 197, 3) := dk_182 0 197 (dk_at dksX9_readFresh_0 20 rfl rfl)
theorem dX9_readFresh_23 : decode cX9_readFresh 23 = .ok (.iconst (-1), 1) := dk_2 (dk_at dksX9_readFresh_0 23 rfl rfl)
theorem dX9_readFresh_24 : decode cX9_readFresh 24 = .ok (.if_icmp .eq 8, 3) := dk_159 0 8 (dk_at dksX9_readFresh_1 0 rfl rfl)
theorem dX9_readFresh_27 : decode cX9_readFresh 27 = .ok (.aload_n 0, 1) := dk_42 (dk_at dksX9_readFresh_1 3 rfl rfl)
theorem dX9_readFresh_28 : decode cX9_readFresh 28 = .ok (.iconst 3, 1) := dk_6 (dk_at dksX9_readFresh_1 4 rfl rfl)
theorem dX9_readFresh_29 : decode cX9_readFresh 29 = .ok (.invokevirtual 137, 3) := dk_182 0 137 (dk_at dksX9_readFresh_1 5 rfl rfl)
theorem dX9_readFresh_32 : decode cX9_readFresh 32 = .ok (.aload_n 0, 1) := dk_42 (dk_at dksX9_readFresh_1 8 rfl rfl)
theorem dX9_readFresh_33 : decode cX9_readFresh 33 = .ok (.getfield 110, 3) := dk_180 0 110 (dk_at dksX9_readFresh_1 9 rfl rfl)
theorem dX9_readFresh_36 : decode cX9_readFresh 36 = .ok (.lstore_n 1, 1) := dk_64 (dk_at dksX9_readFresh_1 12 rfl rfl)
theorem dX9_readFresh_37 : decode cX9_readFresh 37 = .ok (.aload_n 0, 1) := dk_42 (dk_at dksX9_readFresh_1 13 rfl rfl)
theorem dX9_readFresh_38 : decode cX9_readFresh 38 = .ok (.invokevirtual 130, 3) := dk_182 0 130 (dk_at dksX9_readFresh_1 14 rfl rfl)
theorem dX9_readFresh_41 : decode cX9_readFresh 41 = .ok (.lload_n 1, 1) := dk_31 (dk_at dksX9_readFresh_1 17 rfl rfl)
theorem dX9_readFresh_42 : decode cX9_readFresh 42 = .ok (.lreturn, 1) := dk_173 (dk_at dksX9_readFresh_1 18 rfl rfl)
abbrev cX9_isName : ByteArray := prog_20_method_24_code
def yX9_isName : MethodName := ⟨RX9, "isName", "()Z"⟩
def dkwX9_isName_4 : List UInt8 := [182, 0, 133, 154, 0, 16, 42, 18, 191, 182, 0, 133, 154, 0, 7, 4, 167, 0, 4, 3, 172]
abbrev dktX9_isName_4 : List UInt8 := dkwX9_isName_4 ++ []
def dkwX9_isName_3 : List UInt8 := [154, 0, 43, 42, 18, 185, 182, 0, 133, 154, 0, 34, 42, 18, 187, 182, 0, 133, 154, 0, 25, 42, 18, 189]
abbrev dktX9_isName_3 : List UInt8 := dkwX9_isName_3 ++ dktX9_isName_4
def dkwX9_isName_2 : List UInt8 := [182, 0, 133, 154, 0, 12, 42, 18, 181, 182, 0, 133, 153, 0, 5, 3, 172, 42, 18, 183, 182, 0, 133]
abbrev dktX9_isName_2 : List UInt8 := dkwX9_isName_2 ++ dktX9_isName_3
def dkwX9_isName_1 : List UInt8 := [154, 0, 39, 42, 18, 175, 182, 0, 133, 154, 0, 30, 42, 18, 177, 182, 0, 133, 154, 0, 21, 42, 18, 179]
abbrev dktX9_isName_1 : List UInt8 := dkwX9_isName_1 ++ dktX9_isName_2
def dkwX9_isName_0 : List UInt8 := [42, 180, 0, 91, 5, 160, 0, 57, 42, 18, 171, 182, 0, 133, 154, 0, 48, 42, 18, 173, 182, 0, 133]
abbrev dktX9_isName_0 : List UInt8 := dkwX9_isName_0 ++ dktX9_isName_1
theorem dksX9_isName_0 : cX9_isName.data.toList.drop 0 = dktX9_isName_0 := by decide +kernel
theorem dksX9_isName_1 : cX9_isName.data.toList.drop 23 = dktX9_isName_1 := dk_seg dksX9_isName_0 23 rfl rfl
theorem dksX9_isName_2 : cX9_isName.data.toList.drop 47 = dktX9_isName_2 := dk_seg dksX9_isName_1 24 rfl rfl
theorem dksX9_isName_3 : cX9_isName.data.toList.drop 70 = dktX9_isName_3 := dk_seg dksX9_isName_2 23 rfl rfl
theorem dksX9_isName_4 : cX9_isName.data.toList.drop 94 = dktX9_isName_4 := dk_seg dksX9_isName_3 24 rfl rfl
theorem dX9_isName_0 : decode cX9_isName 0 = .ok (.aload_n 0, 1) := dk_42 (dk_at dksX9_isName_0 0 rfl rfl)
theorem dX9_isName_1 : decode cX9_isName 1 = .ok (.getfield 91, 3) := dk_180 0 91 (dk_at dksX9_isName_0 1 rfl rfl)
theorem dX9_isName_4 : decode cX9_isName 4 = .ok (.iconst 2, 1) := dk_5 (dk_at dksX9_isName_0 4 rfl rfl)
theorem dX9_isName_5 : decode cX9_isName 5 = .ok (.if_icmp .ne 57, 3) := dk_160 0 57 (dk_at dksX9_isName_0 5 rfl rfl)
theorem dX9_isName_8 : decode cX9_isName 8 = .ok (.aload_n 0, 1) := dk_42 (dk_at dksX9_isName_0 8 rfl rfl)
theorem dX9_isName_9 : decode cX9_isName 9 = .ok (.ldc 171, 2) := dk_18 171 (dk_at dksX9_isName_0 9 rfl rfl)
theorem dX9_isName_11 : decode cX9_isName 11 = .ok (.invokevirtual 133, 3) := dk_182 0 133 (dk_at dksX9_isName_0 11 rfl rfl)
theorem dX9_isName_14 : decode cX9_isName 14 = .ok (.ifCond .ne 48, 3) := dk_154 0 48 (dk_at dksX9_isName_0 14 rfl rfl)
theorem dX9_isName_17 : decode cX9_isName 17 = .ok (.aload_n 0, 1) := dk_42 (dk_at dksX9_isName_0 17 rfl rfl)
theorem dX9_isName_18 : decode cX9_isName 18 = .ok (.ldc 173, 2) := dk_18 173 (dk_at dksX9_isName_0 18 rfl rfl)
theorem dX9_isName_20 : decode cX9_isName 20 = .ok (.invokevirtual 133, 3) := dk_182 0 133 (dk_at dksX9_isName_0 20 rfl rfl)
theorem dX9_isName_23 : decode cX9_isName 23 = .ok (.ifCond .ne 39, 3) := dk_154 0 39 (dk_at dksX9_isName_1 0 rfl rfl)
theorem dX9_isName_26 : decode cX9_isName 26 = .ok (.aload_n 0, 1) := dk_42 (dk_at dksX9_isName_1 3 rfl rfl)
theorem dX9_isName_27 : decode cX9_isName 27 = .ok (.ldc 175, 2) := dk_18 175 (dk_at dksX9_isName_1 4 rfl rfl)
theorem dX9_isName_29 : decode cX9_isName 29 = .ok (.invokevirtual 133, 3) := dk_182 0 133 (dk_at dksX9_isName_1 6 rfl rfl)
theorem dX9_isName_32 : decode cX9_isName 32 = .ok (.ifCond .ne 30, 3) := dk_154 0 30 (dk_at dksX9_isName_1 9 rfl rfl)
theorem dX9_isName_35 : decode cX9_isName 35 = .ok (.aload_n 0, 1) := dk_42 (dk_at dksX9_isName_1 12 rfl rfl)
theorem dX9_isName_36 : decode cX9_isName 36 = .ok (.ldc 177, 2) := dk_18 177 (dk_at dksX9_isName_1 13 rfl rfl)
theorem dX9_isName_38 : decode cX9_isName 38 = .ok (.invokevirtual 133, 3) := dk_182 0 133 (dk_at dksX9_isName_1 15 rfl rfl)
theorem dX9_isName_41 : decode cX9_isName 41 = .ok (.ifCond .ne 21, 3) := dk_154 0 21 (dk_at dksX9_isName_1 18 rfl rfl)
theorem dX9_isName_44 : decode cX9_isName 44 = .ok (.aload_n 0, 1) := dk_42 (dk_at dksX9_isName_1 21 rfl rfl)
theorem dX9_isName_45 : decode cX9_isName 45 = .ok (.ldc 179, 2) := dk_18 179 (dk_at dksX9_isName_1 22 rfl rfl)
theorem dX9_isName_47 : decode cX9_isName 47 = .ok (.invokevirtual 133, 3) := dk_182 0 133 (dk_at dksX9_isName_2 0 rfl rfl)
theorem dX9_isName_50 : decode cX9_isName 50 = .ok (.ifCond .ne 12, 3) := dk_154 0 12 (dk_at dksX9_isName_2 3 rfl rfl)
theorem dX9_isName_53 : decode cX9_isName 53 = .ok (.aload_n 0, 1) := dk_42 (dk_at dksX9_isName_2 6 rfl rfl)
theorem dX9_isName_54 : decode cX9_isName 54 = .ok (.ldc 181, 2) := dk_18 181 (dk_at dksX9_isName_2 7 rfl rfl)
theorem dX9_isName_56 : decode cX9_isName 56 = .ok (.invokevirtual 133, 3) := dk_182 0 133 (dk_at dksX9_isName_2 9 rfl rfl)
theorem dX9_isName_59 : decode cX9_isName 59 = .ok (.ifCond .eq 5, 3) := dk_153 0 5 (dk_at dksX9_isName_2 12 rfl rfl)
theorem dX9_isName_62 : decode cX9_isName 62 = .ok (.iconst 0, 1) := dk_3 (dk_at dksX9_isName_2 15 rfl rfl)
theorem dX9_isName_63 : decode cX9_isName 63 = .ok (.ireturn, 1) := dk_172 (dk_at dksX9_isName_2 16 rfl rfl)
theorem dX9_isName_64 : decode cX9_isName 64 = .ok (.aload_n 0, 1) := dk_42 (dk_at dksX9_isName_2 17 rfl rfl)
theorem dX9_isName_65 : decode cX9_isName 65 = .ok (.ldc 183, 2) := dk_18 183 (dk_at dksX9_isName_2 18 rfl rfl)
theorem dX9_isName_67 : decode cX9_isName 67 = .ok (.invokevirtual 133, 3) := dk_182 0 133 (dk_at dksX9_isName_2 20 rfl rfl)
theorem dX9_isName_70 : decode cX9_isName 70 = .ok (.ifCond .ne 43, 3) := dk_154 0 43 (dk_at dksX9_isName_3 0 rfl rfl)
theorem dX9_isName_73 : decode cX9_isName 73 = .ok (.aload_n 0, 1) := dk_42 (dk_at dksX9_isName_3 3 rfl rfl)
theorem dX9_isName_74 : decode cX9_isName 74 = .ok (.ldc 185, 2) := dk_18 185 (dk_at dksX9_isName_3 4 rfl rfl)
theorem dX9_isName_76 : decode cX9_isName 76 = .ok (.invokevirtual 133, 3) := dk_182 0 133 (dk_at dksX9_isName_3 6 rfl rfl)
theorem dX9_isName_79 : decode cX9_isName 79 = .ok (.ifCond .ne 34, 3) := dk_154 0 34 (dk_at dksX9_isName_3 9 rfl rfl)
theorem dX9_isName_82 : decode cX9_isName 82 = .ok (.aload_n 0, 1) := dk_42 (dk_at dksX9_isName_3 12 rfl rfl)
theorem dX9_isName_83 : decode cX9_isName 83 = .ok (.ldc 187, 2) := dk_18 187 (dk_at dksX9_isName_3 13 rfl rfl)
theorem dX9_isName_85 : decode cX9_isName 85 = .ok (.invokevirtual 133, 3) := dk_182 0 133 (dk_at dksX9_isName_3 15 rfl rfl)
theorem dX9_isName_88 : decode cX9_isName 88 = .ok (.ifCond .ne 25, 3) := dk_154 0 25 (dk_at dksX9_isName_3 18 rfl rfl)
theorem dX9_isName_91 : decode cX9_isName 91 = .ok (.aload_n 0, 1) := dk_42 (dk_at dksX9_isName_3 21 rfl rfl)
theorem dX9_isName_92 : decode cX9_isName 92 = .ok (.ldc 189, 2) := dk_18 189 (dk_at dksX9_isName_3 22 rfl rfl)
theorem dX9_isName_94 : decode cX9_isName 94 = .ok (.invokevirtual 133, 3) := dk_182 0 133 (dk_at dksX9_isName_4 0 rfl rfl)
theorem dX9_isName_97 : decode cX9_isName 97 = .ok (.ifCond .ne 16, 3) := dk_154 0 16 (dk_at dksX9_isName_4 3 rfl rfl)
theorem dX9_isName_100 : decode cX9_isName 100 = .ok (.aload_n 0, 1) := dk_42 (dk_at dksX9_isName_4 6 rfl rfl)
theorem dX9_isName_101 : decode cX9_isName 101 = .ok (.ldc 191, 2) := dk_18 191 (dk_at dksX9_isName_4 7 rfl rfl)
theorem dX9_isName_103 : decode cX9_isName 103 = .ok (.invokevirtual 133, 3) := dk_182 0 133 (dk_at dksX9_isName_4 9 rfl rfl)
theorem dX9_isName_106 : decode cX9_isName 106 = .ok (.ifCond .ne 7, 3) := dk_154 0 7 (dk_at dksX9_isName_4 12 rfl rfl)
theorem dX9_isName_109 : decode cX9_isName 109 = .ok (.iconst 1, 1) := dk_4 (dk_at dksX9_isName_4 15 rfl rfl)
theorem dX9_isName_110 : decode cX9_isName 110 = .ok (.goto 4, 3) := dk_167 0 4 (dk_at dksX9_isName_4 16 rfl rfl)
theorem dX9_isName_113 : decode cX9_isName 113 = .ok (.iconst 0, 1) := dk_3 (dk_at dksX9_isName_4 19 rfl rfl)
theorem dX9_isName_114 : decode cX9_isName 114 = .ok (.ireturn, 1) := dk_172 (dk_at dksX9_isName_4 20 rfl rfl)
abbrev cX9_names : ByteArray := prog_20_method_27_code
def yX9_names : MethodName := ⟨RX9, "names", "(JII)V"⟩
def dkwX9_names_2 : List UInt8 := [79, 42, 180, 0, 156, 89, 180, 0, 205, 4, 96, 181, 0, 205, 177]
abbrev dktX9_names_2 : List UInt8 := dkwX9_names_2 ++ []
def dkwX9_names_1 : List UInt8 := [180, 0, 156, 180, 0, 205, 29, 79, 42, 180, 0, 156, 180, 0, 211, 42, 180, 0, 156, 180, 0, 205, 21, 4]
abbrev dktX9_names_1 : List UInt8 := dkwX9_names_1 ++ dktX9_names_2
def dkwX9_names_0 : List UInt8 := [42, 180, 0, 156, 180, 0, 201, 42, 180, 0, 156, 180, 0, 205, 31, 80, 42, 180, 0, 156, 180, 0, 208, 42]
abbrev dktX9_names_0 : List UInt8 := dkwX9_names_0 ++ dktX9_names_1
theorem dksX9_names_0 : cX9_names.data.toList.drop 0 = dktX9_names_0 := by decide +kernel
theorem dksX9_names_1 : cX9_names.data.toList.drop 24 = dktX9_names_1 := dk_seg dksX9_names_0 24 rfl rfl
theorem dksX9_names_2 : cX9_names.data.toList.drop 48 = dktX9_names_2 := dk_seg dksX9_names_1 24 rfl rfl
theorem dX9_names_0 : decode cX9_names 0 = .ok (.aload_n 0, 1) := dk_42 (dk_at dksX9_names_0 0 rfl rfl)
theorem dX9_names_1 : decode cX9_names 1 = .ok (.getfield 156, 3) := dk_180 0 156 (dk_at dksX9_names_0 1 rfl rfl)
theorem dX9_names_4 : decode cX9_names 4 = .ok (.getfield 201, 3) := dk_180 0 201 (dk_at dksX9_names_0 4 rfl rfl)
theorem dX9_names_7 : decode cX9_names 7 = .ok (.aload_n 0, 1) := dk_42 (dk_at dksX9_names_0 7 rfl rfl)
theorem dX9_names_8 : decode cX9_names 8 = .ok (.getfield 156, 3) := dk_180 0 156 (dk_at dksX9_names_0 8 rfl rfl)
theorem dX9_names_11 : decode cX9_names 11 = .ok (.getfield 205, 3) := dk_180 0 205 (dk_at dksX9_names_0 11 rfl rfl)
theorem dX9_names_14 : decode cX9_names 14 = .ok (.lload_n 1, 1) := dk_31 (dk_at dksX9_names_0 14 rfl rfl)
theorem dX9_names_15 : decode cX9_names 15 = .ok (.lastore, 1) := dk_80 (dk_at dksX9_names_0 15 rfl rfl)
theorem dX9_names_16 : decode cX9_names 16 = .ok (.aload_n 0, 1) := dk_42 (dk_at dksX9_names_0 16 rfl rfl)
theorem dX9_names_17 : decode cX9_names 17 = .ok (.getfield 156, 3) := dk_180 0 156 (dk_at dksX9_names_0 17 rfl rfl)
theorem dX9_names_20 : decode cX9_names 20 = .ok (.getfield 208, 3) := dk_180 0 208 (dk_at dksX9_names_0 20 rfl rfl)
theorem dX9_names_23 : decode cX9_names 23 = .ok (.aload_n 0, 1) := dk_42 (dk_at dksX9_names_0 23 rfl rfl)
theorem dX9_names_24 : decode cX9_names 24 = .ok (.getfield 156, 3) := dk_180 0 156 (dk_at dksX9_names_1 0 rfl rfl)
theorem dX9_names_27 : decode cX9_names 27 = .ok (.getfield 205, 3) := dk_180 0 205 (dk_at dksX9_names_1 3 rfl rfl)
theorem dX9_names_30 : decode cX9_names 30 = .ok (.iload_n 3, 1) := dk_29 (dk_at dksX9_names_1 6 rfl rfl)
theorem dX9_names_31 : decode cX9_names 31 = .ok (.iastore, 1) := dk_79 (dk_at dksX9_names_1 7 rfl rfl)
theorem dX9_names_32 : decode cX9_names 32 = .ok (.aload_n 0, 1) := dk_42 (dk_at dksX9_names_1 8 rfl rfl)
theorem dX9_names_33 : decode cX9_names 33 = .ok (.getfield 156, 3) := dk_180 0 156 (dk_at dksX9_names_1 9 rfl rfl)
theorem dX9_names_36 : decode cX9_names 36 = .ok (.getfield 211, 3) := dk_180 0 211 (dk_at dksX9_names_1 12 rfl rfl)
theorem dX9_names_39 : decode cX9_names 39 = .ok (.aload_n 0, 1) := dk_42 (dk_at dksX9_names_1 15 rfl rfl)
theorem dX9_names_40 : decode cX9_names 40 = .ok (.getfield 156, 3) := dk_180 0 156 (dk_at dksX9_names_1 16 rfl rfl)
theorem dX9_names_43 : decode cX9_names 43 = .ok (.getfield 205, 3) := dk_180 0 205 (dk_at dksX9_names_1 19 rfl rfl)
theorem dX9_names_46 : decode cX9_names 46 = .ok (.iload 4, 2) := dk_21 4 (dk_at dksX9_names_1 22 rfl rfl)
theorem dX9_names_48 : decode cX9_names 48 = .ok (.iastore, 1) := dk_79 (dk_at dksX9_names_2 0 rfl rfl)
theorem dX9_names_49 : decode cX9_names 49 = .ok (.aload_n 0, 1) := dk_42 (dk_at dksX9_names_2 1 rfl rfl)
theorem dX9_names_50 : decode cX9_names 50 = .ok (.getfield 156, 3) := dk_180 0 156 (dk_at dksX9_names_2 2 rfl rfl)
theorem dX9_names_53 : decode cX9_names 53 = .ok (.dup, 1) := dk_89 (dk_at dksX9_names_2 5 rfl rfl)
theorem dX9_names_54 : decode cX9_names 54 = .ok (.getfield 205, 3) := dk_180 0 205 (dk_at dksX9_names_2 6 rfl rfl)
theorem dX9_names_57 : decode cX9_names 57 = .ok (.iconst 1, 1) := dk_4 (dk_at dksX9_names_2 9 rfl rfl)
theorem dX9_names_58 : decode cX9_names 58 = .ok (.iadd, 1) := dk_96 (dk_at dksX9_names_2 10 rfl rfl)
theorem dX9_names_59 : decode cX9_names 59 = .ok (.putfield 205, 3) := dk_181 0 205 (dk_at dksX9_names_2 11 rfl rfl)
theorem dX9_names_62 : decode cX9_names 62 = .ok (.return_, 1) := dk_177 (dk_at dksX9_names_2 14 rfl rfl)
abbrev cX9_readHouse : ByteArray := prog_20_method_36_code
def yX9_readHouse : MethodName := ⟨RX9, "readHouse", "()V"⟩
def dkwX9_readHouse_9 : List UInt8 := [180, 0, 156, 89, 180, 0, 229, 4, 96, 181, 0, 229, 177]
abbrev dktX9_readHouse_9 : List UInt8 := dkwX9_readHouse_9 ++ []
def dkwX9_readHouse_8 : List UInt8 := [21, 7, 96, 21, 5, 79, 42, 180, 0, 156, 180, 1, 89, 16, 8, 21, 7, 96, 21, 6, 79, 42]
abbrev dktX9_readHouse_8 : List UInt8 := dkwX9_readHouse_8 ++ dktX9_readHouse_9
def dkwX9_readHouse_7 : List UInt8 := [21, 7, 29, 79, 42, 180, 0, 156, 180, 1, 108, 21, 7, 21, 4, 79, 42, 180, 0, 156, 180, 1, 89, 7]
abbrev dktX9_readHouse_7 : List UInt8 := dkwX9_readHouse_7 ++ dktX9_readHouse_8
def dkwX9_readHouse_6 : List UInt8 := [42, 180, 0, 156, 180, 0, 229, 54, 7, 42, 31, 4, 21, 7, 182, 1, 73, 42, 180, 0, 156, 180, 1, 105]
abbrev dktX9_readHouse_6 : List UInt8 := dkwX9_readHouse_6 ++ dktX9_readHouse_7
def dkwX9_readHouse_5 : List UInt8 := [54, 5, 42, 19, 1, 103, 3, 17, 3, 231, 182, 1, 8, 54, 6, 42, 180, 0, 91, 8, 160, 0, 4, 177]
abbrev dktX9_readHouse_5 : List UInt8 := dkwX9_readHouse_5 ++ dktX9_readHouse_6
def dkwX9_readHouse_4 : List UInt8 := [42, 19, 1, 96, 182, 0, 149, 42, 3, 182, 1, 98, 54, 4, 42, 19, 1, 101, 3, 16, 99, 182, 1, 8]
abbrev dktX9_readHouse_4 : List UInt8 := dkwX9_readHouse_4 ++ dktX9_readHouse_5
def dkwX9_readHouse_3 : List UInt8 := [42, 180, 0, 156, 180, 0, 160, 108, 184, 1, 92, 153, 0, 9, 42, 16, 7, 182, 0, 137, 42, 182, 0, 130]
abbrev dktX9_readHouse_3 : List UInt8 := dkwX9_readHouse_3 ++ dktX9_readHouse_4
def dkwX9_readHouse_2 : List UInt8 := [154, 0, 38, 42, 180, 0, 156, 42, 180, 0, 156, 180, 1, 89, 29, 42, 180, 0, 156, 180, 0, 160, 112, 29]
abbrev dktX9_readHouse_2 : List UInt8 := dkwX9_readHouse_2 ++ dktX9_readHouse_3
def dkwX9_readHouse_1 : List UInt8 := [42, 182, 1, 49, 62, 42, 180, 0, 91, 8, 159, 0, 56, 42, 180, 0, 156, 180, 1, 52, 29, 51]
abbrev dktX9_readHouse_1 : List UInt8 := dkwX9_readHouse_1 ++ dktX9_readHouse_2
def dkwX9_readHouse_0 : List UInt8 := [42, 42, 180, 0, 156, 180, 0, 229, 7, 182, 1, 30, 42, 182, 1, 55, 64, 42, 19, 1, 87, 182, 0, 149]
abbrev dktX9_readHouse_0 : List UInt8 := dkwX9_readHouse_0 ++ dktX9_readHouse_1
theorem dksX9_readHouse_0 : cX9_readHouse.data.toList.drop 0 = dktX9_readHouse_0 := by decide +kernel
theorem dksX9_readHouse_1 : cX9_readHouse.data.toList.drop 24 = dktX9_readHouse_1 := dk_seg dksX9_readHouse_0 24 rfl rfl
theorem dksX9_readHouse_2 : cX9_readHouse.data.toList.drop 46 = dktX9_readHouse_2 := dk_seg dksX9_readHouse_1 22 rfl rfl
theorem dksX9_readHouse_3 : cX9_readHouse.data.toList.drop 70 = dktX9_readHouse_3 := dk_seg dksX9_readHouse_2 24 rfl rfl
theorem dksX9_readHouse_4 : cX9_readHouse.data.toList.drop 94 = dktX9_readHouse_4 := dk_seg dksX9_readHouse_3 24 rfl rfl
theorem dksX9_readHouse_5 : cX9_readHouse.data.toList.drop 118 = dktX9_readHouse_5 := dk_seg dksX9_readHouse_4 24 rfl rfl
theorem dksX9_readHouse_6 : cX9_readHouse.data.toList.drop 142 = dktX9_readHouse_6 := dk_seg dksX9_readHouse_5 24 rfl rfl
theorem dksX9_readHouse_7 : cX9_readHouse.data.toList.drop 166 = dktX9_readHouse_7 := dk_seg dksX9_readHouse_6 24 rfl rfl
theorem dksX9_readHouse_8 : cX9_readHouse.data.toList.drop 190 = dktX9_readHouse_8 := dk_seg dksX9_readHouse_7 24 rfl rfl
theorem dksX9_readHouse_9 : cX9_readHouse.data.toList.drop 212 = dktX9_readHouse_9 := dk_seg dksX9_readHouse_8 22 rfl rfl
theorem dX9_readHouse_0 : decode cX9_readHouse 0 = .ok (.aload_n 0, 1) := dk_42 (dk_at dksX9_readHouse_0 0 rfl rfl)
theorem dX9_readHouse_1 : decode cX9_readHouse 1 = .ok (.aload_n 0, 1) := dk_42 (dk_at dksX9_readHouse_0 1 rfl rfl)
theorem dX9_readHouse_2 : decode cX9_readHouse 2 = .ok (.getfield 156, 3) := dk_180 0 156 (dk_at dksX9_readHouse_0 2 rfl rfl)
theorem dX9_readHouse_5 : decode cX9_readHouse 5 = .ok (.getfield 229, 3) := dk_180 0 229 (dk_at dksX9_readHouse_0 5 rfl rfl)
theorem dX9_readHouse_8 : decode cX9_readHouse 8 = .ok (.iconst 4, 1) := dk_7 (dk_at dksX9_readHouse_0 8 rfl rfl)
theorem dX9_readHouse_9 : decode cX9_readHouse 9 = .ok (.invokevirtual 286, 3) := dk_182 1 30 (dk_at dksX9_readHouse_0 9 rfl rfl)
theorem dX9_readHouse_12 : decode cX9_readHouse 12 = .ok (.aload_n 0, 1) := dk_42 (dk_at dksX9_readHouse_0 12 rfl rfl)
theorem dX9_readHouse_13 : decode cX9_readHouse 13 = .ok (.invokevirtual 311, 3) := dk_182 1 55 (dk_at dksX9_readHouse_0 13 rfl rfl)
theorem dX9_readHouse_16 : decode cX9_readHouse 16 = .ok (.lstore_n 1, 1) := dk_64 (dk_at dksX9_readHouse_0 16 rfl rfl)
theorem dX9_readHouse_17 : decode cX9_readHouse 17 = .ok (.aload_n 0, 1) := dk_42 (dk_at dksX9_readHouse_0 17 rfl rfl)
theorem dX9_readHouse_18 : decode cX9_readHouse 18 = .ok (.ldc_w 343, 3) := dk_19 1 87 (dk_at dksX9_readHouse_0 18 rfl rfl)
theorem dX9_readHouse_21 : decode cX9_readHouse 21 = .ok (.invokevirtual 149, 3) := dk_182 0 149 (dk_at dksX9_readHouse_0 21 rfl rfl)
theorem dX9_readHouse_24 : decode cX9_readHouse 24 = .ok (.aload_n 0, 1) := dk_42 (dk_at dksX9_readHouse_1 0 rfl rfl)
theorem dX9_readHouse_25 : decode cX9_readHouse 25 = .ok (.invokevirtual 305, 3) := dk_182 1 49 (dk_at dksX9_readHouse_1 1 rfl rfl)
theorem dX9_readHouse_28 : decode cX9_readHouse 28 = .ok (.istore_n 3, 1) := dk_62 (dk_at dksX9_readHouse_1 4 rfl rfl)
theorem dX9_readHouse_29 : decode cX9_readHouse 29 = .ok (.aload_n 0, 1) := dk_42 (dk_at dksX9_readHouse_1 5 rfl rfl)
theorem dX9_readHouse_30 : decode cX9_readHouse 30 = .ok (.getfield 91, 3) := dk_180 0 91 (dk_at dksX9_readHouse_1 6 rfl rfl)
theorem dX9_readHouse_33 : decode cX9_readHouse 33 = .ok (.iconst 5, 1) := dk_8 (dk_at dksX9_readHouse_1 9 rfl rfl)
theorem dX9_readHouse_34 : decode cX9_readHouse 34 = .ok (.if_icmp .eq 56, 3) := dk_159 0 56 (dk_at dksX9_readHouse_1 10 rfl rfl)
theorem dX9_readHouse_37 : decode cX9_readHouse 37 = .ok (.aload_n 0, 1) := dk_42 (dk_at dksX9_readHouse_1 13 rfl rfl)
theorem dX9_readHouse_38 : decode cX9_readHouse 38 = .ok (.getfield 156, 3) := dk_180 0 156 (dk_at dksX9_readHouse_1 14 rfl rfl)
theorem dX9_readHouse_41 : decode cX9_readHouse 41 = .ok (.getfield 308, 3) := dk_180 1 52 (dk_at dksX9_readHouse_1 17 rfl rfl)
theorem dX9_readHouse_44 : decode cX9_readHouse 44 = .ok (.iload_n 3, 1) := dk_29 (dk_at dksX9_readHouse_1 20 rfl rfl)
theorem dX9_readHouse_45 : decode cX9_readHouse 45 = .ok (.baload, 1) := dk_51 (dk_at dksX9_readHouse_1 21 rfl rfl)
theorem dX9_readHouse_46 : decode cX9_readHouse 46 = .ok (.ifCond .ne 38, 3) := dk_154 0 38 (dk_at dksX9_readHouse_2 0 rfl rfl)
theorem dX9_readHouse_49 : decode cX9_readHouse 49 = .ok (.aload_n 0, 1) := dk_42 (dk_at dksX9_readHouse_2 3 rfl rfl)
theorem dX9_readHouse_50 : decode cX9_readHouse 50 = .ok (.getfield 156, 3) := dk_180 0 156 (dk_at dksX9_readHouse_2 4 rfl rfl)
theorem dX9_readHouse_53 : decode cX9_readHouse 53 = .ok (.aload_n 0, 1) := dk_42 (dk_at dksX9_readHouse_2 7 rfl rfl)
theorem dX9_readHouse_54 : decode cX9_readHouse 54 = .ok (.getfield 156, 3) := dk_180 0 156 (dk_at dksX9_readHouse_2 8 rfl rfl)
theorem dX9_readHouse_57 : decode cX9_readHouse 57 = .ok (.getfield 345, 3) := dk_180 1 89 (dk_at dksX9_readHouse_2 11 rfl rfl)
theorem dX9_readHouse_60 : decode cX9_readHouse 60 = .ok (.iload_n 3, 1) := dk_29 (dk_at dksX9_readHouse_2 14 rfl rfl)
theorem dX9_readHouse_61 : decode cX9_readHouse 61 = .ok (.aload_n 0, 1) := dk_42 (dk_at dksX9_readHouse_2 15 rfl rfl)
theorem dX9_readHouse_62 : decode cX9_readHouse 62 = .ok (.getfield 156, 3) := dk_180 0 156 (dk_at dksX9_readHouse_2 16 rfl rfl)
theorem dX9_readHouse_65 : decode cX9_readHouse 65 = .ok (.getfield 160, 3) := dk_180 0 160 (dk_at dksX9_readHouse_2 19 rfl rfl)
theorem dX9_readHouse_68 : decode cX9_readHouse 68 = .ok (.irem, 1) := dk_112 (dk_at dksX9_readHouse_2 22 rfl rfl)
theorem dX9_readHouse_69 : decode cX9_readHouse 69 = .ok (.iload_n 3, 1) := dk_29 (dk_at dksX9_readHouse_2 23 rfl rfl)
theorem dX9_readHouse_70 : decode cX9_readHouse 70 = .ok (.aload_n 0, 1) := dk_42 (dk_at dksX9_readHouse_3 0 rfl rfl)
theorem dX9_readHouse_71 : decode cX9_readHouse 71 = .ok (.getfield 156, 3) := dk_180 0 156 (dk_at dksX9_readHouse_3 1 rfl rfl)
theorem dX9_readHouse_74 : decode cX9_readHouse 74 = .ok (.getfield 160, 3) := dk_180 0 160 (dk_at dksX9_readHouse_3 4 rfl rfl)
theorem dX9_readHouse_77 : decode cX9_readHouse 77 = .ok (.idiv, 1) := dk_108 (dk_at dksX9_readHouse_3 7 rfl rfl)
theorem dX9_readHouse_78 : decode cX9_readHouse 78 = .ok (.invokestatic 348, 3) := dk_184 1 92 (dk_at dksX9_readHouse_3 8 rfl rfl)
theorem dX9_readHouse_81 : decode cX9_readHouse 81 = .ok (.ifCond .eq 9, 3) := dk_153 0 9 (dk_at dksX9_readHouse_3 11 rfl rfl)
theorem dX9_readHouse_84 : decode cX9_readHouse 84 = .ok (.aload_n 0, 1) := dk_42 (dk_at dksX9_readHouse_3 14 rfl rfl)
theorem dX9_readHouse_85 : decode cX9_readHouse 85 = .ok (.bipush 7, 2) := dk_16 7 (dk_at dksX9_readHouse_3 15 rfl rfl)
theorem dX9_readHouse_87 : decode cX9_readHouse 87 = .ok (.invokevirtual 137, 3) := dk_182 0 137 (dk_at dksX9_readHouse_3 17 rfl rfl)
theorem dX9_readHouse_90 : decode cX9_readHouse 90 = .ok (.aload_n 0, 1) := dk_42 (dk_at dksX9_readHouse_3 20 rfl rfl)
theorem dX9_readHouse_91 : decode cX9_readHouse 91 = .ok (.invokevirtual 130, 3) := dk_182 0 130 (dk_at dksX9_readHouse_3 21 rfl rfl)
theorem dX9_readHouse_94 : decode cX9_readHouse 94 = .ok (.aload_n 0, 1) := dk_42 (dk_at dksX9_readHouse_4 0 rfl rfl)
theorem dX9_readHouse_95 : decode cX9_readHouse 95 = .ok (.ldc_w 352, 3) := dk_19 1 96 (dk_at dksX9_readHouse_4 1 rfl rfl)
theorem dX9_readHouse_98 : decode cX9_readHouse 98 = .ok (.invokevirtual 149, 3) := dk_182 0 149 (dk_at dksX9_readHouse_4 4 rfl rfl)
theorem dX9_readHouse_101 : decode cX9_readHouse 101 = .ok (.aload_n 0, 1) := dk_42 (dk_at dksX9_readHouse_4 7 rfl rfl)
theorem dX9_readHouse_102 : decode cX9_readHouse 102 = .ok (.iconst 0, 1) := dk_3 (dk_at dksX9_readHouse_4 8 rfl rfl)
theorem dX9_readHouse_103 : decode cX9_readHouse 103 = .ok (.invokevirtual 354, 3) := dk_182 1 98 (dk_at dksX9_readHouse_4 9 rfl rfl)
theorem dX9_readHouse_106 : decode cX9_readHouse 106 = .ok (.istore 4, 2) := dk_54 4 (dk_at dksX9_readHouse_4 12 rfl rfl)
theorem dX9_readHouse_108 : decode cX9_readHouse 108 = .ok (.aload_n 0, 1) := dk_42 (dk_at dksX9_readHouse_4 14 rfl rfl)
theorem dX9_readHouse_109 : decode cX9_readHouse 109 = .ok (.ldc_w 357, 3) := dk_19 1 101 (dk_at dksX9_readHouse_4 15 rfl rfl)
theorem dX9_readHouse_112 : decode cX9_readHouse 112 = .ok (.iconst 0, 1) := dk_3 (dk_at dksX9_readHouse_4 18 rfl rfl)
theorem dX9_readHouse_113 : decode cX9_readHouse 113 = .ok (.bipush 99, 2) := dk_16 99 (dk_at dksX9_readHouse_4 19 rfl rfl)
theorem dX9_readHouse_115 : decode cX9_readHouse 115 = .ok (.invokevirtual 264, 3) := dk_182 1 8 (dk_at dksX9_readHouse_4 21 rfl rfl)
theorem dX9_readHouse_118 : decode cX9_readHouse 118 = .ok (.istore 5, 2) := dk_54 5 (dk_at dksX9_readHouse_5 0 rfl rfl)
theorem dX9_readHouse_120 : decode cX9_readHouse 120 = .ok (.aload_n 0, 1) := dk_42 (dk_at dksX9_readHouse_5 2 rfl rfl)
theorem dX9_readHouse_121 : decode cX9_readHouse 121 = .ok (.ldc_w 359, 3) := dk_19 1 103 (dk_at dksX9_readHouse_5 3 rfl rfl)
theorem dX9_readHouse_124 : decode cX9_readHouse 124 = .ok (.iconst 0, 1) := dk_3 (dk_at dksX9_readHouse_5 6 rfl rfl)
theorem dX9_readHouse_125 : decode cX9_readHouse 125 = .ok (.sipush 999, 3) := dk_17 3 231 (dk_at dksX9_readHouse_5 7 rfl rfl)
theorem dX9_readHouse_128 : decode cX9_readHouse 128 = .ok (.invokevirtual 264, 3) := dk_182 1 8 (dk_at dksX9_readHouse_5 10 rfl rfl)
theorem dX9_readHouse_131 : decode cX9_readHouse 131 = .ok (.istore 6, 2) := dk_54 6 (dk_at dksX9_readHouse_5 13 rfl rfl)
theorem dX9_readHouse_133 : decode cX9_readHouse 133 = .ok (.aload_n 0, 1) := dk_42 (dk_at dksX9_readHouse_5 15 rfl rfl)
theorem dX9_readHouse_134 : decode cX9_readHouse 134 = .ok (.getfield 91, 3) := dk_180 0 91 (dk_at dksX9_readHouse_5 16 rfl rfl)
theorem dX9_readHouse_137 : decode cX9_readHouse 137 = .ok (.iconst 5, 1) := dk_8 (dk_at dksX9_readHouse_5 19 rfl rfl)
theorem dX9_readHouse_138 : decode cX9_readHouse 138 = .ok (.if_icmp .ne 4, 3) := dk_160 0 4 (dk_at dksX9_readHouse_5 20 rfl rfl)
theorem dX9_readHouse_141 : decode cX9_readHouse 141 = .ok (.return_, 1) := dk_177 (dk_at dksX9_readHouse_5 23 rfl rfl)
theorem dX9_readHouse_142 : decode cX9_readHouse 142 = .ok (.aload_n 0, 1) := dk_42 (dk_at dksX9_readHouse_6 0 rfl rfl)
theorem dX9_readHouse_143 : decode cX9_readHouse 143 = .ok (.getfield 156, 3) := dk_180 0 156 (dk_at dksX9_readHouse_6 1 rfl rfl)
theorem dX9_readHouse_146 : decode cX9_readHouse 146 = .ok (.getfield 229, 3) := dk_180 0 229 (dk_at dksX9_readHouse_6 4 rfl rfl)
theorem dX9_readHouse_149 : decode cX9_readHouse 149 = .ok (.istore 7, 2) := dk_54 7 (dk_at dksX9_readHouse_6 7 rfl rfl)
theorem dX9_readHouse_151 : decode cX9_readHouse 151 = .ok (.aload_n 0, 1) := dk_42 (dk_at dksX9_readHouse_6 9 rfl rfl)
theorem dX9_readHouse_152 : decode cX9_readHouse 152 = .ok (.lload_n 1, 1) := dk_31 (dk_at dksX9_readHouse_6 10 rfl rfl)
theorem dX9_readHouse_153 : decode cX9_readHouse 153 = .ok (.iconst 1, 1) := dk_4 (dk_at dksX9_readHouse_6 11 rfl rfl)
theorem dX9_readHouse_154 : decode cX9_readHouse 154 = .ok (.iload 7, 2) := dk_21 7 (dk_at dksX9_readHouse_6 12 rfl rfl)
theorem dX9_readHouse_156 : decode cX9_readHouse 156 = .ok (.invokevirtual 329, 3) := dk_182 1 73 (dk_at dksX9_readHouse_6 14 rfl rfl)
theorem dX9_readHouse_159 : decode cX9_readHouse 159 = .ok (.aload_n 0, 1) := dk_42 (dk_at dksX9_readHouse_6 17 rfl rfl)
theorem dX9_readHouse_160 : decode cX9_readHouse 160 = .ok (.getfield 156, 3) := dk_180 0 156 (dk_at dksX9_readHouse_6 18 rfl rfl)
theorem dX9_readHouse_163 : decode cX9_readHouse 163 = .ok (.getfield 361, 3) := dk_180 1 105 (dk_at dksX9_readHouse_6 21 rfl rfl)
theorem dX9_readHouse_166 : decode cX9_readHouse 166 = .ok (.iload 7, 2) := dk_21 7 (dk_at dksX9_readHouse_7 0 rfl rfl)
theorem dX9_readHouse_168 : decode cX9_readHouse 168 = .ok (.iload_n 3, 1) := dk_29 (dk_at dksX9_readHouse_7 2 rfl rfl)
theorem dX9_readHouse_169 : decode cX9_readHouse 169 = .ok (.iastore, 1) := dk_79 (dk_at dksX9_readHouse_7 3 rfl rfl)
theorem dX9_readHouse_170 : decode cX9_readHouse 170 = .ok (.aload_n 0, 1) := dk_42 (dk_at dksX9_readHouse_7 4 rfl rfl)
theorem dX9_readHouse_171 : decode cX9_readHouse 171 = .ok (.getfield 156, 3) := dk_180 0 156 (dk_at dksX9_readHouse_7 5 rfl rfl)
theorem dX9_readHouse_174 : decode cX9_readHouse 174 = .ok (.getfield 364, 3) := dk_180 1 108 (dk_at dksX9_readHouse_7 8 rfl rfl)
theorem dX9_readHouse_177 : decode cX9_readHouse 177 = .ok (.iload 7, 2) := dk_21 7 (dk_at dksX9_readHouse_7 11 rfl rfl)
theorem dX9_readHouse_179 : decode cX9_readHouse 179 = .ok (.iload 4, 2) := dk_21 4 (dk_at dksX9_readHouse_7 13 rfl rfl)
theorem dX9_readHouse_181 : decode cX9_readHouse 181 = .ok (.iastore, 1) := dk_79 (dk_at dksX9_readHouse_7 15 rfl rfl)
theorem dX9_readHouse_182 : decode cX9_readHouse 182 = .ok (.aload_n 0, 1) := dk_42 (dk_at dksX9_readHouse_7 16 rfl rfl)
theorem dX9_readHouse_183 : decode cX9_readHouse 183 = .ok (.getfield 156, 3) := dk_180 0 156 (dk_at dksX9_readHouse_7 17 rfl rfl)
theorem dX9_readHouse_186 : decode cX9_readHouse 186 = .ok (.getfield 345, 3) := dk_180 1 89 (dk_at dksX9_readHouse_7 20 rfl rfl)
theorem dX9_readHouse_189 : decode cX9_readHouse 189 = .ok (.iconst 4, 1) := dk_7 (dk_at dksX9_readHouse_7 23 rfl rfl)
theorem dX9_readHouse_190 : decode cX9_readHouse 190 = .ok (.iload 7, 2) := dk_21 7 (dk_at dksX9_readHouse_8 0 rfl rfl)
theorem dX9_readHouse_192 : decode cX9_readHouse 192 = .ok (.iadd, 1) := dk_96 (dk_at dksX9_readHouse_8 2 rfl rfl)
theorem dX9_readHouse_193 : decode cX9_readHouse 193 = .ok (.iload 5, 2) := dk_21 5 (dk_at dksX9_readHouse_8 3 rfl rfl)
theorem dX9_readHouse_195 : decode cX9_readHouse 195 = .ok (.iastore, 1) := dk_79 (dk_at dksX9_readHouse_8 5 rfl rfl)
theorem dX9_readHouse_196 : decode cX9_readHouse 196 = .ok (.aload_n 0, 1) := dk_42 (dk_at dksX9_readHouse_8 6 rfl rfl)
theorem dX9_readHouse_197 : decode cX9_readHouse 197 = .ok (.getfield 156, 3) := dk_180 0 156 (dk_at dksX9_readHouse_8 7 rfl rfl)
theorem dX9_readHouse_200 : decode cX9_readHouse 200 = .ok (.getfield 345, 3) := dk_180 1 89 (dk_at dksX9_readHouse_8 10 rfl rfl)
theorem dX9_readHouse_203 : decode cX9_readHouse 203 = .ok (.bipush 8, 2) := dk_16 8 (dk_at dksX9_readHouse_8 13 rfl rfl)
theorem dX9_readHouse_205 : decode cX9_readHouse 205 = .ok (.iload 7, 2) := dk_21 7 (dk_at dksX9_readHouse_8 15 rfl rfl)
theorem dX9_readHouse_207 : decode cX9_readHouse 207 = .ok (.iadd, 1) := dk_96 (dk_at dksX9_readHouse_8 17 rfl rfl)
theorem dX9_readHouse_208 : decode cX9_readHouse 208 = .ok (.iload 6, 2) := dk_21 6 (dk_at dksX9_readHouse_8 18 rfl rfl)
theorem dX9_readHouse_210 : decode cX9_readHouse 210 = .ok (.iastore, 1) := dk_79 (dk_at dksX9_readHouse_8 20 rfl rfl)
theorem dX9_readHouse_211 : decode cX9_readHouse 211 = .ok (.aload_n 0, 1) := dk_42 (dk_at dksX9_readHouse_8 21 rfl rfl)
theorem dX9_readHouse_212 : decode cX9_readHouse 212 = .ok (.getfield 156, 3) := dk_180 0 156 (dk_at dksX9_readHouse_9 0 rfl rfl)
theorem dX9_readHouse_215 : decode cX9_readHouse 215 = .ok (.dup, 1) := dk_89 (dk_at dksX9_readHouse_9 3 rfl rfl)
theorem dX9_readHouse_216 : decode cX9_readHouse 216 = .ok (.getfield 229, 3) := dk_180 0 229 (dk_at dksX9_readHouse_9 4 rfl rfl)
theorem dX9_readHouse_219 : decode cX9_readHouse 219 = .ok (.iconst 1, 1) := dk_4 (dk_at dksX9_readHouse_9 7 rfl rfl)
theorem dX9_readHouse_220 : decode cX9_readHouse 220 = .ok (.iadd, 1) := dk_96 (dk_at dksX9_readHouse_9 8 rfl rfl)
theorem dX9_readHouse_221 : decode cX9_readHouse 221 = .ok (.putfield 229, 3) := dk_181 0 229 (dk_at dksX9_readHouse_9 9 rfl rfl)
theorem dX9_readHouse_224 : decode cX9_readHouse 224 = .ok (.return_, 1) := dk_177 (dk_at dksX9_readHouse_9 12 rfl rfl)
abbrev cX9_ownersOf : ByteArray := prog_20_method_49_code
def yX9_ownersOf : MethodName := ⟨RX9, "ownersOf", "(LYearSkinsModel$Land;[III)I"⟩
def dkwX9_ownersOf_2 : List UInt8 := [132, 5, 1, 167, 255, 214, 21, 4, 172]
abbrev dktX9_ownersOf_2 : List UInt8 := dkwX9_ownersOf_2 ++ []
def dkwX9_ownersOf_1 : List UInt8 := [182, 1, 173, 43, 3, 21, 5, 96, 46, 163, 0, 10, 4, 21, 5, 120, 167, 0, 4, 3, 128, 54, 4]
abbrev dktX9_ownersOf_1 : List UInt8 := dkwX9_ownersOf_1 ++ dktX9_ownersOf_2
def dkwX9_ownersOf_0 : List UInt8 := [3, 54, 4, 3, 54, 5, 21, 5, 42, 180, 0, 229, 162, 0, 39, 21, 4, 42, 21, 5, 28, 29]
abbrev dktX9_ownersOf_0 : List UInt8 := dkwX9_ownersOf_0 ++ dktX9_ownersOf_1
theorem dksX9_ownersOf_0 : cX9_ownersOf.data.toList.drop 0 = dktX9_ownersOf_0 := by decide +kernel
theorem dksX9_ownersOf_1 : cX9_ownersOf.data.toList.drop 22 = dktX9_ownersOf_1 := dk_seg dksX9_ownersOf_0 22 rfl rfl
theorem dksX9_ownersOf_2 : cX9_ownersOf.data.toList.drop 45 = dktX9_ownersOf_2 := dk_seg dksX9_ownersOf_1 23 rfl rfl
theorem dX9_ownersOf_0 : decode cX9_ownersOf 0 = .ok (.iconst 0, 1) := dk_3 (dk_at dksX9_ownersOf_0 0 rfl rfl)
theorem dX9_ownersOf_1 : decode cX9_ownersOf 1 = .ok (.istore 4, 2) := dk_54 4 (dk_at dksX9_ownersOf_0 1 rfl rfl)
theorem dX9_ownersOf_3 : decode cX9_ownersOf 3 = .ok (.iconst 0, 1) := dk_3 (dk_at dksX9_ownersOf_0 3 rfl rfl)
theorem dX9_ownersOf_4 : decode cX9_ownersOf 4 = .ok (.istore 5, 2) := dk_54 5 (dk_at dksX9_ownersOf_0 4 rfl rfl)
theorem dX9_ownersOf_6 : decode cX9_ownersOf 6 = .ok (.iload 5, 2) := dk_21 5 (dk_at dksX9_ownersOf_0 6 rfl rfl)
theorem dX9_ownersOf_8 : decode cX9_ownersOf 8 = .ok (.aload_n 0, 1) := dk_42 (dk_at dksX9_ownersOf_0 8 rfl rfl)
theorem dX9_ownersOf_9 : decode cX9_ownersOf 9 = .ok (.getfield 229, 3) := dk_180 0 229 (dk_at dksX9_ownersOf_0 9 rfl rfl)
theorem dX9_ownersOf_12 : decode cX9_ownersOf 12 = .ok (.if_icmp .ge 39, 3) := dk_162 0 39 (dk_at dksX9_ownersOf_0 12 rfl rfl)
theorem dX9_ownersOf_15 : decode cX9_ownersOf 15 = .ok (.iload 4, 2) := dk_21 4 (dk_at dksX9_ownersOf_0 15 rfl rfl)
theorem dX9_ownersOf_17 : decode cX9_ownersOf 17 = .ok (.aload_n 0, 1) := dk_42 (dk_at dksX9_ownersOf_0 17 rfl rfl)
theorem dX9_ownersOf_18 : decode cX9_ownersOf 18 = .ok (.iload 5, 2) := dk_21 5 (dk_at dksX9_ownersOf_0 18 rfl rfl)
theorem dX9_ownersOf_20 : decode cX9_ownersOf 20 = .ok (.iload_n 2, 1) := dk_28 (dk_at dksX9_ownersOf_0 20 rfl rfl)
theorem dX9_ownersOf_21 : decode cX9_ownersOf 21 = .ok (.iload_n 3, 1) := dk_29 (dk_at dksX9_ownersOf_0 21 rfl rfl)
theorem dX9_ownersOf_22 : decode cX9_ownersOf 22 = .ok (.invokevirtual 429, 3) := dk_182 1 173 (dk_at dksX9_ownersOf_1 0 rfl rfl)
theorem dX9_ownersOf_25 : decode cX9_ownersOf 25 = .ok (.aload_n 1, 1) := dk_43 (dk_at dksX9_ownersOf_1 3 rfl rfl)
theorem dX9_ownersOf_26 : decode cX9_ownersOf 26 = .ok (.iconst 0, 1) := dk_3 (dk_at dksX9_ownersOf_1 4 rfl rfl)
theorem dX9_ownersOf_27 : decode cX9_ownersOf 27 = .ok (.iload 5, 2) := dk_21 5 (dk_at dksX9_ownersOf_1 5 rfl rfl)
theorem dX9_ownersOf_29 : decode cX9_ownersOf 29 = .ok (.iadd, 1) := dk_96 (dk_at dksX9_ownersOf_1 7 rfl rfl)
theorem dX9_ownersOf_30 : decode cX9_ownersOf 30 = .ok (.iaload, 1) := dk_46 (dk_at dksX9_ownersOf_1 8 rfl rfl)
theorem dX9_ownersOf_31 : decode cX9_ownersOf 31 = .ok (.if_icmp .gt 10, 3) := dk_163 0 10 (dk_at dksX9_ownersOf_1 9 rfl rfl)
theorem dX9_ownersOf_34 : decode cX9_ownersOf 34 = .ok (.iconst 1, 1) := dk_4 (dk_at dksX9_ownersOf_1 12 rfl rfl)
theorem dX9_ownersOf_35 : decode cX9_ownersOf 35 = .ok (.iload 5, 2) := dk_21 5 (dk_at dksX9_ownersOf_1 13 rfl rfl)
theorem dX9_ownersOf_37 : decode cX9_ownersOf 37 = .ok (.ishl, 1) := dk_120 (dk_at dksX9_ownersOf_1 15 rfl rfl)
theorem dX9_ownersOf_38 : decode cX9_ownersOf 38 = .ok (.goto 4, 3) := dk_167 0 4 (dk_at dksX9_ownersOf_1 16 rfl rfl)
theorem dX9_ownersOf_41 : decode cX9_ownersOf 41 = .ok (.iconst 0, 1) := dk_3 (dk_at dksX9_ownersOf_1 19 rfl rfl)
theorem dX9_ownersOf_42 : decode cX9_ownersOf 42 = .ok (.ior, 1) := dk_128 (dk_at dksX9_ownersOf_1 20 rfl rfl)
theorem dX9_ownersOf_43 : decode cX9_ownersOf 43 = .ok (.istore 4, 2) := dk_54 4 (dk_at dksX9_ownersOf_1 21 rfl rfl)
theorem dX9_ownersOf_45 : decode cX9_ownersOf 45 = .ok (.iinc 5 1, 3) := dk_132 5 1 (dk_at dksX9_ownersOf_2 0 rfl rfl)
theorem dX9_ownersOf_48 : decode cX9_ownersOf 48 = .ok (.goto (-42), 3) := dk_167 255 214 (dk_at dksX9_ownersOf_2 3 rfl rfl)
theorem dX9_ownersOf_51 : decode cX9_ownersOf 51 = .ok (.iload 4, 2) := dk_21 4 (dk_at dksX9_ownersOf_2 6 rfl rfl)
theorem dX9_ownersOf_53 : decode cX9_ownersOf 53 = .ok (.ireturn, 1) := dk_172 (dk_at dksX9_ownersOf_2 8 rfl rfl)
abbrev cX9_readKnown : ByteArray := prog_20_method_29_code
def yX9_readKnown : MethodName := ⟨RX9, "readKnown", "(I)I"⟩
def dkwX9_readKnown_0 : List UInt8 := [42, 27, 182, 0, 214, 61, 42, 182, 0, 130, 28, 172]
abbrev dktX9_readKnown_0 : List UInt8 := dkwX9_readKnown_0 ++ []
theorem dksX9_readKnown_0 : cX9_readKnown.data.toList.drop 0 = dktX9_readKnown_0 := by decide +kernel
theorem dX9_readKnown_0 : decode cX9_readKnown 0 = .ok (.aload_n 0, 1) := dk_42 (dk_at dksX9_readKnown_0 0 rfl rfl)
theorem dX9_readKnown_1 : decode cX9_readKnown 1 = .ok (.iload_n 1, 1) := dk_27 (dk_at dksX9_readKnown_0 1 rfl rfl)
theorem dX9_readKnown_2 : decode cX9_readKnown 2 = .ok (.invokevirtual 214, 3) := dk_182 0 214 (dk_at dksX9_readKnown_0 2 rfl rfl)
theorem dX9_readKnown_5 : decode cX9_readKnown 5 = .ok (.istore_n 2, 1) := dk_61 (dk_at dksX9_readKnown_0 5 rfl rfl)
theorem dX9_readKnown_6 : decode cX9_readKnown 6 = .ok (.aload_n 0, 1) := dk_42 (dk_at dksX9_readKnown_0 6 rfl rfl)
theorem dX9_readKnown_7 : decode cX9_readKnown 7 = .ok (.invokevirtual 130, 3) := dk_182 0 130 (dk_at dksX9_readKnown_0 7 rfl rfl)
theorem dX9_readKnown_10 : decode cX9_readKnown 10 = .ok (.iload_n 2, 1) := dk_28 (dk_at dksX9_readKnown_0 10 rfl rfl)
theorem dX9_readKnown_11 : decode cX9_readKnown 11 = .ok (.ireturn, 1) := dk_172 (dk_at dksX9_readKnown_0 11 rfl rfl)
abbrev cX9_known : ByteArray := prog_20_method_28_code
def yX9_known : MethodName := ⟨RX9, "known", "(I)I"⟩
def dkwX9_known_2 : List UInt8 := [180, 0, 91, 8, 160, 0, 7, 3, 167, 0, 12, 42, 180, 0, 156, 180, 0, 211, 28, 46, 172]
abbrev dktX9_known_2 : List UInt8 := dkwX9_known_2 ++ []
def dkwX9_known_1 : List UInt8 := [28, 2, 159, 0, 16, 42, 180, 0, 156, 180, 0, 208, 28, 46, 27, 159, 0, 8, 42, 5, 182, 0, 137, 42]
abbrev dktX9_known_1 : List UInt8 := dkwX9_known_1 ++ dktX9_known_2
def dkwX9_known_0 : List UInt8 := [42, 182, 0, 193, 154, 0, 8, 42, 4, 182, 0, 137, 42, 180, 0, 156, 42, 180, 0, 110, 182, 0, 197, 61]
abbrev dktX9_known_0 : List UInt8 := dkwX9_known_0 ++ dktX9_known_1
theorem dksX9_known_0 : cX9_known.data.toList.drop 0 = dktX9_known_0 := by decide +kernel
theorem dksX9_known_1 : cX9_known.data.toList.drop 24 = dktX9_known_1 := dk_seg dksX9_known_0 24 rfl rfl
theorem dksX9_known_2 : cX9_known.data.toList.drop 48 = dktX9_known_2 := dk_seg dksX9_known_1 24 rfl rfl
theorem dX9_known_0 : decode cX9_known 0 = .ok (.aload_n 0, 1) := dk_42 (dk_at dksX9_known_0 0 rfl rfl)
theorem dX9_known_1 : decode cX9_known 1 = .ok (.invokevirtual 193, 3) := dk_182 0 193 (dk_at dksX9_known_0 1 rfl rfl)
theorem dX9_known_4 : decode cX9_known 4 = .ok (.ifCond .ne 8, 3) := dk_154 0 8 (dk_at dksX9_known_0 4 rfl rfl)
theorem dX9_known_7 : decode cX9_known 7 = .ok (.aload_n 0, 1) := dk_42 (dk_at dksX9_known_0 7 rfl rfl)
theorem dX9_known_8 : decode cX9_known 8 = .ok (.iconst 1, 1) := dk_4 (dk_at dksX9_known_0 8 rfl rfl)
theorem dX9_known_9 : decode cX9_known 9 = .ok (.invokevirtual 137, 3) := dk_182 0 137 (dk_at dksX9_known_0 9 rfl rfl)
theorem dX9_known_12 : decode cX9_known 12 = .ok (.aload_n 0, 1) := dk_42 (dk_at dksX9_known_0 12 rfl rfl)
theorem dX9_known_13 : decode cX9_known 13 = .ok (.getfield 156, 3) := dk_180 0 156 (dk_at dksX9_known_0 13 rfl rfl)
theorem dX9_known_16 : decode cX9_known 16 = .ok (.aload_n 0, 1) := dk_42 (dk_at dksX9_known_0 16 rfl rfl)
theorem dX9_known_17 : decode cX9_known 17 = .ok (.getfield 110, 3) := dk_180 0 110 (dk_at dksX9_known_0 17 rfl rfl)
theorem dX9_known_20 : decode cX9_known 20 = .ok (.invokevirtual 197, 3) := dk_182 0 197 (dk_at dksX9_known_0 20 rfl rfl)
theorem dX9_known_23 : decode cX9_known 23 = .ok (.istore_n 2, 1) := dk_61 (dk_at dksX9_known_0 23 rfl rfl)
theorem dX9_known_24 : decode cX9_known 24 = .ok (.iload_n 2, 1) := dk_28 (dk_at dksX9_known_1 0 rfl rfl)
theorem dX9_known_25 : decode cX9_known 25 = .ok (.iconst (-1), 1) := dk_2 (dk_at dksX9_known_1 1 rfl rfl)
theorem dX9_known_26 : decode cX9_known 26 = .ok (.if_icmp .eq 16, 3) := dk_159 0 16 (dk_at dksX9_known_1 2 rfl rfl)
theorem dX9_known_29 : decode cX9_known 29 = .ok (.aload_n 0, 1) := dk_42 (dk_at dksX9_known_1 5 rfl rfl)
theorem dX9_known_30 : decode cX9_known 30 = .ok (.getfield 156, 3) := dk_180 0 156 (dk_at dksX9_known_1 6 rfl rfl)
theorem dX9_known_33 : decode cX9_known 33 = .ok (.getfield 208, 3) := dk_180 0 208 (dk_at dksX9_known_1 9 rfl rfl)
theorem dX9_known_36 : decode cX9_known 36 = .ok (.iload_n 2, 1) := dk_28 (dk_at dksX9_known_1 12 rfl rfl)
theorem dX9_known_37 : decode cX9_known 37 = .ok (.iaload, 1) := dk_46 (dk_at dksX9_known_1 13 rfl rfl)
theorem dX9_known_38 : decode cX9_known 38 = .ok (.iload_n 1, 1) := dk_27 (dk_at dksX9_known_1 14 rfl rfl)
theorem dX9_known_39 : decode cX9_known 39 = .ok (.if_icmp .eq 8, 3) := dk_159 0 8 (dk_at dksX9_known_1 15 rfl rfl)
theorem dX9_known_42 : decode cX9_known 42 = .ok (.aload_n 0, 1) := dk_42 (dk_at dksX9_known_1 18 rfl rfl)
theorem dX9_known_43 : decode cX9_known 43 = .ok (.iconst 2, 1) := dk_5 (dk_at dksX9_known_1 19 rfl rfl)
theorem dX9_known_44 : decode cX9_known 44 = .ok (.invokevirtual 137, 3) := dk_182 0 137 (dk_at dksX9_known_1 20 rfl rfl)
theorem dX9_known_47 : decode cX9_known 47 = .ok (.aload_n 0, 1) := dk_42 (dk_at dksX9_known_1 23 rfl rfl)
theorem dX9_known_48 : decode cX9_known 48 = .ok (.getfield 91, 3) := dk_180 0 91 (dk_at dksX9_known_2 0 rfl rfl)
theorem dX9_known_51 : decode cX9_known 51 = .ok (.iconst 5, 1) := dk_8 (dk_at dksX9_known_2 3 rfl rfl)
theorem dX9_known_52 : decode cX9_known 52 = .ok (.if_icmp .ne 7, 3) := dk_160 0 7 (dk_at dksX9_known_2 4 rfl rfl)
theorem dX9_known_55 : decode cX9_known 55 = .ok (.iconst 0, 1) := dk_3 (dk_at dksX9_known_2 7 rfl rfl)
theorem dX9_known_56 : decode cX9_known 56 = .ok (.goto 12, 3) := dk_167 0 12 (dk_at dksX9_known_2 8 rfl rfl)
theorem dX9_known_59 : decode cX9_known 59 = .ok (.aload_n 0, 1) := dk_42 (dk_at dksX9_known_2 11 rfl rfl)
theorem dX9_known_60 : decode cX9_known 60 = .ok (.getfield 156, 3) := dk_180 0 156 (dk_at dksX9_known_2 12 rfl rfl)
theorem dX9_known_63 : decode cX9_known 63 = .ok (.getfield 211, 3) := dk_180 0 211 (dk_at dksX9_known_2 15 rfl rfl)
theorem dX9_known_66 : decode cX9_known 66 = .ok (.iload_n 2, 1) := dk_28 (dk_at dksX9_known_2 18 rfl rfl)
theorem dX9_known_67 : decode cX9_known 67 = .ok (.iaload, 1) := dk_46 (dk_at dksX9_known_2 19 rfl rfl)
theorem dX9_known_68 : decode cX9_known 68 = .ok (.ireturn, 1) := dk_172 (dk_at dksX9_known_2 20 rfl rfl)
abbrev cX9_readSkin : ByteArray := prog_20_method_38_code
def yX9_readSkin : MethodName := ⟨RX9, "readSkin", "()V"⟩
def dkwX9_readSkin_6 : List UInt8 := [27, 28, 29, 21, 4, 21, 5, 16, 254, 184, 1, 128, 177]
abbrev dktX9_readSkin_6 : List UInt8 := dkwX9_readSkin_6 ++ []
def dkwX9_readSkin_5 : List UInt8 := [3, 16, 99, 182, 1, 8, 54, 5, 42, 180, 0, 91, 8, 160, 0, 4, 177, 42, 180, 0, 156, 180, 1, 89]
abbrev dktX9_readSkin_5 : List UInt8 := dkwX9_readSkin_5 ++ dktX9_readSkin_6
def dkwX9_readSkin_4 : List UInt8 := [180, 0, 156, 180, 1, 89, 3, 27, 96, 46, 4, 96, 104, 5, 100, 182, 0, 153, 54, 4, 42, 19, 1, 126]
abbrev dktX9_readSkin_4 : List UInt8 := dkwX9_readSkin_4 ++ dktX9_readSkin_5
def dkwX9_readSkin_3 : List UInt8 := [182, 0, 137, 42, 182, 0, 130, 42, 3, 182, 1, 98, 61, 42, 182, 1, 123, 62, 42, 3, 5, 42]
abbrev dktX9_readSkin_3 : List UInt8 := dkwX9_readSkin_3 ++ dktX9_readSkin_4
def dkwX9_readSkin_2 : List UInt8 := [159, 0, 27, 42, 180, 0, 156, 42, 180, 0, 156, 180, 1, 89, 27, 184, 1, 119, 154, 0, 9, 42, 16, 7]
abbrev dktX9_readSkin_2 : List UInt8 := dkwX9_readSkin_2 ++ dktX9_readSkin_3
def dkwX9_readSkin_1 : List UInt8 := [180, 1, 89, 3, 27, 96, 46, 16, 6, 160, 0, 8, 42, 8, 182, 0, 137, 42, 180, 0, 91, 8]
abbrev dktX9_readSkin_1 : List UInt8 := dkwX9_readSkin_1 ++ dktX9_readSkin_2
def dkwX9_readSkin_0 : List UInt8 := [42, 3, 4, 182, 1, 30, 42, 4, 182, 0, 214, 60, 42, 180, 0, 91, 8, 159, 0, 24, 42, 180, 0, 156]
abbrev dktX9_readSkin_0 : List UInt8 := dkwX9_readSkin_0 ++ dktX9_readSkin_1
theorem dksX9_readSkin_0 : cX9_readSkin.data.toList.drop 0 = dktX9_readSkin_0 := by decide +kernel
theorem dksX9_readSkin_1 : cX9_readSkin.data.toList.drop 24 = dktX9_readSkin_1 := dk_seg dksX9_readSkin_0 24 rfl rfl
theorem dksX9_readSkin_2 : cX9_readSkin.data.toList.drop 46 = dktX9_readSkin_2 := dk_seg dksX9_readSkin_1 22 rfl rfl
theorem dksX9_readSkin_3 : cX9_readSkin.data.toList.drop 70 = dktX9_readSkin_3 := dk_seg dksX9_readSkin_2 24 rfl rfl
theorem dksX9_readSkin_4 : cX9_readSkin.data.toList.drop 92 = dktX9_readSkin_4 := dk_seg dksX9_readSkin_3 22 rfl rfl
theorem dksX9_readSkin_5 : cX9_readSkin.data.toList.drop 116 = dktX9_readSkin_5 := dk_seg dksX9_readSkin_4 24 rfl rfl
theorem dksX9_readSkin_6 : cX9_readSkin.data.toList.drop 140 = dktX9_readSkin_6 := dk_seg dksX9_readSkin_5 24 rfl rfl
theorem dX9_readSkin_0 : decode cX9_readSkin 0 = .ok (.aload_n 0, 1) := dk_42 (dk_at dksX9_readSkin_0 0 rfl rfl)
theorem dX9_readSkin_1 : decode cX9_readSkin 1 = .ok (.iconst 0, 1) := dk_3 (dk_at dksX9_readSkin_0 1 rfl rfl)
theorem dX9_readSkin_2 : decode cX9_readSkin 2 = .ok (.iconst 1, 1) := dk_4 (dk_at dksX9_readSkin_0 2 rfl rfl)
theorem dX9_readSkin_3 : decode cX9_readSkin 3 = .ok (.invokevirtual 286, 3) := dk_182 1 30 (dk_at dksX9_readSkin_0 3 rfl rfl)
theorem dX9_readSkin_6 : decode cX9_readSkin 6 = .ok (.aload_n 0, 1) := dk_42 (dk_at dksX9_readSkin_0 6 rfl rfl)
theorem dX9_readSkin_7 : decode cX9_readSkin 7 = .ok (.iconst 1, 1) := dk_4 (dk_at dksX9_readSkin_0 7 rfl rfl)
theorem dX9_readSkin_8 : decode cX9_readSkin 8 = .ok (.invokevirtual 214, 3) := dk_182 0 214 (dk_at dksX9_readSkin_0 8 rfl rfl)
theorem dX9_readSkin_11 : decode cX9_readSkin 11 = .ok (.istore_n 1, 1) := dk_60 (dk_at dksX9_readSkin_0 11 rfl rfl)
theorem dX9_readSkin_12 : decode cX9_readSkin 12 = .ok (.aload_n 0, 1) := dk_42 (dk_at dksX9_readSkin_0 12 rfl rfl)
theorem dX9_readSkin_13 : decode cX9_readSkin 13 = .ok (.getfield 91, 3) := dk_180 0 91 (dk_at dksX9_readSkin_0 13 rfl rfl)
theorem dX9_readSkin_16 : decode cX9_readSkin 16 = .ok (.iconst 5, 1) := dk_8 (dk_at dksX9_readSkin_0 16 rfl rfl)
theorem dX9_readSkin_17 : decode cX9_readSkin 17 = .ok (.if_icmp .eq 24, 3) := dk_159 0 24 (dk_at dksX9_readSkin_0 17 rfl rfl)
theorem dX9_readSkin_20 : decode cX9_readSkin 20 = .ok (.aload_n 0, 1) := dk_42 (dk_at dksX9_readSkin_0 20 rfl rfl)
theorem dX9_readSkin_21 : decode cX9_readSkin 21 = .ok (.getfield 156, 3) := dk_180 0 156 (dk_at dksX9_readSkin_0 21 rfl rfl)
theorem dX9_readSkin_24 : decode cX9_readSkin 24 = .ok (.getfield 345, 3) := dk_180 1 89 (dk_at dksX9_readSkin_1 0 rfl rfl)
theorem dX9_readSkin_27 : decode cX9_readSkin 27 = .ok (.iconst 0, 1) := dk_3 (dk_at dksX9_readSkin_1 3 rfl rfl)
theorem dX9_readSkin_28 : decode cX9_readSkin 28 = .ok (.iload_n 1, 1) := dk_27 (dk_at dksX9_readSkin_1 4 rfl rfl)
theorem dX9_readSkin_29 : decode cX9_readSkin 29 = .ok (.iadd, 1) := dk_96 (dk_at dksX9_readSkin_1 5 rfl rfl)
theorem dX9_readSkin_30 : decode cX9_readSkin 30 = .ok (.iaload, 1) := dk_46 (dk_at dksX9_readSkin_1 6 rfl rfl)
theorem dX9_readSkin_31 : decode cX9_readSkin 31 = .ok (.bipush 6, 2) := dk_16 6 (dk_at dksX9_readSkin_1 7 rfl rfl)
theorem dX9_readSkin_33 : decode cX9_readSkin 33 = .ok (.if_icmp .ne 8, 3) := dk_160 0 8 (dk_at dksX9_readSkin_1 9 rfl rfl)
theorem dX9_readSkin_36 : decode cX9_readSkin 36 = .ok (.aload_n 0, 1) := dk_42 (dk_at dksX9_readSkin_1 12 rfl rfl)
theorem dX9_readSkin_37 : decode cX9_readSkin 37 = .ok (.iconst 5, 1) := dk_8 (dk_at dksX9_readSkin_1 13 rfl rfl)
theorem dX9_readSkin_38 : decode cX9_readSkin 38 = .ok (.invokevirtual 137, 3) := dk_182 0 137 (dk_at dksX9_readSkin_1 14 rfl rfl)
theorem dX9_readSkin_41 : decode cX9_readSkin 41 = .ok (.aload_n 0, 1) := dk_42 (dk_at dksX9_readSkin_1 17 rfl rfl)
theorem dX9_readSkin_42 : decode cX9_readSkin 42 = .ok (.getfield 91, 3) := dk_180 0 91 (dk_at dksX9_readSkin_1 18 rfl rfl)
theorem dX9_readSkin_45 : decode cX9_readSkin 45 = .ok (.iconst 5, 1) := dk_8 (dk_at dksX9_readSkin_1 21 rfl rfl)
theorem dX9_readSkin_46 : decode cX9_readSkin 46 = .ok (.if_icmp .eq 27, 3) := dk_159 0 27 (dk_at dksX9_readSkin_2 0 rfl rfl)
theorem dX9_readSkin_49 : decode cX9_readSkin 49 = .ok (.aload_n 0, 1) := dk_42 (dk_at dksX9_readSkin_2 3 rfl rfl)
theorem dX9_readSkin_50 : decode cX9_readSkin 50 = .ok (.getfield 156, 3) := dk_180 0 156 (dk_at dksX9_readSkin_2 4 rfl rfl)
theorem dX9_readSkin_53 : decode cX9_readSkin 53 = .ok (.aload_n 0, 1) := dk_42 (dk_at dksX9_readSkin_2 7 rfl rfl)
theorem dX9_readSkin_54 : decode cX9_readSkin 54 = .ok (.getfield 156, 3) := dk_180 0 156 (dk_at dksX9_readSkin_2 8 rfl rfl)
theorem dX9_readSkin_57 : decode cX9_readSkin 57 = .ok (.getfield 345, 3) := dk_180 1 89 (dk_at dksX9_readSkin_2 11 rfl rfl)
theorem dX9_readSkin_60 : decode cX9_readSkin 60 = .ok (.iload_n 1, 1) := dk_27 (dk_at dksX9_readSkin_2 14 rfl rfl)
theorem dX9_readSkin_61 : decode cX9_readSkin 61 = .ok (.invokestatic 375, 3) := dk_184 1 119 (dk_at dksX9_readSkin_2 15 rfl rfl)
theorem dX9_readSkin_64 : decode cX9_readSkin 64 = .ok (.ifCond .ne 9, 3) := dk_154 0 9 (dk_at dksX9_readSkin_2 18 rfl rfl)
theorem dX9_readSkin_67 : decode cX9_readSkin 67 = .ok (.aload_n 0, 1) := dk_42 (dk_at dksX9_readSkin_2 21 rfl rfl)
theorem dX9_readSkin_68 : decode cX9_readSkin 68 = .ok (.bipush 7, 2) := dk_16 7 (dk_at dksX9_readSkin_2 22 rfl rfl)
theorem dX9_readSkin_70 : decode cX9_readSkin 70 = .ok (.invokevirtual 137, 3) := dk_182 0 137 (dk_at dksX9_readSkin_3 0 rfl rfl)
theorem dX9_readSkin_73 : decode cX9_readSkin 73 = .ok (.aload_n 0, 1) := dk_42 (dk_at dksX9_readSkin_3 3 rfl rfl)
theorem dX9_readSkin_74 : decode cX9_readSkin 74 = .ok (.invokevirtual 130, 3) := dk_182 0 130 (dk_at dksX9_readSkin_3 4 rfl rfl)
theorem dX9_readSkin_77 : decode cX9_readSkin 77 = .ok (.aload_n 0, 1) := dk_42 (dk_at dksX9_readSkin_3 7 rfl rfl)
theorem dX9_readSkin_78 : decode cX9_readSkin 78 = .ok (.iconst 0, 1) := dk_3 (dk_at dksX9_readSkin_3 8 rfl rfl)
theorem dX9_readSkin_79 : decode cX9_readSkin 79 = .ok (.invokevirtual 354, 3) := dk_182 1 98 (dk_at dksX9_readSkin_3 9 rfl rfl)
theorem dX9_readSkin_82 : decode cX9_readSkin 82 = .ok (.istore_n 2, 1) := dk_61 (dk_at dksX9_readSkin_3 12 rfl rfl)
theorem dX9_readSkin_83 : decode cX9_readSkin 83 = .ok (.aload_n 0, 1) := dk_42 (dk_at dksX9_readSkin_3 13 rfl rfl)
theorem dX9_readSkin_84 : decode cX9_readSkin 84 = .ok (.invokevirtual 379, 3) := dk_182 1 123 (dk_at dksX9_readSkin_3 14 rfl rfl)
theorem dX9_readSkin_87 : decode cX9_readSkin 87 = .ok (.istore_n 3, 1) := dk_62 (dk_at dksX9_readSkin_3 17 rfl rfl)
theorem dX9_readSkin_88 : decode cX9_readSkin 88 = .ok (.aload_n 0, 1) := dk_42 (dk_at dksX9_readSkin_3 18 rfl rfl)
theorem dX9_readSkin_89 : decode cX9_readSkin 89 = .ok (.iconst 0, 1) := dk_3 (dk_at dksX9_readSkin_3 19 rfl rfl)
theorem dX9_readSkin_90 : decode cX9_readSkin 90 = .ok (.iconst 2, 1) := dk_5 (dk_at dksX9_readSkin_3 20 rfl rfl)
theorem dX9_readSkin_91 : decode cX9_readSkin 91 = .ok (.aload_n 0, 1) := dk_42 (dk_at dksX9_readSkin_3 21 rfl rfl)
theorem dX9_readSkin_92 : decode cX9_readSkin 92 = .ok (.getfield 156, 3) := dk_180 0 156 (dk_at dksX9_readSkin_4 0 rfl rfl)
theorem dX9_readSkin_95 : decode cX9_readSkin 95 = .ok (.getfield 345, 3) := dk_180 1 89 (dk_at dksX9_readSkin_4 3 rfl rfl)
theorem dX9_readSkin_98 : decode cX9_readSkin 98 = .ok (.iconst 0, 1) := dk_3 (dk_at dksX9_readSkin_4 6 rfl rfl)
theorem dX9_readSkin_99 : decode cX9_readSkin 99 = .ok (.iload_n 1, 1) := dk_27 (dk_at dksX9_readSkin_4 7 rfl rfl)
theorem dX9_readSkin_100 : decode cX9_readSkin 100 = .ok (.iadd, 1) := dk_96 (dk_at dksX9_readSkin_4 8 rfl rfl)
theorem dX9_readSkin_101 : decode cX9_readSkin 101 = .ok (.iaload, 1) := dk_46 (dk_at dksX9_readSkin_4 9 rfl rfl)
theorem dX9_readSkin_102 : decode cX9_readSkin 102 = .ok (.iconst 1, 1) := dk_4 (dk_at dksX9_readSkin_4 10 rfl rfl)
theorem dX9_readSkin_103 : decode cX9_readSkin 103 = .ok (.iadd, 1) := dk_96 (dk_at dksX9_readSkin_4 11 rfl rfl)
theorem dX9_readSkin_104 : decode cX9_readSkin 104 = .ok (.imul, 1) := dk_104 (dk_at dksX9_readSkin_4 12 rfl rfl)
theorem dX9_readSkin_105 : decode cX9_readSkin 105 = .ok (.iconst 2, 1) := dk_5 (dk_at dksX9_readSkin_4 13 rfl rfl)
theorem dX9_readSkin_106 : decode cX9_readSkin 106 = .ok (.isub, 1) := dk_100 (dk_at dksX9_readSkin_4 14 rfl rfl)
theorem dX9_readSkin_107 : decode cX9_readSkin 107 = .ok (.invokevirtual 153, 3) := dk_182 0 153 (dk_at dksX9_readSkin_4 15 rfl rfl)
theorem dX9_readSkin_110 : decode cX9_readSkin 110 = .ok (.istore 4, 2) := dk_54 4 (dk_at dksX9_readSkin_4 18 rfl rfl)
theorem dX9_readSkin_112 : decode cX9_readSkin 112 = .ok (.aload_n 0, 1) := dk_42 (dk_at dksX9_readSkin_4 20 rfl rfl)
theorem dX9_readSkin_113 : decode cX9_readSkin 113 = .ok (.ldc_w 382, 3) := dk_19 1 126 (dk_at dksX9_readSkin_4 21 rfl rfl)
theorem dX9_readSkin_116 : decode cX9_readSkin 116 = .ok (.iconst 0, 1) := dk_3 (dk_at dksX9_readSkin_5 0 rfl rfl)
theorem dX9_readSkin_117 : decode cX9_readSkin 117 = .ok (.bipush 99, 2) := dk_16 99 (dk_at dksX9_readSkin_5 1 rfl rfl)
theorem dX9_readSkin_119 : decode cX9_readSkin 119 = .ok (.invokevirtual 264, 3) := dk_182 1 8 (dk_at dksX9_readSkin_5 3 rfl rfl)
theorem dX9_readSkin_122 : decode cX9_readSkin 122 = .ok (.istore 5, 2) := dk_54 5 (dk_at dksX9_readSkin_5 6 rfl rfl)
theorem dX9_readSkin_124 : decode cX9_readSkin 124 = .ok (.aload_n 0, 1) := dk_42 (dk_at dksX9_readSkin_5 8 rfl rfl)
theorem dX9_readSkin_125 : decode cX9_readSkin 125 = .ok (.getfield 91, 3) := dk_180 0 91 (dk_at dksX9_readSkin_5 9 rfl rfl)
theorem dX9_readSkin_128 : decode cX9_readSkin 128 = .ok (.iconst 5, 1) := dk_8 (dk_at dksX9_readSkin_5 12 rfl rfl)
theorem dX9_readSkin_129 : decode cX9_readSkin 129 = .ok (.if_icmp .ne 4, 3) := dk_160 0 4 (dk_at dksX9_readSkin_5 13 rfl rfl)
theorem dX9_readSkin_132 : decode cX9_readSkin 132 = .ok (.return_, 1) := dk_177 (dk_at dksX9_readSkin_5 16 rfl rfl)
theorem dX9_readSkin_133 : decode cX9_readSkin 133 = .ok (.aload_n 0, 1) := dk_42 (dk_at dksX9_readSkin_5 17 rfl rfl)
theorem dX9_readSkin_134 : decode cX9_readSkin 134 = .ok (.getfield 156, 3) := dk_180 0 156 (dk_at dksX9_readSkin_5 18 rfl rfl)
theorem dX9_readSkin_137 : decode cX9_readSkin 137 = .ok (.getfield 345, 3) := dk_180 1 89 (dk_at dksX9_readSkin_5 21 rfl rfl)
theorem dX9_readSkin_140 : decode cX9_readSkin 140 = .ok (.iload_n 1, 1) := dk_27 (dk_at dksX9_readSkin_6 0 rfl rfl)
theorem dX9_readSkin_141 : decode cX9_readSkin 141 = .ok (.iload_n 2, 1) := dk_28 (dk_at dksX9_readSkin_6 1 rfl rfl)
theorem dX9_readSkin_142 : decode cX9_readSkin 142 = .ok (.iload_n 3, 1) := dk_29 (dk_at dksX9_readSkin_6 2 rfl rfl)
theorem dX9_readSkin_143 : decode cX9_readSkin 143 = .ok (.iload 4, 2) := dk_21 4 (dk_at dksX9_readSkin_6 3 rfl rfl)
theorem dX9_readSkin_145 : decode cX9_readSkin 145 = .ok (.iload 5, 2) := dk_21 5 (dk_at dksX9_readSkin_6 5 rfl rfl)
theorem dX9_readSkin_147 : decode cX9_readSkin 147 = .ok (.bipush (-2), 2) := dk_16 254 (dk_at dksX9_readSkin_6 7 rfl rfl)
theorem dX9_readSkin_149 : decode cX9_readSkin 149 = .ok (.invokestatic 384, 3) := dk_184 1 128 (dk_at dksX9_readSkin_6 9 rfl rfl)
theorem dX9_readSkin_152 : decode cX9_readSkin 152 = .ok (.return_, 1) := dk_177 (dk_at dksX9_readSkin_6 12 rfl rfl)
abbrev cX9_fitsIn : ByteArray := prog_20_method_50_code
def yX9_fitsIn : MethodName := ⟨RX9, "fitsIn", "(LYearSkinsModel$Land;[II)Z"⟩
def dkwX9_fitsIn_7 : List UInt8 := [132, 5, 1, 167, 255, 129, 132, 4, 1, 167, 255, 102, 4, 172]
abbrev dktX9_fitsIn_7 : List UInt8 := dkwX9_fitsIn_7 ++ []
def dkwX9_fitsIn_6 : List UInt8 := [21, 4, 182, 1, 173, 43, 3, 21, 6, 96, 46, 162, 0, 5, 3, 172, 132, 6, 1, 167, 255, 179]
abbrev dktX9_fitsIn_6 : List UInt8 := dkwX9_fitsIn_6 ++ dktX9_fitsIn_7
def dkwX9_fitsIn_5 : List UInt8 := [167, 0, 40, 42, 180, 1, 28, 153, 0, 31, 43, 3, 21, 6, 96, 46, 153, 0, 22, 42, 21, 6, 21, 5]
abbrev dktX9_fitsIn_5 : List UInt8 := dkwX9_fitsIn_5 ++ dktX9_fitsIn_6
def dkwX9_fitsIn_4 : List UInt8 := [159, 0, 62, 42, 21, 6, 21, 5, 21, 4, 182, 1, 173, 43, 3, 21, 6, 96, 46, 164, 0, 6]
abbrev dktX9_fitsIn_4 : List UInt8 := dkwX9_fitsIn_4 ++ dktX9_fitsIn_5
def dkwX9_fitsIn_3 : List UInt8 := [182, 1, 181, 154, 0, 5, 3, 172, 3, 54, 6, 21, 6, 42, 180, 0, 229, 162, 0, 74, 21, 6, 28]
abbrev dktX9_fitsIn_3 : List UInt8 := dkwX9_fitsIn_3 ++ dktX9_fitsIn_4
def dkwX9_fitsIn_2 : List UInt8 := [163, 0, 121, 42, 28, 21, 5, 21, 4, 182, 1, 173, 29, 159, 0, 6, 167, 0, 99, 42, 21, 5, 21, 4]
abbrev dktX9_fitsIn_2 : List UInt8 := dkwX9_fitsIn_2 ++ dktX9_fitsIn_3
def dkwX9_fitsIn_1 : List UInt8 := [29, 96, 163, 0, 148, 42, 28, 182, 1, 178, 29, 100, 54, 5, 21, 5, 42, 28, 182, 1, 178, 29, 96]
abbrev dktX9_fitsIn_1 : List UInt8 := dkwX9_fitsIn_1 ++ dktX9_fitsIn_2
def dkwX9_fitsIn_0 : List UInt8 := [43, 3, 28, 96, 46, 4, 96, 62, 42, 28, 182, 1, 175, 29, 100, 54, 4, 21, 4, 42, 28, 182, 1, 175]
abbrev dktX9_fitsIn_0 : List UInt8 := dkwX9_fitsIn_0 ++ dktX9_fitsIn_1
theorem dksX9_fitsIn_0 : cX9_fitsIn.data.toList.drop 0 = dktX9_fitsIn_0 := by decide +kernel
theorem dksX9_fitsIn_1 : cX9_fitsIn.data.toList.drop 24 = dktX9_fitsIn_1 := dk_seg dksX9_fitsIn_0 24 rfl rfl
theorem dksX9_fitsIn_2 : cX9_fitsIn.data.toList.drop 47 = dktX9_fitsIn_2 := dk_seg dksX9_fitsIn_1 23 rfl rfl
theorem dksX9_fitsIn_3 : cX9_fitsIn.data.toList.drop 71 = dktX9_fitsIn_3 := dk_seg dksX9_fitsIn_2 24 rfl rfl
theorem dksX9_fitsIn_4 : cX9_fitsIn.data.toList.drop 94 = dktX9_fitsIn_4 := dk_seg dksX9_fitsIn_3 23 rfl rfl
theorem dksX9_fitsIn_5 : cX9_fitsIn.data.toList.drop 116 = dktX9_fitsIn_5 := dk_seg dksX9_fitsIn_4 22 rfl rfl
theorem dksX9_fitsIn_6 : cX9_fitsIn.data.toList.drop 140 = dktX9_fitsIn_6 := dk_seg dksX9_fitsIn_5 24 rfl rfl
theorem dksX9_fitsIn_7 : cX9_fitsIn.data.toList.drop 162 = dktX9_fitsIn_7 := dk_seg dksX9_fitsIn_6 22 rfl rfl
theorem dX9_fitsIn_0 : decode cX9_fitsIn 0 = .ok (.aload_n 1, 1) := dk_43 (dk_at dksX9_fitsIn_0 0 rfl rfl)
theorem dX9_fitsIn_1 : decode cX9_fitsIn 1 = .ok (.iconst 0, 1) := dk_3 (dk_at dksX9_fitsIn_0 1 rfl rfl)
theorem dX9_fitsIn_2 : decode cX9_fitsIn 2 = .ok (.iload_n 2, 1) := dk_28 (dk_at dksX9_fitsIn_0 2 rfl rfl)
theorem dX9_fitsIn_3 : decode cX9_fitsIn 3 = .ok (.iadd, 1) := dk_96 (dk_at dksX9_fitsIn_0 3 rfl rfl)
theorem dX9_fitsIn_4 : decode cX9_fitsIn 4 = .ok (.iaload, 1) := dk_46 (dk_at dksX9_fitsIn_0 4 rfl rfl)
theorem dX9_fitsIn_5 : decode cX9_fitsIn 5 = .ok (.iconst 1, 1) := dk_4 (dk_at dksX9_fitsIn_0 5 rfl rfl)
theorem dX9_fitsIn_6 : decode cX9_fitsIn 6 = .ok (.iadd, 1) := dk_96 (dk_at dksX9_fitsIn_0 6 rfl rfl)
theorem dX9_fitsIn_7 : decode cX9_fitsIn 7 = .ok (.istore_n 3, 1) := dk_62 (dk_at dksX9_fitsIn_0 7 rfl rfl)
theorem dX9_fitsIn_8 : decode cX9_fitsIn 8 = .ok (.aload_n 0, 1) := dk_42 (dk_at dksX9_fitsIn_0 8 rfl rfl)
theorem dX9_fitsIn_9 : decode cX9_fitsIn 9 = .ok (.iload_n 2, 1) := dk_28 (dk_at dksX9_fitsIn_0 9 rfl rfl)
theorem dX9_fitsIn_10 : decode cX9_fitsIn 10 = .ok (.invokevirtual 431, 3) := dk_182 1 175 (dk_at dksX9_fitsIn_0 10 rfl rfl)
theorem dX9_fitsIn_13 : decode cX9_fitsIn 13 = .ok (.iload_n 3, 1) := dk_29 (dk_at dksX9_fitsIn_0 13 rfl rfl)
theorem dX9_fitsIn_14 : decode cX9_fitsIn 14 = .ok (.isub, 1) := dk_100 (dk_at dksX9_fitsIn_0 14 rfl rfl)
theorem dX9_fitsIn_15 : decode cX9_fitsIn 15 = .ok (.istore 4, 2) := dk_54 4 (dk_at dksX9_fitsIn_0 15 rfl rfl)
theorem dX9_fitsIn_17 : decode cX9_fitsIn 17 = .ok (.iload 4, 2) := dk_21 4 (dk_at dksX9_fitsIn_0 17 rfl rfl)
theorem dX9_fitsIn_19 : decode cX9_fitsIn 19 = .ok (.aload_n 0, 1) := dk_42 (dk_at dksX9_fitsIn_0 19 rfl rfl)
theorem dX9_fitsIn_20 : decode cX9_fitsIn 20 = .ok (.iload_n 2, 1) := dk_28 (dk_at dksX9_fitsIn_0 20 rfl rfl)
theorem dX9_fitsIn_21 : decode cX9_fitsIn 21 = .ok (.invokevirtual 431, 3) := dk_182 1 175 (dk_at dksX9_fitsIn_0 21 rfl rfl)
theorem dX9_fitsIn_24 : decode cX9_fitsIn 24 = .ok (.iload_n 3, 1) := dk_29 (dk_at dksX9_fitsIn_1 0 rfl rfl)
theorem dX9_fitsIn_25 : decode cX9_fitsIn 25 = .ok (.iadd, 1) := dk_96 (dk_at dksX9_fitsIn_1 1 rfl rfl)
theorem dX9_fitsIn_26 : decode cX9_fitsIn 26 = .ok (.if_icmp .gt 148, 3) := dk_163 0 148 (dk_at dksX9_fitsIn_1 2 rfl rfl)
theorem dX9_fitsIn_29 : decode cX9_fitsIn 29 = .ok (.aload_n 0, 1) := dk_42 (dk_at dksX9_fitsIn_1 5 rfl rfl)
theorem dX9_fitsIn_30 : decode cX9_fitsIn 30 = .ok (.iload_n 2, 1) := dk_28 (dk_at dksX9_fitsIn_1 6 rfl rfl)
theorem dX9_fitsIn_31 : decode cX9_fitsIn 31 = .ok (.invokevirtual 434, 3) := dk_182 1 178 (dk_at dksX9_fitsIn_1 7 rfl rfl)
theorem dX9_fitsIn_34 : decode cX9_fitsIn 34 = .ok (.iload_n 3, 1) := dk_29 (dk_at dksX9_fitsIn_1 10 rfl rfl)
theorem dX9_fitsIn_35 : decode cX9_fitsIn 35 = .ok (.isub, 1) := dk_100 (dk_at dksX9_fitsIn_1 11 rfl rfl)
theorem dX9_fitsIn_36 : decode cX9_fitsIn 36 = .ok (.istore 5, 2) := dk_54 5 (dk_at dksX9_fitsIn_1 12 rfl rfl)
theorem dX9_fitsIn_38 : decode cX9_fitsIn 38 = .ok (.iload 5, 2) := dk_21 5 (dk_at dksX9_fitsIn_1 14 rfl rfl)
theorem dX9_fitsIn_40 : decode cX9_fitsIn 40 = .ok (.aload_n 0, 1) := dk_42 (dk_at dksX9_fitsIn_1 16 rfl rfl)
theorem dX9_fitsIn_41 : decode cX9_fitsIn 41 = .ok (.iload_n 2, 1) := dk_28 (dk_at dksX9_fitsIn_1 17 rfl rfl)
theorem dX9_fitsIn_42 : decode cX9_fitsIn 42 = .ok (.invokevirtual 434, 3) := dk_182 1 178 (dk_at dksX9_fitsIn_1 18 rfl rfl)
theorem dX9_fitsIn_45 : decode cX9_fitsIn 45 = .ok (.iload_n 3, 1) := dk_29 (dk_at dksX9_fitsIn_1 21 rfl rfl)
theorem dX9_fitsIn_46 : decode cX9_fitsIn 46 = .ok (.iadd, 1) := dk_96 (dk_at dksX9_fitsIn_1 22 rfl rfl)
theorem dX9_fitsIn_47 : decode cX9_fitsIn 47 = .ok (.if_icmp .gt 121, 3) := dk_163 0 121 (dk_at dksX9_fitsIn_2 0 rfl rfl)
theorem dX9_fitsIn_50 : decode cX9_fitsIn 50 = .ok (.aload_n 0, 1) := dk_42 (dk_at dksX9_fitsIn_2 3 rfl rfl)
theorem dX9_fitsIn_51 : decode cX9_fitsIn 51 = .ok (.iload_n 2, 1) := dk_28 (dk_at dksX9_fitsIn_2 4 rfl rfl)
theorem dX9_fitsIn_52 : decode cX9_fitsIn 52 = .ok (.iload 5, 2) := dk_21 5 (dk_at dksX9_fitsIn_2 5 rfl rfl)
theorem dX9_fitsIn_54 : decode cX9_fitsIn 54 = .ok (.iload 4, 2) := dk_21 4 (dk_at dksX9_fitsIn_2 7 rfl rfl)
theorem dX9_fitsIn_56 : decode cX9_fitsIn 56 = .ok (.invokevirtual 429, 3) := dk_182 1 173 (dk_at dksX9_fitsIn_2 9 rfl rfl)
theorem dX9_fitsIn_59 : decode cX9_fitsIn 59 = .ok (.iload_n 3, 1) := dk_29 (dk_at dksX9_fitsIn_2 12 rfl rfl)
theorem dX9_fitsIn_60 : decode cX9_fitsIn 60 = .ok (.if_icmp .eq 6, 3) := dk_159 0 6 (dk_at dksX9_fitsIn_2 13 rfl rfl)
theorem dX9_fitsIn_63 : decode cX9_fitsIn 63 = .ok (.goto 99, 3) := dk_167 0 99 (dk_at dksX9_fitsIn_2 16 rfl rfl)
theorem dX9_fitsIn_66 : decode cX9_fitsIn 66 = .ok (.aload_n 0, 1) := dk_42 (dk_at dksX9_fitsIn_2 19 rfl rfl)
theorem dX9_fitsIn_67 : decode cX9_fitsIn 67 = .ok (.iload 5, 2) := dk_21 5 (dk_at dksX9_fitsIn_2 20 rfl rfl)
theorem dX9_fitsIn_69 : decode cX9_fitsIn 69 = .ok (.iload 4, 2) := dk_21 4 (dk_at dksX9_fitsIn_2 22 rfl rfl)
theorem dX9_fitsIn_71 : decode cX9_fitsIn 71 = .ok (.invokevirtual 437, 3) := dk_182 1 181 (dk_at dksX9_fitsIn_3 0 rfl rfl)
theorem dX9_fitsIn_74 : decode cX9_fitsIn 74 = .ok (.ifCond .ne 5, 3) := dk_154 0 5 (dk_at dksX9_fitsIn_3 3 rfl rfl)
theorem dX9_fitsIn_77 : decode cX9_fitsIn 77 = .ok (.iconst 0, 1) := dk_3 (dk_at dksX9_fitsIn_3 6 rfl rfl)
theorem dX9_fitsIn_78 : decode cX9_fitsIn 78 = .ok (.ireturn, 1) := dk_172 (dk_at dksX9_fitsIn_3 7 rfl rfl)
theorem dX9_fitsIn_79 : decode cX9_fitsIn 79 = .ok (.iconst 0, 1) := dk_3 (dk_at dksX9_fitsIn_3 8 rfl rfl)
theorem dX9_fitsIn_80 : decode cX9_fitsIn 80 = .ok (.istore 6, 2) := dk_54 6 (dk_at dksX9_fitsIn_3 9 rfl rfl)
theorem dX9_fitsIn_82 : decode cX9_fitsIn 82 = .ok (.iload 6, 2) := dk_21 6 (dk_at dksX9_fitsIn_3 11 rfl rfl)
theorem dX9_fitsIn_84 : decode cX9_fitsIn 84 = .ok (.aload_n 0, 1) := dk_42 (dk_at dksX9_fitsIn_3 13 rfl rfl)
theorem dX9_fitsIn_85 : decode cX9_fitsIn 85 = .ok (.getfield 229, 3) := dk_180 0 229 (dk_at dksX9_fitsIn_3 14 rfl rfl)
theorem dX9_fitsIn_88 : decode cX9_fitsIn 88 = .ok (.if_icmp .ge 74, 3) := dk_162 0 74 (dk_at dksX9_fitsIn_3 17 rfl rfl)
theorem dX9_fitsIn_91 : decode cX9_fitsIn 91 = .ok (.iload 6, 2) := dk_21 6 (dk_at dksX9_fitsIn_3 20 rfl rfl)
theorem dX9_fitsIn_93 : decode cX9_fitsIn 93 = .ok (.iload_n 2, 1) := dk_28 (dk_at dksX9_fitsIn_3 22 rfl rfl)
theorem dX9_fitsIn_94 : decode cX9_fitsIn 94 = .ok (.if_icmp .eq 62, 3) := dk_159 0 62 (dk_at dksX9_fitsIn_4 0 rfl rfl)
theorem dX9_fitsIn_97 : decode cX9_fitsIn 97 = .ok (.aload_n 0, 1) := dk_42 (dk_at dksX9_fitsIn_4 3 rfl rfl)
theorem dX9_fitsIn_98 : decode cX9_fitsIn 98 = .ok (.iload 6, 2) := dk_21 6 (dk_at dksX9_fitsIn_4 4 rfl rfl)
theorem dX9_fitsIn_100 : decode cX9_fitsIn 100 = .ok (.iload 5, 2) := dk_21 5 (dk_at dksX9_fitsIn_4 6 rfl rfl)
theorem dX9_fitsIn_102 : decode cX9_fitsIn 102 = .ok (.iload 4, 2) := dk_21 4 (dk_at dksX9_fitsIn_4 8 rfl rfl)
theorem dX9_fitsIn_104 : decode cX9_fitsIn 104 = .ok (.invokevirtual 429, 3) := dk_182 1 173 (dk_at dksX9_fitsIn_4 10 rfl rfl)
theorem dX9_fitsIn_107 : decode cX9_fitsIn 107 = .ok (.aload_n 1, 1) := dk_43 (dk_at dksX9_fitsIn_4 13 rfl rfl)
theorem dX9_fitsIn_108 : decode cX9_fitsIn 108 = .ok (.iconst 0, 1) := dk_3 (dk_at dksX9_fitsIn_4 14 rfl rfl)
theorem dX9_fitsIn_109 : decode cX9_fitsIn 109 = .ok (.iload 6, 2) := dk_21 6 (dk_at dksX9_fitsIn_4 15 rfl rfl)
theorem dX9_fitsIn_111 : decode cX9_fitsIn 111 = .ok (.iadd, 1) := dk_96 (dk_at dksX9_fitsIn_4 17 rfl rfl)
theorem dX9_fitsIn_112 : decode cX9_fitsIn 112 = .ok (.iaload, 1) := dk_46 (dk_at dksX9_fitsIn_4 18 rfl rfl)
theorem dX9_fitsIn_113 : decode cX9_fitsIn 113 = .ok (.if_icmp .le 6, 3) := dk_164 0 6 (dk_at dksX9_fitsIn_4 19 rfl rfl)
theorem dX9_fitsIn_116 : decode cX9_fitsIn 116 = .ok (.goto 40, 3) := dk_167 0 40 (dk_at dksX9_fitsIn_5 0 rfl rfl)
theorem dX9_fitsIn_119 : decode cX9_fitsIn 119 = .ok (.aload_n 0, 1) := dk_42 (dk_at dksX9_fitsIn_5 3 rfl rfl)
theorem dX9_fitsIn_120 : decode cX9_fitsIn 120 = .ok (.getfield 284, 3) := dk_180 1 28 (dk_at dksX9_fitsIn_5 4 rfl rfl)
theorem dX9_fitsIn_123 : decode cX9_fitsIn 123 = .ok (.ifCond .eq 31, 3) := dk_153 0 31 (dk_at dksX9_fitsIn_5 7 rfl rfl)
theorem dX9_fitsIn_126 : decode cX9_fitsIn 126 = .ok (.aload_n 1, 1) := dk_43 (dk_at dksX9_fitsIn_5 10 rfl rfl)
theorem dX9_fitsIn_127 : decode cX9_fitsIn 127 = .ok (.iconst 0, 1) := dk_3 (dk_at dksX9_fitsIn_5 11 rfl rfl)
theorem dX9_fitsIn_128 : decode cX9_fitsIn 128 = .ok (.iload 6, 2) := dk_21 6 (dk_at dksX9_fitsIn_5 12 rfl rfl)
theorem dX9_fitsIn_130 : decode cX9_fitsIn 130 = .ok (.iadd, 1) := dk_96 (dk_at dksX9_fitsIn_5 14 rfl rfl)
theorem dX9_fitsIn_131 : decode cX9_fitsIn 131 = .ok (.iaload, 1) := dk_46 (dk_at dksX9_fitsIn_5 15 rfl rfl)
theorem dX9_fitsIn_132 : decode cX9_fitsIn 132 = .ok (.ifCond .eq 22, 3) := dk_153 0 22 (dk_at dksX9_fitsIn_5 16 rfl rfl)
theorem dX9_fitsIn_135 : decode cX9_fitsIn 135 = .ok (.aload_n 0, 1) := dk_42 (dk_at dksX9_fitsIn_5 19 rfl rfl)
theorem dX9_fitsIn_136 : decode cX9_fitsIn 136 = .ok (.iload 6, 2) := dk_21 6 (dk_at dksX9_fitsIn_5 20 rfl rfl)
theorem dX9_fitsIn_138 : decode cX9_fitsIn 138 = .ok (.iload 5, 2) := dk_21 5 (dk_at dksX9_fitsIn_5 22 rfl rfl)
theorem dX9_fitsIn_140 : decode cX9_fitsIn 140 = .ok (.iload 4, 2) := dk_21 4 (dk_at dksX9_fitsIn_6 0 rfl rfl)
theorem dX9_fitsIn_142 : decode cX9_fitsIn 142 = .ok (.invokevirtual 429, 3) := dk_182 1 173 (dk_at dksX9_fitsIn_6 2 rfl rfl)
theorem dX9_fitsIn_145 : decode cX9_fitsIn 145 = .ok (.aload_n 1, 1) := dk_43 (dk_at dksX9_fitsIn_6 5 rfl rfl)
theorem dX9_fitsIn_146 : decode cX9_fitsIn 146 = .ok (.iconst 0, 1) := dk_3 (dk_at dksX9_fitsIn_6 6 rfl rfl)
theorem dX9_fitsIn_147 : decode cX9_fitsIn 147 = .ok (.iload 6, 2) := dk_21 6 (dk_at dksX9_fitsIn_6 7 rfl rfl)
theorem dX9_fitsIn_149 : decode cX9_fitsIn 149 = .ok (.iadd, 1) := dk_96 (dk_at dksX9_fitsIn_6 9 rfl rfl)
theorem dX9_fitsIn_150 : decode cX9_fitsIn 150 = .ok (.iaload, 1) := dk_46 (dk_at dksX9_fitsIn_6 10 rfl rfl)
theorem dX9_fitsIn_151 : decode cX9_fitsIn 151 = .ok (.if_icmp .ge 5, 3) := dk_162 0 5 (dk_at dksX9_fitsIn_6 11 rfl rfl)
theorem dX9_fitsIn_154 : decode cX9_fitsIn 154 = .ok (.iconst 0, 1) := dk_3 (dk_at dksX9_fitsIn_6 14 rfl rfl)
theorem dX9_fitsIn_155 : decode cX9_fitsIn 155 = .ok (.ireturn, 1) := dk_172 (dk_at dksX9_fitsIn_6 15 rfl rfl)
theorem dX9_fitsIn_156 : decode cX9_fitsIn 156 = .ok (.iinc 6 1, 3) := dk_132 6 1 (dk_at dksX9_fitsIn_6 16 rfl rfl)
theorem dX9_fitsIn_159 : decode cX9_fitsIn 159 = .ok (.goto (-77), 3) := dk_167 255 179 (dk_at dksX9_fitsIn_6 19 rfl rfl)
theorem dX9_fitsIn_162 : decode cX9_fitsIn 162 = .ok (.iinc 5 1, 3) := dk_132 5 1 (dk_at dksX9_fitsIn_7 0 rfl rfl)
theorem dX9_fitsIn_165 : decode cX9_fitsIn 165 = .ok (.goto (-127), 3) := dk_167 255 129 (dk_at dksX9_fitsIn_7 3 rfl rfl)
theorem dX9_fitsIn_168 : decode cX9_fitsIn 168 = .ok (.iinc 4 1, 3) := dk_132 4 1 (dk_at dksX9_fitsIn_7 6 rfl rfl)
theorem dX9_fitsIn_171 : decode cX9_fitsIn 171 = .ok (.goto (-154), 3) := dk_167 255 102 (dk_at dksX9_fitsIn_7 9 rfl rfl)
theorem dX9_fitsIn_174 : decode cX9_fitsIn 174 = .ok (.iconst 1, 1) := dk_4 (dk_at dksX9_fitsIn_7 12 rfl rfl)
theorem dX9_fitsIn_175 : decode cX9_fitsIn 175 = .ok (.ireturn, 1) := dk_172 (dk_at dksX9_fitsIn_7 13 rfl rfl)
abbrev cX9_readSide : ByteArray := prog_20_method_37_code
def yX9_readSide : MethodName := ⟨RX9, "readSide", "()I"⟩
def dkwX9_readSide_3 : List UInt8 := [182, 0, 130, 27, 172]
abbrev dktX9_readSide_3 : List UInt8 := dkwX9_readSide_3 ++ []
def dkwX9_readSide_2 : List UInt8 := [182, 0, 133, 153, 0, 7, 6, 167, 0, 4, 2, 60, 27, 2, 160, 0, 8, 42, 4, 182, 0, 137, 42]
abbrev dktX9_readSide_2 : List UInt8 := dkwX9_readSide_2 ++ dktX9_readSide_3
def dkwX9_readSide_1 : List UInt8 := [4, 167, 0, 32, 42, 19, 1, 115, 182, 0, 133, 153, 0, 7, 5, 167, 0, 18, 42, 19, 1, 117]
abbrev dktX9_readSide_1 : List UInt8 := dkwX9_readSide_1 ++ dktX9_readSide_2
def dkwX9_readSide_0 : List UInt8 := [42, 19, 1, 111, 182, 0, 133, 153, 0, 7, 3, 167, 0, 46, 42, 19, 1, 113, 182, 0, 133, 153, 0, 7]
abbrev dktX9_readSide_0 : List UInt8 := dkwX9_readSide_0 ++ dktX9_readSide_1
theorem dksX9_readSide_0 : cX9_readSide.data.toList.drop 0 = dktX9_readSide_0 := by decide +kernel
theorem dksX9_readSide_1 : cX9_readSide.data.toList.drop 24 = dktX9_readSide_1 := dk_seg dksX9_readSide_0 24 rfl rfl
theorem dksX9_readSide_2 : cX9_readSide.data.toList.drop 46 = dktX9_readSide_2 := dk_seg dksX9_readSide_1 22 rfl rfl
theorem dksX9_readSide_3 : cX9_readSide.data.toList.drop 69 = dktX9_readSide_3 := dk_seg dksX9_readSide_2 23 rfl rfl
theorem dX9_readSide_0 : decode cX9_readSide 0 = .ok (.aload_n 0, 1) := dk_42 (dk_at dksX9_readSide_0 0 rfl rfl)
theorem dX9_readSide_1 : decode cX9_readSide 1 = .ok (.ldc_w 367, 3) := dk_19 1 111 (dk_at dksX9_readSide_0 1 rfl rfl)
theorem dX9_readSide_4 : decode cX9_readSide 4 = .ok (.invokevirtual 133, 3) := dk_182 0 133 (dk_at dksX9_readSide_0 4 rfl rfl)
theorem dX9_readSide_7 : decode cX9_readSide 7 = .ok (.ifCond .eq 7, 3) := dk_153 0 7 (dk_at dksX9_readSide_0 7 rfl rfl)
theorem dX9_readSide_10 : decode cX9_readSide 10 = .ok (.iconst 0, 1) := dk_3 (dk_at dksX9_readSide_0 10 rfl rfl)
theorem dX9_readSide_11 : decode cX9_readSide 11 = .ok (.goto 46, 3) := dk_167 0 46 (dk_at dksX9_readSide_0 11 rfl rfl)
theorem dX9_readSide_14 : decode cX9_readSide 14 = .ok (.aload_n 0, 1) := dk_42 (dk_at dksX9_readSide_0 14 rfl rfl)
theorem dX9_readSide_15 : decode cX9_readSide 15 = .ok (.ldc_w 369, 3) := dk_19 1 113 (dk_at dksX9_readSide_0 15 rfl rfl)
theorem dX9_readSide_18 : decode cX9_readSide 18 = .ok (.invokevirtual 133, 3) := dk_182 0 133 (dk_at dksX9_readSide_0 18 rfl rfl)
theorem dX9_readSide_21 : decode cX9_readSide 21 = .ok (.ifCond .eq 7, 3) := dk_153 0 7 (dk_at dksX9_readSide_0 21 rfl rfl)
theorem dX9_readSide_24 : decode cX9_readSide 24 = .ok (.iconst 1, 1) := dk_4 (dk_at dksX9_readSide_1 0 rfl rfl)
theorem dX9_readSide_25 : decode cX9_readSide 25 = .ok (.goto 32, 3) := dk_167 0 32 (dk_at dksX9_readSide_1 1 rfl rfl)
theorem dX9_readSide_28 : decode cX9_readSide 28 = .ok (.aload_n 0, 1) := dk_42 (dk_at dksX9_readSide_1 4 rfl rfl)
theorem dX9_readSide_29 : decode cX9_readSide 29 = .ok (.ldc_w 371, 3) := dk_19 1 115 (dk_at dksX9_readSide_1 5 rfl rfl)
theorem dX9_readSide_32 : decode cX9_readSide 32 = .ok (.invokevirtual 133, 3) := dk_182 0 133 (dk_at dksX9_readSide_1 8 rfl rfl)
theorem dX9_readSide_35 : decode cX9_readSide 35 = .ok (.ifCond .eq 7, 3) := dk_153 0 7 (dk_at dksX9_readSide_1 11 rfl rfl)
theorem dX9_readSide_38 : decode cX9_readSide 38 = .ok (.iconst 2, 1) := dk_5 (dk_at dksX9_readSide_1 14 rfl rfl)
theorem dX9_readSide_39 : decode cX9_readSide 39 = .ok (.goto 18, 3) := dk_167 0 18 (dk_at dksX9_readSide_1 15 rfl rfl)
theorem dX9_readSide_42 : decode cX9_readSide 42 = .ok (.aload_n 0, 1) := dk_42 (dk_at dksX9_readSide_1 18 rfl rfl)
theorem dX9_readSide_43 : decode cX9_readSide 43 = .ok (.ldc_w 373, 3) := dk_19 1 117 (dk_at dksX9_readSide_1 19 rfl rfl)
theorem dX9_readSide_46 : decode cX9_readSide 46 = .ok (.invokevirtual 133, 3) := dk_182 0 133 (dk_at dksX9_readSide_2 0 rfl rfl)
theorem dX9_readSide_49 : decode cX9_readSide 49 = .ok (.ifCond .eq 7, 3) := dk_153 0 7 (dk_at dksX9_readSide_2 3 rfl rfl)
theorem dX9_readSide_52 : decode cX9_readSide 52 = .ok (.iconst 3, 1) := dk_6 (dk_at dksX9_readSide_2 6 rfl rfl)
theorem dX9_readSide_53 : decode cX9_readSide 53 = .ok (.goto 4, 3) := dk_167 0 4 (dk_at dksX9_readSide_2 7 rfl rfl)
theorem dX9_readSide_56 : decode cX9_readSide 56 = .ok (.iconst (-1), 1) := dk_2 (dk_at dksX9_readSide_2 10 rfl rfl)
theorem dX9_readSide_57 : decode cX9_readSide 57 = .ok (.istore_n 1, 1) := dk_60 (dk_at dksX9_readSide_2 11 rfl rfl)
theorem dX9_readSide_58 : decode cX9_readSide 58 = .ok (.iload_n 1, 1) := dk_27 (dk_at dksX9_readSide_2 12 rfl rfl)
theorem dX9_readSide_59 : decode cX9_readSide 59 = .ok (.iconst (-1), 1) := dk_2 (dk_at dksX9_readSide_2 13 rfl rfl)
theorem dX9_readSide_60 : decode cX9_readSide 60 = .ok (.if_icmp .ne 8, 3) := dk_160 0 8 (dk_at dksX9_readSide_2 14 rfl rfl)
theorem dX9_readSide_63 : decode cX9_readSide 63 = .ok (.aload_n 0, 1) := dk_42 (dk_at dksX9_readSide_2 17 rfl rfl)
theorem dX9_readSide_64 : decode cX9_readSide 64 = .ok (.iconst 1, 1) := dk_4 (dk_at dksX9_readSide_2 18 rfl rfl)
theorem dX9_readSide_65 : decode cX9_readSide 65 = .ok (.invokevirtual 137, 3) := dk_182 0 137 (dk_at dksX9_readSide_2 19 rfl rfl)
theorem dX9_readSide_68 : decode cX9_readSide 68 = .ok (.aload_n 0, 1) := dk_42 (dk_at dksX9_readSide_2 22 rfl rfl)
theorem dX9_readSide_69 : decode cX9_readSide 69 = .ok (.invokevirtual 130, 3) := dk_182 0 130 (dk_at dksX9_readSide_3 0 rfl rfl)
theorem dX9_readSide_72 : decode cX9_readSide 72 = .ok (.iload_n 1, 1) := dk_27 (dk_at dksX9_readSide_3 3 rfl rfl)
theorem dX9_readSide_73 : decode cX9_readSide 73 = .ok (.ireturn, 1) := dk_172 (dk_at dksX9_readSide_3 4 rfl rfl)
abbrev cX9_adds : ByteArray := prog_20_method_48_code
def yX9_adds : MethodName := ⟨RX9, "adds", "([IIIIIII)V"⟩
def dkwX9_adds_4 : List UInt8 := [184, 1, 169, 21, 6, 79, 177]
abbrev dktX9_adds_4 : List UInt8 := dkwX9_adds_4 ++ []
def dkwX9_adds_3 : List UInt8 := [8, 184, 1, 169, 3, 79, 42, 27, 21, 7, 16, 6, 184, 1, 169, 3, 79, 42, 27, 21, 7, 16, 7]
abbrev dktX9_adds_3 : List UInt8 := dkwX9_adds_3 ++ dktX9_adds_4
def dkwX9_adds_2 : List UInt8 := [27, 21, 7, 6, 184, 1, 169, 21, 5, 79, 42, 27, 21, 7, 7, 184, 1, 169, 3, 79, 42, 27, 21, 7]
abbrev dktX9_adds_2 : List UInt8 := dkwX9_adds_2 ++ dktX9_adds_3
def dkwX9_adds_1 : List UInt8 := [28, 79, 42, 27, 21, 7, 4, 184, 1, 169, 29, 79, 42, 27, 21, 7, 5, 184, 1, 169, 21, 4, 79, 42]
abbrev dktX9_adds_1 : List UInt8 := dkwX9_adds_1 ++ dktX9_adds_2
def dkwX9_adds_0 : List UInt8 := [42, 3, 27, 96, 92, 46, 4, 96, 79, 42, 3, 27, 96, 46, 54, 7, 42, 27, 21, 7, 3, 184, 1, 169]
abbrev dktX9_adds_0 : List UInt8 := dkwX9_adds_0 ++ dktX9_adds_1
theorem dksX9_adds_0 : cX9_adds.data.toList.drop 0 = dktX9_adds_0 := by decide +kernel
theorem dksX9_adds_1 : cX9_adds.data.toList.drop 24 = dktX9_adds_1 := dk_seg dksX9_adds_0 24 rfl rfl
theorem dksX9_adds_2 : cX9_adds.data.toList.drop 48 = dktX9_adds_2 := dk_seg dksX9_adds_1 24 rfl rfl
theorem dksX9_adds_3 : cX9_adds.data.toList.drop 72 = dktX9_adds_3 := dk_seg dksX9_adds_2 24 rfl rfl
theorem dksX9_adds_4 : cX9_adds.data.toList.drop 95 = dktX9_adds_4 := dk_seg dksX9_adds_3 23 rfl rfl
theorem dX9_adds_0 : decode cX9_adds 0 = .ok (.aload_n 0, 1) := dk_42 (dk_at dksX9_adds_0 0 rfl rfl)
theorem dX9_adds_1 : decode cX9_adds 1 = .ok (.iconst 0, 1) := dk_3 (dk_at dksX9_adds_0 1 rfl rfl)
theorem dX9_adds_2 : decode cX9_adds 2 = .ok (.iload_n 1, 1) := dk_27 (dk_at dksX9_adds_0 2 rfl rfl)
theorem dX9_adds_3 : decode cX9_adds 3 = .ok (.iadd, 1) := dk_96 (dk_at dksX9_adds_0 3 rfl rfl)
theorem dX9_adds_4 : decode cX9_adds 4 = .ok (.dup2, 1) := dk_92 (dk_at dksX9_adds_0 4 rfl rfl)
theorem dX9_adds_5 : decode cX9_adds 5 = .ok (.iaload, 1) := dk_46 (dk_at dksX9_adds_0 5 rfl rfl)
theorem dX9_adds_6 : decode cX9_adds 6 = .ok (.iconst 1, 1) := dk_4 (dk_at dksX9_adds_0 6 rfl rfl)
theorem dX9_adds_7 : decode cX9_adds 7 = .ok (.iadd, 1) := dk_96 (dk_at dksX9_adds_0 7 rfl rfl)
theorem dX9_adds_8 : decode cX9_adds 8 = .ok (.iastore, 1) := dk_79 (dk_at dksX9_adds_0 8 rfl rfl)
theorem dX9_adds_9 : decode cX9_adds 9 = .ok (.aload_n 0, 1) := dk_42 (dk_at dksX9_adds_0 9 rfl rfl)
theorem dX9_adds_10 : decode cX9_adds 10 = .ok (.iconst 0, 1) := dk_3 (dk_at dksX9_adds_0 10 rfl rfl)
theorem dX9_adds_11 : decode cX9_adds 11 = .ok (.iload_n 1, 1) := dk_27 (dk_at dksX9_adds_0 11 rfl rfl)
theorem dX9_adds_12 : decode cX9_adds 12 = .ok (.iadd, 1) := dk_96 (dk_at dksX9_adds_0 12 rfl rfl)
theorem dX9_adds_13 : decode cX9_adds 13 = .ok (.iaload, 1) := dk_46 (dk_at dksX9_adds_0 13 rfl rfl)
theorem dX9_adds_14 : decode cX9_adds 14 = .ok (.istore 7, 2) := dk_54 7 (dk_at dksX9_adds_0 14 rfl rfl)
theorem dX9_adds_16 : decode cX9_adds 16 = .ok (.aload_n 0, 1) := dk_42 (dk_at dksX9_adds_0 16 rfl rfl)
theorem dX9_adds_17 : decode cX9_adds 17 = .ok (.iload_n 1, 1) := dk_27 (dk_at dksX9_adds_0 17 rfl rfl)
theorem dX9_adds_18 : decode cX9_adds 18 = .ok (.iload 7, 2) := dk_21 7 (dk_at dksX9_adds_0 18 rfl rfl)
theorem dX9_adds_20 : decode cX9_adds 20 = .ok (.iconst 0, 1) := dk_3 (dk_at dksX9_adds_0 20 rfl rfl)
theorem dX9_adds_21 : decode cX9_adds 21 = .ok (.invokestatic 425, 3) := dk_184 1 169 (dk_at dksX9_adds_0 21 rfl rfl)
theorem dX9_adds_24 : decode cX9_adds 24 = .ok (.iload_n 2, 1) := dk_28 (dk_at dksX9_adds_1 0 rfl rfl)
theorem dX9_adds_25 : decode cX9_adds 25 = .ok (.iastore, 1) := dk_79 (dk_at dksX9_adds_1 1 rfl rfl)
theorem dX9_adds_26 : decode cX9_adds 26 = .ok (.aload_n 0, 1) := dk_42 (dk_at dksX9_adds_1 2 rfl rfl)
theorem dX9_adds_27 : decode cX9_adds 27 = .ok (.iload_n 1, 1) := dk_27 (dk_at dksX9_adds_1 3 rfl rfl)
theorem dX9_adds_28 : decode cX9_adds 28 = .ok (.iload 7, 2) := dk_21 7 (dk_at dksX9_adds_1 4 rfl rfl)
theorem dX9_adds_30 : decode cX9_adds 30 = .ok (.iconst 1, 1) := dk_4 (dk_at dksX9_adds_1 6 rfl rfl)
theorem dX9_adds_31 : decode cX9_adds 31 = .ok (.invokestatic 425, 3) := dk_184 1 169 (dk_at dksX9_adds_1 7 rfl rfl)
theorem dX9_adds_34 : decode cX9_adds 34 = .ok (.iload_n 3, 1) := dk_29 (dk_at dksX9_adds_1 10 rfl rfl)
theorem dX9_adds_35 : decode cX9_adds 35 = .ok (.iastore, 1) := dk_79 (dk_at dksX9_adds_1 11 rfl rfl)
theorem dX9_adds_36 : decode cX9_adds 36 = .ok (.aload_n 0, 1) := dk_42 (dk_at dksX9_adds_1 12 rfl rfl)
theorem dX9_adds_37 : decode cX9_adds 37 = .ok (.iload_n 1, 1) := dk_27 (dk_at dksX9_adds_1 13 rfl rfl)
theorem dX9_adds_38 : decode cX9_adds 38 = .ok (.iload 7, 2) := dk_21 7 (dk_at dksX9_adds_1 14 rfl rfl)
theorem dX9_adds_40 : decode cX9_adds 40 = .ok (.iconst 2, 1) := dk_5 (dk_at dksX9_adds_1 16 rfl rfl)
theorem dX9_adds_41 : decode cX9_adds 41 = .ok (.invokestatic 425, 3) := dk_184 1 169 (dk_at dksX9_adds_1 17 rfl rfl)
theorem dX9_adds_44 : decode cX9_adds 44 = .ok (.iload 4, 2) := dk_21 4 (dk_at dksX9_adds_1 20 rfl rfl)
theorem dX9_adds_46 : decode cX9_adds 46 = .ok (.iastore, 1) := dk_79 (dk_at dksX9_adds_1 22 rfl rfl)
theorem dX9_adds_47 : decode cX9_adds 47 = .ok (.aload_n 0, 1) := dk_42 (dk_at dksX9_adds_1 23 rfl rfl)
theorem dX9_adds_48 : decode cX9_adds 48 = .ok (.iload_n 1, 1) := dk_27 (dk_at dksX9_adds_2 0 rfl rfl)
theorem dX9_adds_49 : decode cX9_adds 49 = .ok (.iload 7, 2) := dk_21 7 (dk_at dksX9_adds_2 1 rfl rfl)
theorem dX9_adds_51 : decode cX9_adds 51 = .ok (.iconst 3, 1) := dk_6 (dk_at dksX9_adds_2 3 rfl rfl)
theorem dX9_adds_52 : decode cX9_adds 52 = .ok (.invokestatic 425, 3) := dk_184 1 169 (dk_at dksX9_adds_2 4 rfl rfl)
theorem dX9_adds_55 : decode cX9_adds 55 = .ok (.iload 5, 2) := dk_21 5 (dk_at dksX9_adds_2 7 rfl rfl)
theorem dX9_adds_57 : decode cX9_adds 57 = .ok (.iastore, 1) := dk_79 (dk_at dksX9_adds_2 9 rfl rfl)
theorem dX9_adds_58 : decode cX9_adds 58 = .ok (.aload_n 0, 1) := dk_42 (dk_at dksX9_adds_2 10 rfl rfl)
theorem dX9_adds_59 : decode cX9_adds 59 = .ok (.iload_n 1, 1) := dk_27 (dk_at dksX9_adds_2 11 rfl rfl)
theorem dX9_adds_60 : decode cX9_adds 60 = .ok (.iload 7, 2) := dk_21 7 (dk_at dksX9_adds_2 12 rfl rfl)
theorem dX9_adds_62 : decode cX9_adds 62 = .ok (.iconst 4, 1) := dk_7 (dk_at dksX9_adds_2 14 rfl rfl)
theorem dX9_adds_63 : decode cX9_adds 63 = .ok (.invokestatic 425, 3) := dk_184 1 169 (dk_at dksX9_adds_2 15 rfl rfl)
theorem dX9_adds_66 : decode cX9_adds 66 = .ok (.iconst 0, 1) := dk_3 (dk_at dksX9_adds_2 18 rfl rfl)
theorem dX9_adds_67 : decode cX9_adds 67 = .ok (.iastore, 1) := dk_79 (dk_at dksX9_adds_2 19 rfl rfl)
theorem dX9_adds_68 : decode cX9_adds 68 = .ok (.aload_n 0, 1) := dk_42 (dk_at dksX9_adds_2 20 rfl rfl)
theorem dX9_adds_69 : decode cX9_adds 69 = .ok (.iload_n 1, 1) := dk_27 (dk_at dksX9_adds_2 21 rfl rfl)
theorem dX9_adds_70 : decode cX9_adds 70 = .ok (.iload 7, 2) := dk_21 7 (dk_at dksX9_adds_2 22 rfl rfl)
theorem dX9_adds_72 : decode cX9_adds 72 = .ok (.iconst 5, 1) := dk_8 (dk_at dksX9_adds_3 0 rfl rfl)
theorem dX9_adds_73 : decode cX9_adds 73 = .ok (.invokestatic 425, 3) := dk_184 1 169 (dk_at dksX9_adds_3 1 rfl rfl)
theorem dX9_adds_76 : decode cX9_adds 76 = .ok (.iconst 0, 1) := dk_3 (dk_at dksX9_adds_3 4 rfl rfl)
theorem dX9_adds_77 : decode cX9_adds 77 = .ok (.iastore, 1) := dk_79 (dk_at dksX9_adds_3 5 rfl rfl)
theorem dX9_adds_78 : decode cX9_adds 78 = .ok (.aload_n 0, 1) := dk_42 (dk_at dksX9_adds_3 6 rfl rfl)
theorem dX9_adds_79 : decode cX9_adds 79 = .ok (.iload_n 1, 1) := dk_27 (dk_at dksX9_adds_3 7 rfl rfl)
theorem dX9_adds_80 : decode cX9_adds 80 = .ok (.iload 7, 2) := dk_21 7 (dk_at dksX9_adds_3 8 rfl rfl)
theorem dX9_adds_82 : decode cX9_adds 82 = .ok (.bipush 6, 2) := dk_16 6 (dk_at dksX9_adds_3 10 rfl rfl)
theorem dX9_adds_84 : decode cX9_adds 84 = .ok (.invokestatic 425, 3) := dk_184 1 169 (dk_at dksX9_adds_3 12 rfl rfl)
theorem dX9_adds_87 : decode cX9_adds 87 = .ok (.iconst 0, 1) := dk_3 (dk_at dksX9_adds_3 15 rfl rfl)
theorem dX9_adds_88 : decode cX9_adds 88 = .ok (.iastore, 1) := dk_79 (dk_at dksX9_adds_3 16 rfl rfl)
theorem dX9_adds_89 : decode cX9_adds 89 = .ok (.aload_n 0, 1) := dk_42 (dk_at dksX9_adds_3 17 rfl rfl)
theorem dX9_adds_90 : decode cX9_adds 90 = .ok (.iload_n 1, 1) := dk_27 (dk_at dksX9_adds_3 18 rfl rfl)
theorem dX9_adds_91 : decode cX9_adds 91 = .ok (.iload 7, 2) := dk_21 7 (dk_at dksX9_adds_3 19 rfl rfl)
theorem dX9_adds_93 : decode cX9_adds 93 = .ok (.bipush 7, 2) := dk_16 7 (dk_at dksX9_adds_3 21 rfl rfl)
theorem dX9_adds_95 : decode cX9_adds 95 = .ok (.invokestatic 425, 3) := dk_184 1 169 (dk_at dksX9_adds_4 0 rfl rfl)
theorem dX9_adds_98 : decode cX9_adds 98 = .ok (.iload 6, 2) := dk_21 6 (dk_at dksX9_adds_4 3 rfl rfl)
theorem dX9_adds_100 : decode cX9_adds 100 = .ok (.iastore, 1) := dk_79 (dk_at dksX9_adds_4 5 rfl rfl)
theorem dX9_adds_101 : decode cX9_adds 101 = .ok (.return_, 1) := dk_177 (dk_at dksX9_adds_4 6 rfl rfl)
abbrev cX9_part : ByteArray := prog_20_method_47_code
def yX9_part : MethodName := ⟨RX9, "part", "(III)I"⟩
def dkwX9_part_0 : List UInt8 := [16, 12, 16, 6, 26, 104, 27, 96, 4, 100, 16, 8, 104, 96, 28, 96, 172]
abbrev dktX9_part_0 : List UInt8 := dkwX9_part_0 ++ []
theorem dksX9_part_0 : cX9_part.data.toList.drop 0 = dktX9_part_0 := by decide +kernel
theorem dX9_part_0 : decode cX9_part 0 = .ok (.bipush 12, 2) := dk_16 12 (dk_at dksX9_part_0 0 rfl rfl)
theorem dX9_part_2 : decode cX9_part 2 = .ok (.bipush 6, 2) := dk_16 6 (dk_at dksX9_part_0 2 rfl rfl)
theorem dX9_part_4 : decode cX9_part 4 = .ok (.iload_n 0, 1) := dk_26 (dk_at dksX9_part_0 4 rfl rfl)
theorem dX9_part_5 : decode cX9_part 5 = .ok (.imul, 1) := dk_104 (dk_at dksX9_part_0 5 rfl rfl)
theorem dX9_part_6 : decode cX9_part 6 = .ok (.iload_n 1, 1) := dk_27 (dk_at dksX9_part_0 6 rfl rfl)
theorem dX9_part_7 : decode cX9_part 7 = .ok (.iadd, 1) := dk_96 (dk_at dksX9_part_0 7 rfl rfl)
theorem dX9_part_8 : decode cX9_part 8 = .ok (.iconst 1, 1) := dk_4 (dk_at dksX9_part_0 8 rfl rfl)
theorem dX9_part_9 : decode cX9_part 9 = .ok (.isub, 1) := dk_100 (dk_at dksX9_part_0 9 rfl rfl)
theorem dX9_part_10 : decode cX9_part 10 = .ok (.bipush 8, 2) := dk_16 8 (dk_at dksX9_part_0 10 rfl rfl)
theorem dX9_part_12 : decode cX9_part 12 = .ok (.imul, 1) := dk_104 (dk_at dksX9_part_0 12 rfl rfl)
theorem dX9_part_13 : decode cX9_part 13 = .ok (.iadd, 1) := dk_96 (dk_at dksX9_part_0 13 rfl rfl)
theorem dX9_part_14 : decode cX9_part 14 = .ok (.iload_n 2, 1) := dk_28 (dk_at dksX9_part_0 14 rfl rfl)
theorem dX9_part_15 : decode cX9_part 15 = .ok (.iadd, 1) := dk_96 (dk_at dksX9_part_0 15 rfl rfl)
theorem dX9_part_16 : decode cX9_part 16 = .ok (.ireturn, 1) := dk_172 (dk_at dksX9_part_0 16 rfl rfl)
abbrev cX9_readHeir : ByteArray := prog_20_method_39_code
def yX9_readHeir : MethodName := ⟨RX9, "readHeir", "()V"⟩
def dkwX9_readHeir_5 : List UInt8 := [89, 180, 1, 132, 4, 96, 181, 1, 132, 177]
abbrev dktX9_readHeir_5 : List UInt8 := dkwX9_readHeir_5 ++ []
def dkwX9_readHeir_4 : List UInt8 := [180, 0, 156, 180, 1, 89, 17, 0, 204, 42, 180, 0, 156, 180, 1, 132, 96, 21, 4, 79, 42, 180, 0, 156]
abbrev dktX9_readHeir_4 : List UInt8 := dkwX9_readHeir_4 ++ dktX9_readHeir_5
def dkwX9_readHeir_3 : List UInt8 := [180, 1, 132, 182, 1, 73, 42, 180, 0, 156, 180, 1, 135, 42, 180, 0, 156, 180, 1, 132, 29, 79, 42]
abbrev dktX9_readHeir_3 : List UInt8 := dkwX9_readHeir_3 ++ dktX9_readHeir_4
def dkwX9_readHeir_2 : List UInt8 := [46, 182, 0, 153, 54, 4, 42, 180, 0, 91, 8, 160, 0, 4, 177, 42, 31, 5, 42, 180, 0, 156]
abbrev dktX9_readHeir_2 : List UInt8 := dkwX9_readHeir_2 ++ dktX9_readHeir_3
def dkwX9_readHeir_1 : List UInt8 := [42, 3, 42, 180, 0, 91, 8, 160, 0, 7, 3, 167, 0, 14, 42, 180, 0, 156, 180, 1, 89, 3, 29, 96]
abbrev dktX9_readHeir_1 : List UInt8 := dkwX9_readHeir_1 ++ dktX9_readHeir_2
def dkwX9_readHeir_0 : List UInt8 := [42, 42, 180, 0, 156, 180, 1, 132, 16, 6, 182, 1, 30, 42, 182, 1, 55, 64, 42, 4, 182, 1, 98, 62]
abbrev dktX9_readHeir_0 : List UInt8 := dkwX9_readHeir_0 ++ dktX9_readHeir_1
theorem dksX9_readHeir_0 : cX9_readHeir.data.toList.drop 0 = dktX9_readHeir_0 := by decide +kernel
theorem dksX9_readHeir_1 : cX9_readHeir.data.toList.drop 24 = dktX9_readHeir_1 := dk_seg dksX9_readHeir_0 24 rfl rfl
theorem dksX9_readHeir_2 : cX9_readHeir.data.toList.drop 48 = dktX9_readHeir_2 := dk_seg dksX9_readHeir_1 24 rfl rfl
theorem dksX9_readHeir_3 : cX9_readHeir.data.toList.drop 70 = dktX9_readHeir_3 := dk_seg dksX9_readHeir_2 22 rfl rfl
theorem dksX9_readHeir_4 : cX9_readHeir.data.toList.drop 93 = dktX9_readHeir_4 := dk_seg dksX9_readHeir_3 23 rfl rfl
theorem dksX9_readHeir_5 : cX9_readHeir.data.toList.drop 117 = dktX9_readHeir_5 := dk_seg dksX9_readHeir_4 24 rfl rfl
theorem dX9_readHeir_0 : decode cX9_readHeir 0 = .ok (.aload_n 0, 1) := dk_42 (dk_at dksX9_readHeir_0 0 rfl rfl)
theorem dX9_readHeir_1 : decode cX9_readHeir 1 = .ok (.aload_n 0, 1) := dk_42 (dk_at dksX9_readHeir_0 1 rfl rfl)
theorem dX9_readHeir_2 : decode cX9_readHeir 2 = .ok (.getfield 156, 3) := dk_180 0 156 (dk_at dksX9_readHeir_0 2 rfl rfl)
theorem dX9_readHeir_5 : decode cX9_readHeir 5 = .ok (.getfield 388, 3) := dk_180 1 132 (dk_at dksX9_readHeir_0 5 rfl rfl)
theorem dX9_readHeir_8 : decode cX9_readHeir 8 = .ok (.bipush 6, 2) := dk_16 6 (dk_at dksX9_readHeir_0 8 rfl rfl)
theorem dX9_readHeir_10 : decode cX9_readHeir 10 = .ok (.invokevirtual 286, 3) := dk_182 1 30 (dk_at dksX9_readHeir_0 10 rfl rfl)
theorem dX9_readHeir_13 : decode cX9_readHeir 13 = .ok (.aload_n 0, 1) := dk_42 (dk_at dksX9_readHeir_0 13 rfl rfl)
theorem dX9_readHeir_14 : decode cX9_readHeir 14 = .ok (.invokevirtual 311, 3) := dk_182 1 55 (dk_at dksX9_readHeir_0 14 rfl rfl)
theorem dX9_readHeir_17 : decode cX9_readHeir 17 = .ok (.lstore_n 1, 1) := dk_64 (dk_at dksX9_readHeir_0 17 rfl rfl)
theorem dX9_readHeir_18 : decode cX9_readHeir 18 = .ok (.aload_n 0, 1) := dk_42 (dk_at dksX9_readHeir_0 18 rfl rfl)
theorem dX9_readHeir_19 : decode cX9_readHeir 19 = .ok (.iconst 1, 1) := dk_4 (dk_at dksX9_readHeir_0 19 rfl rfl)
theorem dX9_readHeir_20 : decode cX9_readHeir 20 = .ok (.invokevirtual 354, 3) := dk_182 1 98 (dk_at dksX9_readHeir_0 20 rfl rfl)
theorem dX9_readHeir_23 : decode cX9_readHeir 23 = .ok (.istore_n 3, 1) := dk_62 (dk_at dksX9_readHeir_0 23 rfl rfl)
theorem dX9_readHeir_24 : decode cX9_readHeir 24 = .ok (.aload_n 0, 1) := dk_42 (dk_at dksX9_readHeir_1 0 rfl rfl)
theorem dX9_readHeir_25 : decode cX9_readHeir 25 = .ok (.iconst 0, 1) := dk_3 (dk_at dksX9_readHeir_1 1 rfl rfl)
theorem dX9_readHeir_26 : decode cX9_readHeir 26 = .ok (.aload_n 0, 1) := dk_42 (dk_at dksX9_readHeir_1 2 rfl rfl)
theorem dX9_readHeir_27 : decode cX9_readHeir 27 = .ok (.getfield 91, 3) := dk_180 0 91 (dk_at dksX9_readHeir_1 3 rfl rfl)
theorem dX9_readHeir_30 : decode cX9_readHeir 30 = .ok (.iconst 5, 1) := dk_8 (dk_at dksX9_readHeir_1 6 rfl rfl)
theorem dX9_readHeir_31 : decode cX9_readHeir 31 = .ok (.if_icmp .ne 7, 3) := dk_160 0 7 (dk_at dksX9_readHeir_1 7 rfl rfl)
theorem dX9_readHeir_34 : decode cX9_readHeir 34 = .ok (.iconst 0, 1) := dk_3 (dk_at dksX9_readHeir_1 10 rfl rfl)
theorem dX9_readHeir_35 : decode cX9_readHeir 35 = .ok (.goto 14, 3) := dk_167 0 14 (dk_at dksX9_readHeir_1 11 rfl rfl)
theorem dX9_readHeir_38 : decode cX9_readHeir 38 = .ok (.aload_n 0, 1) := dk_42 (dk_at dksX9_readHeir_1 14 rfl rfl)
theorem dX9_readHeir_39 : decode cX9_readHeir 39 = .ok (.getfield 156, 3) := dk_180 0 156 (dk_at dksX9_readHeir_1 15 rfl rfl)
theorem dX9_readHeir_42 : decode cX9_readHeir 42 = .ok (.getfield 345, 3) := dk_180 1 89 (dk_at dksX9_readHeir_1 18 rfl rfl)
theorem dX9_readHeir_45 : decode cX9_readHeir 45 = .ok (.iconst 0, 1) := dk_3 (dk_at dksX9_readHeir_1 21 rfl rfl)
theorem dX9_readHeir_46 : decode cX9_readHeir 46 = .ok (.iload_n 3, 1) := dk_29 (dk_at dksX9_readHeir_1 22 rfl rfl)
theorem dX9_readHeir_47 : decode cX9_readHeir 47 = .ok (.iadd, 1) := dk_96 (dk_at dksX9_readHeir_1 23 rfl rfl)
theorem dX9_readHeir_48 : decode cX9_readHeir 48 = .ok (.iaload, 1) := dk_46 (dk_at dksX9_readHeir_2 0 rfl rfl)
theorem dX9_readHeir_49 : decode cX9_readHeir 49 = .ok (.invokevirtual 153, 3) := dk_182 0 153 (dk_at dksX9_readHeir_2 1 rfl rfl)
theorem dX9_readHeir_52 : decode cX9_readHeir 52 = .ok (.istore 4, 2) := dk_54 4 (dk_at dksX9_readHeir_2 4 rfl rfl)
theorem dX9_readHeir_54 : decode cX9_readHeir 54 = .ok (.aload_n 0, 1) := dk_42 (dk_at dksX9_readHeir_2 6 rfl rfl)
theorem dX9_readHeir_55 : decode cX9_readHeir 55 = .ok (.getfield 91, 3) := dk_180 0 91 (dk_at dksX9_readHeir_2 7 rfl rfl)
theorem dX9_readHeir_58 : decode cX9_readHeir 58 = .ok (.iconst 5, 1) := dk_8 (dk_at dksX9_readHeir_2 10 rfl rfl)
theorem dX9_readHeir_59 : decode cX9_readHeir 59 = .ok (.if_icmp .ne 4, 3) := dk_160 0 4 (dk_at dksX9_readHeir_2 11 rfl rfl)
theorem dX9_readHeir_62 : decode cX9_readHeir 62 = .ok (.return_, 1) := dk_177 (dk_at dksX9_readHeir_2 14 rfl rfl)
theorem dX9_readHeir_63 : decode cX9_readHeir 63 = .ok (.aload_n 0, 1) := dk_42 (dk_at dksX9_readHeir_2 15 rfl rfl)
theorem dX9_readHeir_64 : decode cX9_readHeir 64 = .ok (.lload_n 1, 1) := dk_31 (dk_at dksX9_readHeir_2 16 rfl rfl)
theorem dX9_readHeir_65 : decode cX9_readHeir 65 = .ok (.iconst 2, 1) := dk_5 (dk_at dksX9_readHeir_2 17 rfl rfl)
theorem dX9_readHeir_66 : decode cX9_readHeir 66 = .ok (.aload_n 0, 1) := dk_42 (dk_at dksX9_readHeir_2 18 rfl rfl)
theorem dX9_readHeir_67 : decode cX9_readHeir 67 = .ok (.getfield 156, 3) := dk_180 0 156 (dk_at dksX9_readHeir_2 19 rfl rfl)
theorem dX9_readHeir_70 : decode cX9_readHeir 70 = .ok (.getfield 388, 3) := dk_180 1 132 (dk_at dksX9_readHeir_3 0 rfl rfl)
theorem dX9_readHeir_73 : decode cX9_readHeir 73 = .ok (.invokevirtual 329, 3) := dk_182 1 73 (dk_at dksX9_readHeir_3 3 rfl rfl)
theorem dX9_readHeir_76 : decode cX9_readHeir 76 = .ok (.aload_n 0, 1) := dk_42 (dk_at dksX9_readHeir_3 6 rfl rfl)
theorem dX9_readHeir_77 : decode cX9_readHeir 77 = .ok (.getfield 156, 3) := dk_180 0 156 (dk_at dksX9_readHeir_3 7 rfl rfl)
theorem dX9_readHeir_80 : decode cX9_readHeir 80 = .ok (.getfield 391, 3) := dk_180 1 135 (dk_at dksX9_readHeir_3 10 rfl rfl)
theorem dX9_readHeir_83 : decode cX9_readHeir 83 = .ok (.aload_n 0, 1) := dk_42 (dk_at dksX9_readHeir_3 13 rfl rfl)
theorem dX9_readHeir_84 : decode cX9_readHeir 84 = .ok (.getfield 156, 3) := dk_180 0 156 (dk_at dksX9_readHeir_3 14 rfl rfl)
theorem dX9_readHeir_87 : decode cX9_readHeir 87 = .ok (.getfield 388, 3) := dk_180 1 132 (dk_at dksX9_readHeir_3 17 rfl rfl)
theorem dX9_readHeir_90 : decode cX9_readHeir 90 = .ok (.iload_n 3, 1) := dk_29 (dk_at dksX9_readHeir_3 20 rfl rfl)
theorem dX9_readHeir_91 : decode cX9_readHeir 91 = .ok (.iastore, 1) := dk_79 (dk_at dksX9_readHeir_3 21 rfl rfl)
theorem dX9_readHeir_92 : decode cX9_readHeir 92 = .ok (.aload_n 0, 1) := dk_42 (dk_at dksX9_readHeir_3 22 rfl rfl)
theorem dX9_readHeir_93 : decode cX9_readHeir 93 = .ok (.getfield 156, 3) := dk_180 0 156 (dk_at dksX9_readHeir_4 0 rfl rfl)
theorem dX9_readHeir_96 : decode cX9_readHeir 96 = .ok (.getfield 345, 3) := dk_180 1 89 (dk_at dksX9_readHeir_4 3 rfl rfl)
theorem dX9_readHeir_99 : decode cX9_readHeir 99 = .ok (.sipush 204, 3) := dk_17 0 204 (dk_at dksX9_readHeir_4 6 rfl rfl)
theorem dX9_readHeir_102 : decode cX9_readHeir 102 = .ok (.aload_n 0, 1) := dk_42 (dk_at dksX9_readHeir_4 9 rfl rfl)
theorem dX9_readHeir_103 : decode cX9_readHeir 103 = .ok (.getfield 156, 3) := dk_180 0 156 (dk_at dksX9_readHeir_4 10 rfl rfl)
theorem dX9_readHeir_106 : decode cX9_readHeir 106 = .ok (.getfield 388, 3) := dk_180 1 132 (dk_at dksX9_readHeir_4 13 rfl rfl)
theorem dX9_readHeir_109 : decode cX9_readHeir 109 = .ok (.iadd, 1) := dk_96 (dk_at dksX9_readHeir_4 16 rfl rfl)
theorem dX9_readHeir_110 : decode cX9_readHeir 110 = .ok (.iload 4, 2) := dk_21 4 (dk_at dksX9_readHeir_4 17 rfl rfl)
theorem dX9_readHeir_112 : decode cX9_readHeir 112 = .ok (.iastore, 1) := dk_79 (dk_at dksX9_readHeir_4 19 rfl rfl)
theorem dX9_readHeir_113 : decode cX9_readHeir 113 = .ok (.aload_n 0, 1) := dk_42 (dk_at dksX9_readHeir_4 20 rfl rfl)
theorem dX9_readHeir_114 : decode cX9_readHeir 114 = .ok (.getfield 156, 3) := dk_180 0 156 (dk_at dksX9_readHeir_4 21 rfl rfl)
theorem dX9_readHeir_117 : decode cX9_readHeir 117 = .ok (.dup, 1) := dk_89 (dk_at dksX9_readHeir_5 0 rfl rfl)
theorem dX9_readHeir_118 : decode cX9_readHeir 118 = .ok (.getfield 388, 3) := dk_180 1 132 (dk_at dksX9_readHeir_5 1 rfl rfl)
theorem dX9_readHeir_121 : decode cX9_readHeir 121 = .ok (.iconst 1, 1) := dk_4 (dk_at dksX9_readHeir_5 4 rfl rfl)
theorem dX9_readHeir_122 : decode cX9_readHeir 122 = .ok (.iadd, 1) := dk_96 (dk_at dksX9_readHeir_5 5 rfl rfl)
theorem dX9_readHeir_123 : decode cX9_readHeir 123 = .ok (.putfield 388, 3) := dk_181 1 132 (dk_at dksX9_readHeir_5 6 rfl rfl)
theorem dX9_readHeir_126 : decode cX9_readHeir 126 = .ok (.return_, 1) := dk_177 (dk_at dksX9_readHeir_5 9 rfl rfl)
abbrev cX9_readWall : ByteArray := prog_20_method_40_code
def yX9_readWall : MethodName := ⟨RX9, "readWall", "()V"⟩
def dkwX9_readWall_3 : List UInt8 := [79, 42, 180, 0, 156, 89, 180, 1, 138, 4, 96, 181, 1, 138, 177]
abbrev dktX9_readWall_3 : List UInt8 := dkwX9_readWall_3 ++ []
def dkwX9_readWall_2 : List UInt8 := [42, 180, 0, 156, 180, 1, 138, 2, 79, 42, 180, 0, 156, 180, 1, 143, 42, 180, 0, 156, 180, 1, 138, 2]
abbrev dktX9_readWall_2 : List UInt8 := dkwX9_readWall_2 ++ dktX9_readWall_3
def dkwX9_readWall_1 : List UInt8 := [160, 0, 4, 177, 42, 31, 6, 42, 180, 0, 156, 180, 1, 138, 182, 1, 73, 42, 180, 0, 156, 180, 1, 141]
abbrev dktX9_readWall_1 : List UInt8 := dkwX9_readWall_1 ++ dktX9_readWall_2
def dkwX9_readWall_0 : List UInt8 := [42, 42, 180, 0, 156, 180, 1, 138, 16, 6, 182, 1, 30, 42, 182, 1, 55, 64, 42, 180, 0, 91, 8]
abbrev dktX9_readWall_0 : List UInt8 := dkwX9_readWall_0 ++ dktX9_readWall_1
theorem dksX9_readWall_0 : cX9_readWall.data.toList.drop 0 = dktX9_readWall_0 := by decide +kernel
theorem dksX9_readWall_1 : cX9_readWall.data.toList.drop 23 = dktX9_readWall_1 := dk_seg dksX9_readWall_0 23 rfl rfl
theorem dksX9_readWall_2 : cX9_readWall.data.toList.drop 47 = dktX9_readWall_2 := dk_seg dksX9_readWall_1 24 rfl rfl
theorem dksX9_readWall_3 : cX9_readWall.data.toList.drop 71 = dktX9_readWall_3 := dk_seg dksX9_readWall_2 24 rfl rfl
theorem dX9_readWall_0 : decode cX9_readWall 0 = .ok (.aload_n 0, 1) := dk_42 (dk_at dksX9_readWall_0 0 rfl rfl)
theorem dX9_readWall_1 : decode cX9_readWall 1 = .ok (.aload_n 0, 1) := dk_42 (dk_at dksX9_readWall_0 1 rfl rfl)
theorem dX9_readWall_2 : decode cX9_readWall 2 = .ok (.getfield 156, 3) := dk_180 0 156 (dk_at dksX9_readWall_0 2 rfl rfl)
theorem dX9_readWall_5 : decode cX9_readWall 5 = .ok (.getfield 394, 3) := dk_180 1 138 (dk_at dksX9_readWall_0 5 rfl rfl)
theorem dX9_readWall_8 : decode cX9_readWall 8 = .ok (.bipush 6, 2) := dk_16 6 (dk_at dksX9_readWall_0 8 rfl rfl)
theorem dX9_readWall_10 : decode cX9_readWall 10 = .ok (.invokevirtual 286, 3) := dk_182 1 30 (dk_at dksX9_readWall_0 10 rfl rfl)
theorem dX9_readWall_13 : decode cX9_readWall 13 = .ok (.aload_n 0, 1) := dk_42 (dk_at dksX9_readWall_0 13 rfl rfl)
theorem dX9_readWall_14 : decode cX9_readWall 14 = .ok (.invokevirtual 311, 3) := dk_182 1 55 (dk_at dksX9_readWall_0 14 rfl rfl)
theorem dX9_readWall_17 : decode cX9_readWall 17 = .ok (.lstore_n 1, 1) := dk_64 (dk_at dksX9_readWall_0 17 rfl rfl)
theorem dX9_readWall_18 : decode cX9_readWall 18 = .ok (.aload_n 0, 1) := dk_42 (dk_at dksX9_readWall_0 18 rfl rfl)
theorem dX9_readWall_19 : decode cX9_readWall 19 = .ok (.getfield 91, 3) := dk_180 0 91 (dk_at dksX9_readWall_0 19 rfl rfl)
theorem dX9_readWall_22 : decode cX9_readWall 22 = .ok (.iconst 5, 1) := dk_8 (dk_at dksX9_readWall_0 22 rfl rfl)
theorem dX9_readWall_23 : decode cX9_readWall 23 = .ok (.if_icmp .ne 4, 3) := dk_160 0 4 (dk_at dksX9_readWall_1 0 rfl rfl)
theorem dX9_readWall_26 : decode cX9_readWall 26 = .ok (.return_, 1) := dk_177 (dk_at dksX9_readWall_1 3 rfl rfl)
theorem dX9_readWall_27 : decode cX9_readWall 27 = .ok (.aload_n 0, 1) := dk_42 (dk_at dksX9_readWall_1 4 rfl rfl)
theorem dX9_readWall_28 : decode cX9_readWall 28 = .ok (.lload_n 1, 1) := dk_31 (dk_at dksX9_readWall_1 5 rfl rfl)
theorem dX9_readWall_29 : decode cX9_readWall 29 = .ok (.iconst 3, 1) := dk_6 (dk_at dksX9_readWall_1 6 rfl rfl)
theorem dX9_readWall_30 : decode cX9_readWall 30 = .ok (.aload_n 0, 1) := dk_42 (dk_at dksX9_readWall_1 7 rfl rfl)
theorem dX9_readWall_31 : decode cX9_readWall 31 = .ok (.getfield 156, 3) := dk_180 0 156 (dk_at dksX9_readWall_1 8 rfl rfl)
theorem dX9_readWall_34 : decode cX9_readWall 34 = .ok (.getfield 394, 3) := dk_180 1 138 (dk_at dksX9_readWall_1 11 rfl rfl)
theorem dX9_readWall_37 : decode cX9_readWall 37 = .ok (.invokevirtual 329, 3) := dk_182 1 73 (dk_at dksX9_readWall_1 14 rfl rfl)
theorem dX9_readWall_40 : decode cX9_readWall 40 = .ok (.aload_n 0, 1) := dk_42 (dk_at dksX9_readWall_1 17 rfl rfl)
theorem dX9_readWall_41 : decode cX9_readWall 41 = .ok (.getfield 156, 3) := dk_180 0 156 (dk_at dksX9_readWall_1 18 rfl rfl)
theorem dX9_readWall_44 : decode cX9_readWall 44 = .ok (.getfield 397, 3) := dk_180 1 141 (dk_at dksX9_readWall_1 21 rfl rfl)
theorem dX9_readWall_47 : decode cX9_readWall 47 = .ok (.aload_n 0, 1) := dk_42 (dk_at dksX9_readWall_2 0 rfl rfl)
theorem dX9_readWall_48 : decode cX9_readWall 48 = .ok (.getfield 156, 3) := dk_180 0 156 (dk_at dksX9_readWall_2 1 rfl rfl)
theorem dX9_readWall_51 : decode cX9_readWall 51 = .ok (.getfield 394, 3) := dk_180 1 138 (dk_at dksX9_readWall_2 4 rfl rfl)
theorem dX9_readWall_54 : decode cX9_readWall 54 = .ok (.iconst (-1), 1) := dk_2 (dk_at dksX9_readWall_2 7 rfl rfl)
theorem dX9_readWall_55 : decode cX9_readWall 55 = .ok (.iastore, 1) := dk_79 (dk_at dksX9_readWall_2 8 rfl rfl)
theorem dX9_readWall_56 : decode cX9_readWall 56 = .ok (.aload_n 0, 1) := dk_42 (dk_at dksX9_readWall_2 9 rfl rfl)
theorem dX9_readWall_57 : decode cX9_readWall 57 = .ok (.getfield 156, 3) := dk_180 0 156 (dk_at dksX9_readWall_2 10 rfl rfl)
theorem dX9_readWall_60 : decode cX9_readWall 60 = .ok (.getfield 399, 3) := dk_180 1 143 (dk_at dksX9_readWall_2 13 rfl rfl)
theorem dX9_readWall_63 : decode cX9_readWall 63 = .ok (.aload_n 0, 1) := dk_42 (dk_at dksX9_readWall_2 16 rfl rfl)
theorem dX9_readWall_64 : decode cX9_readWall 64 = .ok (.getfield 156, 3) := dk_180 0 156 (dk_at dksX9_readWall_2 17 rfl rfl)
theorem dX9_readWall_67 : decode cX9_readWall 67 = .ok (.getfield 394, 3) := dk_180 1 138 (dk_at dksX9_readWall_2 20 rfl rfl)
theorem dX9_readWall_70 : decode cX9_readWall 70 = .ok (.iconst (-1), 1) := dk_2 (dk_at dksX9_readWall_2 23 rfl rfl)
theorem dX9_readWall_71 : decode cX9_readWall 71 = .ok (.iastore, 1) := dk_79 (dk_at dksX9_readWall_3 0 rfl rfl)
theorem dX9_readWall_72 : decode cX9_readWall 72 = .ok (.aload_n 0, 1) := dk_42 (dk_at dksX9_readWall_3 1 rfl rfl)
theorem dX9_readWall_73 : decode cX9_readWall 73 = .ok (.getfield 156, 3) := dk_180 0 156 (dk_at dksX9_readWall_3 2 rfl rfl)
theorem dX9_readWall_76 : decode cX9_readWall 76 = .ok (.dup, 1) := dk_89 (dk_at dksX9_readWall_3 5 rfl rfl)
theorem dX9_readWall_77 : decode cX9_readWall 77 = .ok (.getfield 394, 3) := dk_180 1 138 (dk_at dksX9_readWall_3 6 rfl rfl)
theorem dX9_readWall_80 : decode cX9_readWall 80 = .ok (.iconst 1, 1) := dk_4 (dk_at dksX9_readWall_3 9 rfl rfl)
theorem dX9_readWall_81 : decode cX9_readWall 81 = .ok (.iadd, 1) := dk_96 (dk_at dksX9_readWall_3 10 rfl rfl)
theorem dX9_readWall_82 : decode cX9_readWall 82 = .ok (.putfield 394, 3) := dk_181 1 138 (dk_at dksX9_readWall_3 11 rfl rfl)
theorem dX9_readWall_85 : decode cX9_readWall 85 = .ok (.return_, 1) := dk_177 (dk_at dksX9_readWall_3 14 rfl rfl)
abbrev cX9_readOlder : ByteArray := prog_20_method_41_code
def yX9_readOlder : MethodName := ⟨RX9, "readOlder", "()V"⟩
def dkwX9_readOlder_4 : List UInt8 := [92, 46, 4, 28, 120, 128, 79, 42, 180, 0, 156, 89, 180, 1, 145, 4, 96, 181, 1, 145, 177]
abbrev dktX9_readOlder_4 : List UInt8 := dkwX9_readOlder_4 ++ []
def dkwX9_readOlder_3 : List UInt8 := [182, 0, 137, 42, 182, 0, 130, 42, 180, 0, 91, 8, 160, 0, 4, 177, 42, 180, 0, 156, 180, 1, 148, 27]
abbrev dktX9_readOlder_3 : List UInt8 := dkwX9_readOlder_3 ++ dktX9_readOlder_4
def dkwX9_readOlder_2 : List UInt8 := [184, 1, 150, 154, 0, 19, 42, 180, 0, 156, 180, 1, 148, 28, 46, 27, 184, 1, 150, 153, 0, 8, 42, 6]
abbrev dktX9_readOlder_2 : List UInt8 := dkwX9_readOlder_2 ++ dktX9_readOlder_3
def dkwX9_readOlder_1 : List UInt8 := [61, 42, 180, 0, 91, 8, 159, 0, 45, 27, 28, 159, 0, 35, 42, 180, 0, 156, 180, 1, 148, 27, 46, 28]
abbrev dktX9_readOlder_1 : List UInt8 := dkwX9_readOlder_1 ++ dktX9_readOlder_2
def dkwX9_readOlder_0 : List UInt8 := [42, 42, 180, 0, 156, 180, 1, 145, 16, 8, 182, 1, 30, 42, 6, 182, 1, 98, 60, 42, 6, 182, 0, 214]
abbrev dktX9_readOlder_0 : List UInt8 := dkwX9_readOlder_0 ++ dktX9_readOlder_1
theorem dksX9_readOlder_0 : cX9_readOlder.data.toList.drop 0 = dktX9_readOlder_0 := by decide +kernel
theorem dksX9_readOlder_1 : cX9_readOlder.data.toList.drop 24 = dktX9_readOlder_1 := dk_seg dksX9_readOlder_0 24 rfl rfl
theorem dksX9_readOlder_2 : cX9_readOlder.data.toList.drop 48 = dktX9_readOlder_2 := dk_seg dksX9_readOlder_1 24 rfl rfl
theorem dksX9_readOlder_3 : cX9_readOlder.data.toList.drop 72 = dktX9_readOlder_3 := dk_seg dksX9_readOlder_2 24 rfl rfl
theorem dksX9_readOlder_4 : cX9_readOlder.data.toList.drop 96 = dktX9_readOlder_4 := dk_seg dksX9_readOlder_3 24 rfl rfl
theorem dX9_readOlder_0 : decode cX9_readOlder 0 = .ok (.aload_n 0, 1) := dk_42 (dk_at dksX9_readOlder_0 0 rfl rfl)
theorem dX9_readOlder_1 : decode cX9_readOlder 1 = .ok (.aload_n 0, 1) := dk_42 (dk_at dksX9_readOlder_0 1 rfl rfl)
theorem dX9_readOlder_2 : decode cX9_readOlder 2 = .ok (.getfield 156, 3) := dk_180 0 156 (dk_at dksX9_readOlder_0 2 rfl rfl)
theorem dX9_readOlder_5 : decode cX9_readOlder 5 = .ok (.getfield 401, 3) := dk_180 1 145 (dk_at dksX9_readOlder_0 5 rfl rfl)
theorem dX9_readOlder_8 : decode cX9_readOlder 8 = .ok (.bipush 8, 2) := dk_16 8 (dk_at dksX9_readOlder_0 8 rfl rfl)
theorem dX9_readOlder_10 : decode cX9_readOlder 10 = .ok (.invokevirtual 286, 3) := dk_182 1 30 (dk_at dksX9_readOlder_0 10 rfl rfl)
theorem dX9_readOlder_13 : decode cX9_readOlder 13 = .ok (.aload_n 0, 1) := dk_42 (dk_at dksX9_readOlder_0 13 rfl rfl)
theorem dX9_readOlder_14 : decode cX9_readOlder 14 = .ok (.iconst 3, 1) := dk_6 (dk_at dksX9_readOlder_0 14 rfl rfl)
theorem dX9_readOlder_15 : decode cX9_readOlder 15 = .ok (.invokevirtual 354, 3) := dk_182 1 98 (dk_at dksX9_readOlder_0 15 rfl rfl)
theorem dX9_readOlder_18 : decode cX9_readOlder 18 = .ok (.istore_n 1, 1) := dk_60 (dk_at dksX9_readOlder_0 18 rfl rfl)
theorem dX9_readOlder_19 : decode cX9_readOlder 19 = .ok (.aload_n 0, 1) := dk_42 (dk_at dksX9_readOlder_0 19 rfl rfl)
theorem dX9_readOlder_20 : decode cX9_readOlder 20 = .ok (.iconst 3, 1) := dk_6 (dk_at dksX9_readOlder_0 20 rfl rfl)
theorem dX9_readOlder_21 : decode cX9_readOlder 21 = .ok (.invokevirtual 214, 3) := dk_182 0 214 (dk_at dksX9_readOlder_0 21 rfl rfl)
theorem dX9_readOlder_24 : decode cX9_readOlder 24 = .ok (.istore_n 2, 1) := dk_61 (dk_at dksX9_readOlder_1 0 rfl rfl)
theorem dX9_readOlder_25 : decode cX9_readOlder 25 = .ok (.aload_n 0, 1) := dk_42 (dk_at dksX9_readOlder_1 1 rfl rfl)
theorem dX9_readOlder_26 : decode cX9_readOlder 26 = .ok (.getfield 91, 3) := dk_180 0 91 (dk_at dksX9_readOlder_1 2 rfl rfl)
theorem dX9_readOlder_29 : decode cX9_readOlder 29 = .ok (.iconst 5, 1) := dk_8 (dk_at dksX9_readOlder_1 5 rfl rfl)
theorem dX9_readOlder_30 : decode cX9_readOlder 30 = .ok (.if_icmp .eq 45, 3) := dk_159 0 45 (dk_at dksX9_readOlder_1 6 rfl rfl)
theorem dX9_readOlder_33 : decode cX9_readOlder 33 = .ok (.iload_n 1, 1) := dk_27 (dk_at dksX9_readOlder_1 9 rfl rfl)
theorem dX9_readOlder_34 : decode cX9_readOlder 34 = .ok (.iload_n 2, 1) := dk_28 (dk_at dksX9_readOlder_1 10 rfl rfl)
theorem dX9_readOlder_35 : decode cX9_readOlder 35 = .ok (.if_icmp .eq 35, 3) := dk_159 0 35 (dk_at dksX9_readOlder_1 11 rfl rfl)
theorem dX9_readOlder_38 : decode cX9_readOlder 38 = .ok (.aload_n 0, 1) := dk_42 (dk_at dksX9_readOlder_1 14 rfl rfl)
theorem dX9_readOlder_39 : decode cX9_readOlder 39 = .ok (.getfield 156, 3) := dk_180 0 156 (dk_at dksX9_readOlder_1 15 rfl rfl)
theorem dX9_readOlder_42 : decode cX9_readOlder 42 = .ok (.getfield 404, 3) := dk_180 1 148 (dk_at dksX9_readOlder_1 18 rfl rfl)
theorem dX9_readOlder_45 : decode cX9_readOlder 45 = .ok (.iload_n 1, 1) := dk_27 (dk_at dksX9_readOlder_1 21 rfl rfl)
theorem dX9_readOlder_46 : decode cX9_readOlder 46 = .ok (.iaload, 1) := dk_46 (dk_at dksX9_readOlder_1 22 rfl rfl)
theorem dX9_readOlder_47 : decode cX9_readOlder 47 = .ok (.iload_n 2, 1) := dk_28 (dk_at dksX9_readOlder_1 23 rfl rfl)
theorem dX9_readOlder_48 : decode cX9_readOlder 48 = .ok (.invokestatic 406, 3) := dk_184 1 150 (dk_at dksX9_readOlder_2 0 rfl rfl)
theorem dX9_readOlder_51 : decode cX9_readOlder 51 = .ok (.ifCond .ne 19, 3) := dk_154 0 19 (dk_at dksX9_readOlder_2 3 rfl rfl)
theorem dX9_readOlder_54 : decode cX9_readOlder 54 = .ok (.aload_n 0, 1) := dk_42 (dk_at dksX9_readOlder_2 6 rfl rfl)
theorem dX9_readOlder_55 : decode cX9_readOlder 55 = .ok (.getfield 156, 3) := dk_180 0 156 (dk_at dksX9_readOlder_2 7 rfl rfl)
theorem dX9_readOlder_58 : decode cX9_readOlder 58 = .ok (.getfield 404, 3) := dk_180 1 148 (dk_at dksX9_readOlder_2 10 rfl rfl)
theorem dX9_readOlder_61 : decode cX9_readOlder 61 = .ok (.iload_n 2, 1) := dk_28 (dk_at dksX9_readOlder_2 13 rfl rfl)
theorem dX9_readOlder_62 : decode cX9_readOlder 62 = .ok (.iaload, 1) := dk_46 (dk_at dksX9_readOlder_2 14 rfl rfl)
theorem dX9_readOlder_63 : decode cX9_readOlder 63 = .ok (.iload_n 1, 1) := dk_27 (dk_at dksX9_readOlder_2 15 rfl rfl)
theorem dX9_readOlder_64 : decode cX9_readOlder 64 = .ok (.invokestatic 406, 3) := dk_184 1 150 (dk_at dksX9_readOlder_2 16 rfl rfl)
theorem dX9_readOlder_67 : decode cX9_readOlder 67 = .ok (.ifCond .eq 8, 3) := dk_153 0 8 (dk_at dksX9_readOlder_2 19 rfl rfl)
theorem dX9_readOlder_70 : decode cX9_readOlder 70 = .ok (.aload_n 0, 1) := dk_42 (dk_at dksX9_readOlder_2 22 rfl rfl)
theorem dX9_readOlder_71 : decode cX9_readOlder 71 = .ok (.iconst 3, 1) := dk_6 (dk_at dksX9_readOlder_2 23 rfl rfl)
theorem dX9_readOlder_72 : decode cX9_readOlder 72 = .ok (.invokevirtual 137, 3) := dk_182 0 137 (dk_at dksX9_readOlder_3 0 rfl rfl)
theorem dX9_readOlder_75 : decode cX9_readOlder 75 = .ok (.aload_n 0, 1) := dk_42 (dk_at dksX9_readOlder_3 3 rfl rfl)
theorem dX9_readOlder_76 : decode cX9_readOlder 76 = .ok (.invokevirtual 130, 3) := dk_182 0 130 (dk_at dksX9_readOlder_3 4 rfl rfl)
theorem dX9_readOlder_79 : decode cX9_readOlder 79 = .ok (.aload_n 0, 1) := dk_42 (dk_at dksX9_readOlder_3 7 rfl rfl)
theorem dX9_readOlder_80 : decode cX9_readOlder 80 = .ok (.getfield 91, 3) := dk_180 0 91 (dk_at dksX9_readOlder_3 8 rfl rfl)
theorem dX9_readOlder_83 : decode cX9_readOlder 83 = .ok (.iconst 5, 1) := dk_8 (dk_at dksX9_readOlder_3 11 rfl rfl)
theorem dX9_readOlder_84 : decode cX9_readOlder 84 = .ok (.if_icmp .ne 4, 3) := dk_160 0 4 (dk_at dksX9_readOlder_3 12 rfl rfl)
theorem dX9_readOlder_87 : decode cX9_readOlder 87 = .ok (.return_, 1) := dk_177 (dk_at dksX9_readOlder_3 15 rfl rfl)
theorem dX9_readOlder_88 : decode cX9_readOlder 88 = .ok (.aload_n 0, 1) := dk_42 (dk_at dksX9_readOlder_3 16 rfl rfl)
theorem dX9_readOlder_89 : decode cX9_readOlder 89 = .ok (.getfield 156, 3) := dk_180 0 156 (dk_at dksX9_readOlder_3 17 rfl rfl)
theorem dX9_readOlder_92 : decode cX9_readOlder 92 = .ok (.getfield 404, 3) := dk_180 1 148 (dk_at dksX9_readOlder_3 20 rfl rfl)
theorem dX9_readOlder_95 : decode cX9_readOlder 95 = .ok (.iload_n 1, 1) := dk_27 (dk_at dksX9_readOlder_3 23 rfl rfl)
theorem dX9_readOlder_96 : decode cX9_readOlder 96 = .ok (.dup2, 1) := dk_92 (dk_at dksX9_readOlder_4 0 rfl rfl)
theorem dX9_readOlder_97 : decode cX9_readOlder 97 = .ok (.iaload, 1) := dk_46 (dk_at dksX9_readOlder_4 1 rfl rfl)
theorem dX9_readOlder_98 : decode cX9_readOlder 98 = .ok (.iconst 1, 1) := dk_4 (dk_at dksX9_readOlder_4 2 rfl rfl)
theorem dX9_readOlder_99 : decode cX9_readOlder 99 = .ok (.iload_n 2, 1) := dk_28 (dk_at dksX9_readOlder_4 3 rfl rfl)
theorem dX9_readOlder_100 : decode cX9_readOlder 100 = .ok (.ishl, 1) := dk_120 (dk_at dksX9_readOlder_4 4 rfl rfl)
theorem dX9_readOlder_101 : decode cX9_readOlder 101 = .ok (.ior, 1) := dk_128 (dk_at dksX9_readOlder_4 5 rfl rfl)
theorem dX9_readOlder_102 : decode cX9_readOlder 102 = .ok (.iastore, 1) := dk_79 (dk_at dksX9_readOlder_4 6 rfl rfl)
theorem dX9_readOlder_103 : decode cX9_readOlder 103 = .ok (.aload_n 0, 1) := dk_42 (dk_at dksX9_readOlder_4 7 rfl rfl)
theorem dX9_readOlder_104 : decode cX9_readOlder 104 = .ok (.getfield 156, 3) := dk_180 0 156 (dk_at dksX9_readOlder_4 8 rfl rfl)
theorem dX9_readOlder_107 : decode cX9_readOlder 107 = .ok (.dup, 1) := dk_89 (dk_at dksX9_readOlder_4 11 rfl rfl)
theorem dX9_readOlder_108 : decode cX9_readOlder 108 = .ok (.getfield 401, 3) := dk_180 1 145 (dk_at dksX9_readOlder_4 12 rfl rfl)
theorem dX9_readOlder_111 : decode cX9_readOlder 111 = .ok (.iconst 1, 1) := dk_4 (dk_at dksX9_readOlder_4 15 rfl rfl)
theorem dX9_readOlder_112 : decode cX9_readOlder 112 = .ok (.iadd, 1) := dk_96 (dk_at dksX9_readOlder_4 16 rfl rfl)
theorem dX9_readOlder_113 : decode cX9_readOlder 113 = .ok (.putfield 401, 3) := dk_181 1 145 (dk_at dksX9_readOlder_4 17 rfl rfl)
theorem dX9_readOlder_116 : decode cX9_readOlder 116 = .ok (.return_, 1) := dk_177 (dk_at dksX9_readOlder_4 20 rfl rfl)
abbrev cX9_bit : ByteArray := prog_20_method_8_code
def yX9_bit : MethodName := ⟨RX9, "bit", "(II)Z"⟩
def dkwX9_bit_0 : List UInt8 := [26, 27, 122, 4, 126, 4, 160, 0, 7, 4, 167, 0, 4, 3, 172]
abbrev dktX9_bit_0 : List UInt8 := dkwX9_bit_0 ++ []
theorem dksX9_bit_0 : cX9_bit.data.toList.drop 0 = dktX9_bit_0 := by decide +kernel
theorem dX9_bit_0 : decode cX9_bit 0 = .ok (.iload_n 0, 1) := dk_26 (dk_at dksX9_bit_0 0 rfl rfl)
theorem dX9_bit_1 : decode cX9_bit 1 = .ok (.iload_n 1, 1) := dk_27 (dk_at dksX9_bit_0 1 rfl rfl)
theorem dX9_bit_2 : decode cX9_bit 2 = .ok (.ishr, 1) := dk_122 (dk_at dksX9_bit_0 2 rfl rfl)
theorem dX9_bit_3 : decode cX9_bit 3 = .ok (.iconst 1, 1) := dk_4 (dk_at dksX9_bit_0 3 rfl rfl)
theorem dX9_bit_4 : decode cX9_bit 4 = .ok (.iand, 1) := dk_126 (dk_at dksX9_bit_0 4 rfl rfl)
theorem dX9_bit_5 : decode cX9_bit 5 = .ok (.iconst 1, 1) := dk_4 (dk_at dksX9_bit_0 5 rfl rfl)
theorem dX9_bit_6 : decode cX9_bit 6 = .ok (.if_icmp .ne 7, 3) := dk_160 0 7 (dk_at dksX9_bit_0 6 rfl rfl)
theorem dX9_bit_9 : decode cX9_bit 9 = .ok (.iconst 1, 1) := dk_4 (dk_at dksX9_bit_0 9 rfl rfl)
theorem dX9_bit_10 : decode cX9_bit 10 = .ok (.goto 4, 3) := dk_167 0 4 (dk_at dksX9_bit_0 10 rfl rfl)
theorem dX9_bit_13 : decode cX9_bit 13 = .ok (.iconst 0, 1) := dk_3 (dk_at dksX9_bit_0 13 rfl rfl)
theorem dX9_bit_14 : decode cX9_bit 14 = .ok (.ireturn, 1) := dk_172 (dk_at dksX9_bit_0 14 rfl rfl)
abbrev cX9_readSign : ByteArray := prog_20_method_42_code
def yX9_readSign : MethodName := ⟨RX9, "readSign", "(Z)V"⟩
def dkwX9_readSign_4 : List UInt8 := [167, 0, 13, 42, 180, 0, 156, 180, 1, 143, 28, 29, 79, 177]
abbrev dktX9_readSign_4 : List UInt8 := dkwX9_readSign_4 ++ []
def dkwX9_readSign_3 : List UInt8 := [180, 0, 91, 8, 160, 0, 4, 177, 27, 153, 0, 16, 42, 180, 0, 156, 180, 1, 141, 28, 29, 79]
abbrev dktX9_readSign_3 : List UInt8 := dkwX9_readSign_3 ++ dktX9_readSign_4
def dkwX9_readSign_2 : List UInt8 := [159, 0, 8, 42, 6, 182, 0, 137, 42, 182, 0, 130, 42, 3, 17, 3, 231, 182, 0, 153, 62, 42]
abbrev dktX9_readSign_2 : List UInt8 := dkwX9_readSign_2 ++ dktX9_readSign_3
def dkwX9_readSign_1 : List UInt8 := [42, 180, 0, 156, 180, 1, 141, 28, 46, 167, 0, 12, 42, 180, 0, 156, 180, 1, 143, 28, 46, 2]
abbrev dktX9_readSign_1 : List UInt8 := dkwX9_readSign_1 ++ dktX9_readSign_2
def dkwX9_readSign_0 : List UInt8 := [42, 3, 4, 182, 1, 30, 42, 6, 182, 0, 214, 61, 42, 180, 0, 91, 8, 159, 0, 37, 27, 153, 0, 15]
abbrev dktX9_readSign_0 : List UInt8 := dkwX9_readSign_0 ++ dktX9_readSign_1
theorem dksX9_readSign_0 : cX9_readSign.data.toList.drop 0 = dktX9_readSign_0 := by decide +kernel
theorem dksX9_readSign_1 : cX9_readSign.data.toList.drop 24 = dktX9_readSign_1 := dk_seg dksX9_readSign_0 24 rfl rfl
theorem dksX9_readSign_2 : cX9_readSign.data.toList.drop 46 = dktX9_readSign_2 := dk_seg dksX9_readSign_1 22 rfl rfl
theorem dksX9_readSign_3 : cX9_readSign.data.toList.drop 68 = dktX9_readSign_3 := dk_seg dksX9_readSign_2 22 rfl rfl
theorem dksX9_readSign_4 : cX9_readSign.data.toList.drop 90 = dktX9_readSign_4 := dk_seg dksX9_readSign_3 22 rfl rfl
theorem dX9_readSign_0 : decode cX9_readSign 0 = .ok (.aload_n 0, 1) := dk_42 (dk_at dksX9_readSign_0 0 rfl rfl)
theorem dX9_readSign_1 : decode cX9_readSign 1 = .ok (.iconst 0, 1) := dk_3 (dk_at dksX9_readSign_0 1 rfl rfl)
theorem dX9_readSign_2 : decode cX9_readSign 2 = .ok (.iconst 1, 1) := dk_4 (dk_at dksX9_readSign_0 2 rfl rfl)
theorem dX9_readSign_3 : decode cX9_readSign 3 = .ok (.invokevirtual 286, 3) := dk_182 1 30 (dk_at dksX9_readSign_0 3 rfl rfl)
theorem dX9_readSign_6 : decode cX9_readSign 6 = .ok (.aload_n 0, 1) := dk_42 (dk_at dksX9_readSign_0 6 rfl rfl)
theorem dX9_readSign_7 : decode cX9_readSign 7 = .ok (.iconst 3, 1) := dk_6 (dk_at dksX9_readSign_0 7 rfl rfl)
theorem dX9_readSign_8 : decode cX9_readSign 8 = .ok (.invokevirtual 214, 3) := dk_182 0 214 (dk_at dksX9_readSign_0 8 rfl rfl)
theorem dX9_readSign_11 : decode cX9_readSign 11 = .ok (.istore_n 2, 1) := dk_61 (dk_at dksX9_readSign_0 11 rfl rfl)
theorem dX9_readSign_12 : decode cX9_readSign 12 = .ok (.aload_n 0, 1) := dk_42 (dk_at dksX9_readSign_0 12 rfl rfl)
theorem dX9_readSign_13 : decode cX9_readSign 13 = .ok (.getfield 91, 3) := dk_180 0 91 (dk_at dksX9_readSign_0 13 rfl rfl)
theorem dX9_readSign_16 : decode cX9_readSign 16 = .ok (.iconst 5, 1) := dk_8 (dk_at dksX9_readSign_0 16 rfl rfl)
theorem dX9_readSign_17 : decode cX9_readSign 17 = .ok (.if_icmp .eq 37, 3) := dk_159 0 37 (dk_at dksX9_readSign_0 17 rfl rfl)
theorem dX9_readSign_20 : decode cX9_readSign 20 = .ok (.iload_n 1, 1) := dk_27 (dk_at dksX9_readSign_0 20 rfl rfl)
theorem dX9_readSign_21 : decode cX9_readSign 21 = .ok (.ifCond .eq 15, 3) := dk_153 0 15 (dk_at dksX9_readSign_0 21 rfl rfl)
theorem dX9_readSign_24 : decode cX9_readSign 24 = .ok (.aload_n 0, 1) := dk_42 (dk_at dksX9_readSign_1 0 rfl rfl)
theorem dX9_readSign_25 : decode cX9_readSign 25 = .ok (.getfield 156, 3) := dk_180 0 156 (dk_at dksX9_readSign_1 1 rfl rfl)
theorem dX9_readSign_28 : decode cX9_readSign 28 = .ok (.getfield 397, 3) := dk_180 1 141 (dk_at dksX9_readSign_1 4 rfl rfl)
theorem dX9_readSign_31 : decode cX9_readSign 31 = .ok (.iload_n 2, 1) := dk_28 (dk_at dksX9_readSign_1 7 rfl rfl)
theorem dX9_readSign_32 : decode cX9_readSign 32 = .ok (.iaload, 1) := dk_46 (dk_at dksX9_readSign_1 8 rfl rfl)
theorem dX9_readSign_33 : decode cX9_readSign 33 = .ok (.goto 12, 3) := dk_167 0 12 (dk_at dksX9_readSign_1 9 rfl rfl)
theorem dX9_readSign_36 : decode cX9_readSign 36 = .ok (.aload_n 0, 1) := dk_42 (dk_at dksX9_readSign_1 12 rfl rfl)
theorem dX9_readSign_37 : decode cX9_readSign 37 = .ok (.getfield 156, 3) := dk_180 0 156 (dk_at dksX9_readSign_1 13 rfl rfl)
theorem dX9_readSign_40 : decode cX9_readSign 40 = .ok (.getfield 399, 3) := dk_180 1 143 (dk_at dksX9_readSign_1 16 rfl rfl)
theorem dX9_readSign_43 : decode cX9_readSign 43 = .ok (.iload_n 2, 1) := dk_28 (dk_at dksX9_readSign_1 19 rfl rfl)
theorem dX9_readSign_44 : decode cX9_readSign 44 = .ok (.iaload, 1) := dk_46 (dk_at dksX9_readSign_1 20 rfl rfl)
theorem dX9_readSign_45 : decode cX9_readSign 45 = .ok (.iconst (-1), 1) := dk_2 (dk_at dksX9_readSign_1 21 rfl rfl)
theorem dX9_readSign_46 : decode cX9_readSign 46 = .ok (.if_icmp .eq 8, 3) := dk_159 0 8 (dk_at dksX9_readSign_2 0 rfl rfl)
theorem dX9_readSign_49 : decode cX9_readSign 49 = .ok (.aload_n 0, 1) := dk_42 (dk_at dksX9_readSign_2 3 rfl rfl)
theorem dX9_readSign_50 : decode cX9_readSign 50 = .ok (.iconst 3, 1) := dk_6 (dk_at dksX9_readSign_2 4 rfl rfl)
theorem dX9_readSign_51 : decode cX9_readSign 51 = .ok (.invokevirtual 137, 3) := dk_182 0 137 (dk_at dksX9_readSign_2 5 rfl rfl)
theorem dX9_readSign_54 : decode cX9_readSign 54 = .ok (.aload_n 0, 1) := dk_42 (dk_at dksX9_readSign_2 8 rfl rfl)
theorem dX9_readSign_55 : decode cX9_readSign 55 = .ok (.invokevirtual 130, 3) := dk_182 0 130 (dk_at dksX9_readSign_2 9 rfl rfl)
theorem dX9_readSign_58 : decode cX9_readSign 58 = .ok (.aload_n 0, 1) := dk_42 (dk_at dksX9_readSign_2 12 rfl rfl)
theorem dX9_readSign_59 : decode cX9_readSign 59 = .ok (.iconst 0, 1) := dk_3 (dk_at dksX9_readSign_2 13 rfl rfl)
theorem dX9_readSign_60 : decode cX9_readSign 60 = .ok (.sipush 999, 3) := dk_17 3 231 (dk_at dksX9_readSign_2 14 rfl rfl)
theorem dX9_readSign_63 : decode cX9_readSign 63 = .ok (.invokevirtual 153, 3) := dk_182 0 153 (dk_at dksX9_readSign_2 17 rfl rfl)
theorem dX9_readSign_66 : decode cX9_readSign 66 = .ok (.istore_n 3, 1) := dk_62 (dk_at dksX9_readSign_2 20 rfl rfl)
theorem dX9_readSign_67 : decode cX9_readSign 67 = .ok (.aload_n 0, 1) := dk_42 (dk_at dksX9_readSign_2 21 rfl rfl)
theorem dX9_readSign_68 : decode cX9_readSign 68 = .ok (.getfield 91, 3) := dk_180 0 91 (dk_at dksX9_readSign_3 0 rfl rfl)
theorem dX9_readSign_71 : decode cX9_readSign 71 = .ok (.iconst 5, 1) := dk_8 (dk_at dksX9_readSign_3 3 rfl rfl)
theorem dX9_readSign_72 : decode cX9_readSign 72 = .ok (.if_icmp .ne 4, 3) := dk_160 0 4 (dk_at dksX9_readSign_3 4 rfl rfl)
theorem dX9_readSign_75 : decode cX9_readSign 75 = .ok (.return_, 1) := dk_177 (dk_at dksX9_readSign_3 7 rfl rfl)
theorem dX9_readSign_76 : decode cX9_readSign 76 = .ok (.iload_n 1, 1) := dk_27 (dk_at dksX9_readSign_3 8 rfl rfl)
theorem dX9_readSign_77 : decode cX9_readSign 77 = .ok (.ifCond .eq 16, 3) := dk_153 0 16 (dk_at dksX9_readSign_3 9 rfl rfl)
theorem dX9_readSign_80 : decode cX9_readSign 80 = .ok (.aload_n 0, 1) := dk_42 (dk_at dksX9_readSign_3 12 rfl rfl)
theorem dX9_readSign_81 : decode cX9_readSign 81 = .ok (.getfield 156, 3) := dk_180 0 156 (dk_at dksX9_readSign_3 13 rfl rfl)
theorem dX9_readSign_84 : decode cX9_readSign 84 = .ok (.getfield 397, 3) := dk_180 1 141 (dk_at dksX9_readSign_3 16 rfl rfl)
theorem dX9_readSign_87 : decode cX9_readSign 87 = .ok (.iload_n 2, 1) := dk_28 (dk_at dksX9_readSign_3 19 rfl rfl)
theorem dX9_readSign_88 : decode cX9_readSign 88 = .ok (.iload_n 3, 1) := dk_29 (dk_at dksX9_readSign_3 20 rfl rfl)
theorem dX9_readSign_89 : decode cX9_readSign 89 = .ok (.iastore, 1) := dk_79 (dk_at dksX9_readSign_3 21 rfl rfl)
theorem dX9_readSign_90 : decode cX9_readSign 90 = .ok (.goto 13, 3) := dk_167 0 13 (dk_at dksX9_readSign_4 0 rfl rfl)
theorem dX9_readSign_93 : decode cX9_readSign 93 = .ok (.aload_n 0, 1) := dk_42 (dk_at dksX9_readSign_4 3 rfl rfl)
theorem dX9_readSign_94 : decode cX9_readSign 94 = .ok (.getfield 156, 3) := dk_180 0 156 (dk_at dksX9_readSign_4 4 rfl rfl)
theorem dX9_readSign_97 : decode cX9_readSign 97 = .ok (.getfield 399, 3) := dk_180 1 143 (dk_at dksX9_readSign_4 7 rfl rfl)
theorem dX9_readSign_100 : decode cX9_readSign 100 = .ok (.iload_n 2, 1) := dk_28 (dk_at dksX9_readSign_4 10 rfl rfl)
theorem dX9_readSign_101 : decode cX9_readSign 101 = .ok (.iload_n 3, 1) := dk_29 (dk_at dksX9_readSign_4 11 rfl rfl)
theorem dX9_readSign_102 : decode cX9_readSign 102 = .ok (.iastore, 1) := dk_79 (dk_at dksX9_readSign_4 12 rfl rfl)
theorem dX9_readSign_103 : decode cX9_readSign 103 = .ok (.return_, 1) := dk_177 (dk_at dksX9_readSign_4 13 rfl rfl)
abbrev cX9_eatsSign : ByteArray := prog_20_method_17_code
def yX9_eatsSign : MethodName := ⟨RX9, "eatsSign", "(I)Z"⟩
def dkwX9_eatsSign_1 : List UInt8 := [153, 0, 7, 42, 182, 0, 130, 28, 172]
abbrev dktX9_eatsSign_1 : List UInt8 := dkwX9_eatsSign_1 ++ []
def dkwX9_eatsSign_0 : List UInt8 := [42, 180, 0, 91, 7, 160, 0, 15, 42, 180, 0, 103, 27, 160, 0, 7, 4, 167, 0, 4, 3, 61, 28]
abbrev dktX9_eatsSign_0 : List UInt8 := dkwX9_eatsSign_0 ++ dktX9_eatsSign_1
theorem dksX9_eatsSign_0 : cX9_eatsSign.data.toList.drop 0 = dktX9_eatsSign_0 := by decide +kernel
theorem dksX9_eatsSign_1 : cX9_eatsSign.data.toList.drop 23 = dktX9_eatsSign_1 := dk_seg dksX9_eatsSign_0 23 rfl rfl
theorem dX9_eatsSign_0 : decode cX9_eatsSign 0 = .ok (.aload_n 0, 1) := dk_42 (dk_at dksX9_eatsSign_0 0 rfl rfl)
theorem dX9_eatsSign_1 : decode cX9_eatsSign 1 = .ok (.getfield 91, 3) := dk_180 0 91 (dk_at dksX9_eatsSign_0 1 rfl rfl)
theorem dX9_eatsSign_4 : decode cX9_eatsSign 4 = .ok (.iconst 4, 1) := dk_7 (dk_at dksX9_eatsSign_0 4 rfl rfl)
theorem dX9_eatsSign_5 : decode cX9_eatsSign 5 = .ok (.if_icmp .ne 15, 3) := dk_160 0 15 (dk_at dksX9_eatsSign_0 5 rfl rfl)
theorem dX9_eatsSign_8 : decode cX9_eatsSign 8 = .ok (.aload_n 0, 1) := dk_42 (dk_at dksX9_eatsSign_0 8 rfl rfl)
theorem dX9_eatsSign_9 : decode cX9_eatsSign 9 = .ok (.getfield 103, 3) := dk_180 0 103 (dk_at dksX9_eatsSign_0 9 rfl rfl)
theorem dX9_eatsSign_12 : decode cX9_eatsSign 12 = .ok (.iload_n 1, 1) := dk_27 (dk_at dksX9_eatsSign_0 12 rfl rfl)
theorem dX9_eatsSign_13 : decode cX9_eatsSign 13 = .ok (.if_icmp .ne 7, 3) := dk_160 0 7 (dk_at dksX9_eatsSign_0 13 rfl rfl)
theorem dX9_eatsSign_16 : decode cX9_eatsSign 16 = .ok (.iconst 1, 1) := dk_4 (dk_at dksX9_eatsSign_0 16 rfl rfl)
theorem dX9_eatsSign_17 : decode cX9_eatsSign 17 = .ok (.goto 4, 3) := dk_167 0 4 (dk_at dksX9_eatsSign_0 17 rfl rfl)
theorem dX9_eatsSign_20 : decode cX9_eatsSign 20 = .ok (.iconst 0, 1) := dk_3 (dk_at dksX9_eatsSign_0 20 rfl rfl)
theorem dX9_eatsSign_21 : decode cX9_eatsSign 21 = .ok (.istore_n 2, 1) := dk_61 (dk_at dksX9_eatsSign_0 21 rfl rfl)
theorem dX9_eatsSign_22 : decode cX9_eatsSign 22 = .ok (.iload_n 2, 1) := dk_28 (dk_at dksX9_eatsSign_0 22 rfl rfl)
theorem dX9_eatsSign_23 : decode cX9_eatsSign 23 = .ok (.ifCond .eq 7, 3) := dk_153 0 7 (dk_at dksX9_eatsSign_1 0 rfl rfl)
theorem dX9_eatsSign_26 : decode cX9_eatsSign 26 = .ok (.aload_n 0, 1) := dk_42 (dk_at dksX9_eatsSign_1 3 rfl rfl)
theorem dX9_eatsSign_27 : decode cX9_eatsSign 27 = .ok (.invokevirtual 130, 3) := dk_182 0 130 (dk_at dksX9_eatsSign_1 4 rfl rfl)
theorem dX9_eatsSign_30 : decode cX9_eatsSign 30 = .ok (.iload_n 2, 1) := dk_28 (dk_at dksX9_eatsSign_1 7 rfl rfl)
theorem dX9_eatsSign_31 : decode cX9_eatsSign 31 = .ok (.ireturn, 1) := dk_172 (dk_at dksX9_eatsSign_1 8 rfl rfl)
abbrev cX9_good : ByteArray := prog_20_method_5_code
def yX9_good : MethodName := ⟨RX9, "good", "(I)I"⟩
def dkwX9_good_0 : List UInt8 := [42, 3, 181, 0, 66, 42, 2, 181, 0, 9, 27, 172]
abbrev dktX9_good_0 : List UInt8 := dkwX9_good_0 ++ []
theorem dksX9_good_0 : cX9_good.data.toList.drop 0 = dktX9_good_0 := by decide +kernel
theorem dX9_good_0 : decode cX9_good 0 = .ok (.aload_n 0, 1) := dk_42 (dk_at dksX9_good_0 0 rfl rfl)
theorem dX9_good_1 : decode cX9_good 1 = .ok (.iconst 0, 1) := dk_3 (dk_at dksX9_good_0 1 rfl rfl)
theorem dX9_good_2 : decode cX9_good 2 = .ok (.putfield 66, 3) := dk_181 0 66 (dk_at dksX9_good_0 2 rfl rfl)
theorem dX9_good_5 : decode cX9_good 5 = .ok (.aload_n 0, 1) := dk_42 (dk_at dksX9_good_0 5 rfl rfl)
theorem dX9_good_6 : decode cX9_good 6 = .ok (.iconst (-1), 1) := dk_2 (dk_at dksX9_good_0 6 rfl rfl)
theorem dX9_good_7 : decode cX9_good 7 = .ok (.putfield 9, 3) := dk_181 0 9 (dk_at dksX9_good_0 7 rfl rfl)
theorem dX9_good_10 : decode cX9_good 10 = .ok (.iload_n 1, 1) := dk_27 (dk_at dksX9_good_0 10 rfl rfl)
theorem dX9_good_11 : decode cX9_good 11 = .ok (.ireturn, 1) := dk_172 (dk_at dksX9_good_0 11 rfl rfl)
abbrev cX9_fault : ByteArray := prog_20_method_45_code
def yX9_fault : MethodName := ⟨RX9, "fault", "()I"⟩
def dkwX9_fault_0 : List UInt8 := [42, 3, 181, 0, 63, 42, 180, 0, 120, 172]
abbrev dktX9_fault_0 : List UInt8 := dkwX9_fault_0 ++ []
theorem dksX9_fault_0 : cX9_fault.data.toList.drop 0 = dktX9_fault_0 := by decide +kernel
theorem dX9_fault_0 : decode cX9_fault 0 = .ok (.aload_n 0, 1) := dk_42 (dk_at dksX9_fault_0 0 rfl rfl)
theorem dX9_fault_1 : decode cX9_fault 1 = .ok (.iconst 0, 1) := dk_3 (dk_at dksX9_fault_0 1 rfl rfl)
theorem dX9_fault_2 : decode cX9_fault 2 = .ok (.putfield 63, 3) := dk_181 0 63 (dk_at dksX9_fault_0 2 rfl rfl)
theorem dX9_fault_5 : decode cX9_fault 5 = .ok (.aload_n 0, 1) := dk_42 (dk_at dksX9_fault_0 5 rfl rfl)
theorem dX9_fault_6 : decode cX9_fault 6 = .ok (.getfield 120, 3) := dk_180 0 120 (dk_at dksX9_fault_0 6 rfl rfl)
theorem dX9_fault_9 : decode cX9_fault 9 = .ok (.ireturn, 1) := dk_172 (dk_at dksX9_fault_0 9 rfl rfl)
abbrev cX9_where : ByteArray := prog_20_method_46_code
def yX9_where : MethodName := ⟨RX9, "where", "()I"⟩
def dkwX9_where_0 : List UInt8 := [42, 3, 181, 0, 63, 42, 180, 0, 9, 172]
abbrev dktX9_where_0 : List UInt8 := dkwX9_where_0 ++ []
theorem dksX9_where_0 : cX9_where.data.toList.drop 0 = dktX9_where_0 := by decide +kernel
theorem dX9_where_0 : decode cX9_where 0 = .ok (.aload_n 0, 1) := dk_42 (dk_at dksX9_where_0 0 rfl rfl)
theorem dX9_where_1 : decode cX9_where 1 = .ok (.iconst 0, 1) := dk_3 (dk_at dksX9_where_0 1 rfl rfl)
theorem dX9_where_2 : decode cX9_where 2 = .ok (.putfield 63, 3) := dk_181 0 63 (dk_at dksX9_where_0 2 rfl rfl)
theorem dX9_where_5 : decode cX9_where 5 = .ok (.aload_n 0, 1) := dk_42 (dk_at dksX9_where_0 5 rfl rfl)
theorem dX9_where_6 : decode cX9_where 6 = .ok (.getfield 9, 3) := dk_180 0 9 (dk_at dksX9_where_0 6 rfl rfl)
theorem dX9_where_9 : decode cX9_where 9 = .ok (.ireturn, 1) := dk_172 (dk_at dksX9_where_0 9 rfl rfl)
abbrev cX9_whose : ByteArray := prog_20_method_81_code
def yX9_whose : MethodName := ⟨RX9, "whose", "(II)I"⟩
def dkwX9_whose_1 : List UInt8 := [28, 184, 1, 92, 182, 0, 73, 167, 0, 8, 42, 4, 182, 0, 69, 172]
abbrev dktX9_whose_1 : List UInt8 := dkwX9_whose_1 ++ []
def dkwX9_whose_0 : List UInt8 := [42, 3, 181, 0, 63, 42, 27, 28, 182, 2, 9, 153, 0, 23, 42, 42, 180, 1, 161, 42, 180, 0, 17, 27]
abbrev dktX9_whose_0 : List UInt8 := dkwX9_whose_0 ++ dktX9_whose_1
theorem dksX9_whose_0 : cX9_whose.data.toList.drop 0 = dktX9_whose_0 := by decide +kernel
theorem dksX9_whose_1 : cX9_whose.data.toList.drop 24 = dktX9_whose_1 := dk_seg dksX9_whose_0 24 rfl rfl
theorem dX9_whose_0 : decode cX9_whose 0 = .ok (.aload_n 0, 1) := dk_42 (dk_at dksX9_whose_0 0 rfl rfl)
theorem dX9_whose_1 : decode cX9_whose 1 = .ok (.iconst 0, 1) := dk_3 (dk_at dksX9_whose_0 1 rfl rfl)
theorem dX9_whose_2 : decode cX9_whose 2 = .ok (.putfield 63, 3) := dk_181 0 63 (dk_at dksX9_whose_0 2 rfl rfl)
theorem dX9_whose_5 : decode cX9_whose 5 = .ok (.aload_n 0, 1) := dk_42 (dk_at dksX9_whose_0 5 rfl rfl)
theorem dX9_whose_6 : decode cX9_whose 6 = .ok (.iload_n 1, 1) := dk_27 (dk_at dksX9_whose_0 6 rfl rfl)
theorem dX9_whose_7 : decode cX9_whose 7 = .ok (.iload_n 2, 1) := dk_28 (dk_at dksX9_whose_0 7 rfl rfl)
theorem dX9_whose_8 : decode cX9_whose 8 = .ok (.invokevirtual 521, 3) := dk_182 2 9 (dk_at dksX9_whose_0 8 rfl rfl)
theorem dX9_whose_11 : decode cX9_whose 11 = .ok (.ifCond .eq 23, 3) := dk_153 0 23 (dk_at dksX9_whose_0 11 rfl rfl)
theorem dX9_whose_14 : decode cX9_whose 14 = .ok (.aload_n 0, 1) := dk_42 (dk_at dksX9_whose_0 14 rfl rfl)
theorem dX9_whose_15 : decode cX9_whose 15 = .ok (.aload_n 0, 1) := dk_42 (dk_at dksX9_whose_0 15 rfl rfl)
theorem dX9_whose_16 : decode cX9_whose 16 = .ok (.getfield 417, 3) := dk_180 1 161 (dk_at dksX9_whose_0 16 rfl rfl)
theorem dX9_whose_19 : decode cX9_whose 19 = .ok (.aload_n 0, 1) := dk_42 (dk_at dksX9_whose_0 19 rfl rfl)
theorem dX9_whose_20 : decode cX9_whose 20 = .ok (.getfield 17, 3) := dk_180 0 17 (dk_at dksX9_whose_0 20 rfl rfl)
theorem dX9_whose_23 : decode cX9_whose 23 = .ok (.iload_n 1, 1) := dk_27 (dk_at dksX9_whose_0 23 rfl rfl)
theorem dX9_whose_24 : decode cX9_whose 24 = .ok (.iload_n 2, 1) := dk_28 (dk_at dksX9_whose_1 0 rfl rfl)
theorem dX9_whose_25 : decode cX9_whose 25 = .ok (.invokestatic 348, 3) := dk_184 1 92 (dk_at dksX9_whose_1 1 rfl rfl)
theorem dX9_whose_28 : decode cX9_whose 28 = .ok (.invokevirtual 73, 3) := dk_182 0 73 (dk_at dksX9_whose_1 4 rfl rfl)
theorem dX9_whose_31 : decode cX9_whose 31 = .ok (.goto 8, 3) := dk_167 0 8 (dk_at dksX9_whose_1 7 rfl rfl)
theorem dX9_whose_34 : decode cX9_whose 34 = .ok (.aload_n 0, 1) := dk_42 (dk_at dksX9_whose_1 10 rfl rfl)
theorem dX9_whose_35 : decode cX9_whose 35 = .ok (.iconst 1, 1) := dk_4 (dk_at dksX9_whose_1 11 rfl rfl)
theorem dX9_whose_36 : decode cX9_whose 36 = .ok (.invokevirtual 69, 3) := dk_182 0 69 (dk_at dksX9_whose_1 12 rfl rfl)
theorem dX9_whose_39 : decode cX9_whose 39 = .ok (.ireturn, 1) := dk_172 (dk_at dksX9_whose_1 15 rfl rfl)
abbrev cX9_isCell : ByteArray := prog_20_method_80_code
def yX9_isCell : MethodName := ⟨RX9, "isCell", "(II)Z"⟩
def dkwX9_isCell_1 : List UInt8 := [28, 3, 42, 180, 1, 161, 180, 0, 168, 4, 100, 184, 0, 141, 153, 0, 7, 4, 167, 0, 4, 3, 172]
abbrev dktX9_isCell_1 : List UInt8 := dkwX9_isCell_1 ++ []
def dkwX9_isCell_0 : List UInt8 := [42, 180, 1, 161, 198, 0, 41, 27, 3, 42, 180, 1, 161, 180, 0, 160, 4, 100, 184, 0, 141, 153, 0, 24]
abbrev dktX9_isCell_0 : List UInt8 := dkwX9_isCell_0 ++ dktX9_isCell_1
theorem dksX9_isCell_0 : cX9_isCell.data.toList.drop 0 = dktX9_isCell_0 := by decide +kernel
theorem dksX9_isCell_1 : cX9_isCell.data.toList.drop 24 = dktX9_isCell_1 := dk_seg dksX9_isCell_0 24 rfl rfl
theorem dX9_isCell_0 : decode cX9_isCell 0 = .ok (.aload_n 0, 1) := dk_42 (dk_at dksX9_isCell_0 0 rfl rfl)
theorem dX9_isCell_1 : decode cX9_isCell 1 = .ok (.getfield 417, 3) := dk_180 1 161 (dk_at dksX9_isCell_0 1 rfl rfl)
theorem dX9_isCell_4 : decode cX9_isCell 4 = .ok (.ifnull 41, 3) := dk_198 0 41 (dk_at dksX9_isCell_0 4 rfl rfl)
theorem dX9_isCell_7 : decode cX9_isCell 7 = .ok (.iload_n 1, 1) := dk_27 (dk_at dksX9_isCell_0 7 rfl rfl)
theorem dX9_isCell_8 : decode cX9_isCell 8 = .ok (.iconst 0, 1) := dk_3 (dk_at dksX9_isCell_0 8 rfl rfl)
theorem dX9_isCell_9 : decode cX9_isCell 9 = .ok (.aload_n 0, 1) := dk_42 (dk_at dksX9_isCell_0 9 rfl rfl)
theorem dX9_isCell_10 : decode cX9_isCell 10 = .ok (.getfield 417, 3) := dk_180 1 161 (dk_at dksX9_isCell_0 10 rfl rfl)
theorem dX9_isCell_13 : decode cX9_isCell 13 = .ok (.getfield 160, 3) := dk_180 0 160 (dk_at dksX9_isCell_0 13 rfl rfl)
theorem dX9_isCell_16 : decode cX9_isCell 16 = .ok (.iconst 1, 1) := dk_4 (dk_at dksX9_isCell_0 16 rfl rfl)
theorem dX9_isCell_17 : decode cX9_isCell 17 = .ok (.isub, 1) := dk_100 (dk_at dksX9_isCell_0 17 rfl rfl)
theorem dX9_isCell_18 : decode cX9_isCell 18 = .ok (.invokestatic 141, 3) := dk_184 0 141 (dk_at dksX9_isCell_0 18 rfl rfl)
theorem dX9_isCell_21 : decode cX9_isCell 21 = .ok (.ifCond .eq 24, 3) := dk_153 0 24 (dk_at dksX9_isCell_0 21 rfl rfl)
theorem dX9_isCell_24 : decode cX9_isCell 24 = .ok (.iload_n 2, 1) := dk_28 (dk_at dksX9_isCell_1 0 rfl rfl)
theorem dX9_isCell_25 : decode cX9_isCell 25 = .ok (.iconst 0, 1) := dk_3 (dk_at dksX9_isCell_1 1 rfl rfl)
theorem dX9_isCell_26 : decode cX9_isCell 26 = .ok (.aload_n 0, 1) := dk_42 (dk_at dksX9_isCell_1 2 rfl rfl)
theorem dX9_isCell_27 : decode cX9_isCell 27 = .ok (.getfield 417, 3) := dk_180 1 161 (dk_at dksX9_isCell_1 3 rfl rfl)
theorem dX9_isCell_30 : decode cX9_isCell 30 = .ok (.getfield 168, 3) := dk_180 0 168 (dk_at dksX9_isCell_1 6 rfl rfl)
theorem dX9_isCell_33 : decode cX9_isCell 33 = .ok (.iconst 1, 1) := dk_4 (dk_at dksX9_isCell_1 9 rfl rfl)
theorem dX9_isCell_34 : decode cX9_isCell 34 = .ok (.isub, 1) := dk_100 (dk_at dksX9_isCell_1 10 rfl rfl)
theorem dX9_isCell_35 : decode cX9_isCell 35 = .ok (.invokestatic 141, 3) := dk_184 0 141 (dk_at dksX9_isCell_1 11 rfl rfl)
theorem dX9_isCell_38 : decode cX9_isCell 38 = .ok (.ifCond .eq 7, 3) := dk_153 0 7 (dk_at dksX9_isCell_1 14 rfl rfl)
theorem dX9_isCell_41 : decode cX9_isCell 41 = .ok (.iconst 1, 1) := dk_4 (dk_at dksX9_isCell_1 17 rfl rfl)
theorem dX9_isCell_42 : decode cX9_isCell 42 = .ok (.goto 4, 3) := dk_167 0 4 (dk_at dksX9_isCell_1 18 rfl rfl)
theorem dX9_isCell_45 : decode cX9_isCell 45 = .ok (.iconst 0, 1) := dk_3 (dk_at dksX9_isCell_1 21 rfl rfl)
theorem dX9_isCell_46 : decode cX9_isCell 46 = .ok (.ireturn, 1) := dk_172 (dk_at dksX9_isCell_1 22 rfl rfl)
abbrev cX9_shared : ByteArray := prog_20_method_83_code
def yX9_shared : MethodName := ⟨RX9, "shared", "()I"⟩
def dkwX9_shared_1 : List UInt8 := [3, 182, 2, 18, 182, 0, 73, 172]
abbrev dktX9_shared_1 : List UInt8 := dkwX9_shared_1 ++ []
def dkwX9_shared_0 : List UInt8 := [42, 3, 181, 0, 63, 42, 180, 1, 161, 199, 0, 11, 42, 4, 182, 0, 69, 167, 0, 14, 42, 42, 5, 7]
abbrev dktX9_shared_0 : List UInt8 := dkwX9_shared_0 ++ dktX9_shared_1
theorem dksX9_shared_0 : cX9_shared.data.toList.drop 0 = dktX9_shared_0 := by decide +kernel
theorem dksX9_shared_1 : cX9_shared.data.toList.drop 24 = dktX9_shared_1 := dk_seg dksX9_shared_0 24 rfl rfl
theorem dX9_shared_0 : decode cX9_shared 0 = .ok (.aload_n 0, 1) := dk_42 (dk_at dksX9_shared_0 0 rfl rfl)
theorem dX9_shared_1 : decode cX9_shared 1 = .ok (.iconst 0, 1) := dk_3 (dk_at dksX9_shared_0 1 rfl rfl)
theorem dX9_shared_2 : decode cX9_shared 2 = .ok (.putfield 63, 3) := dk_181 0 63 (dk_at dksX9_shared_0 2 rfl rfl)
theorem dX9_shared_5 : decode cX9_shared 5 = .ok (.aload_n 0, 1) := dk_42 (dk_at dksX9_shared_0 5 rfl rfl)
theorem dX9_shared_6 : decode cX9_shared 6 = .ok (.getfield 417, 3) := dk_180 1 161 (dk_at dksX9_shared_0 6 rfl rfl)
theorem dX9_shared_9 : decode cX9_shared 9 = .ok (.ifnonnull 11, 3) := dk_199 0 11 (dk_at dksX9_shared_0 9 rfl rfl)
theorem dX9_shared_12 : decode cX9_shared 12 = .ok (.aload_n 0, 1) := dk_42 (dk_at dksX9_shared_0 12 rfl rfl)
theorem dX9_shared_13 : decode cX9_shared 13 = .ok (.iconst 1, 1) := dk_4 (dk_at dksX9_shared_0 13 rfl rfl)
theorem dX9_shared_14 : decode cX9_shared 14 = .ok (.invokevirtual 69, 3) := dk_182 0 69 (dk_at dksX9_shared_0 14 rfl rfl)
theorem dX9_shared_17 : decode cX9_shared 17 = .ok (.goto 14, 3) := dk_167 0 14 (dk_at dksX9_shared_0 17 rfl rfl)
theorem dX9_shared_20 : decode cX9_shared 20 = .ok (.aload_n 0, 1) := dk_42 (dk_at dksX9_shared_0 20 rfl rfl)
theorem dX9_shared_21 : decode cX9_shared 21 = .ok (.aload_n 0, 1) := dk_42 (dk_at dksX9_shared_0 21 rfl rfl)
theorem dX9_shared_22 : decode cX9_shared 22 = .ok (.iconst 2, 1) := dk_5 (dk_at dksX9_shared_0 22 rfl rfl)
theorem dX9_shared_23 : decode cX9_shared 23 = .ok (.iconst 4, 1) := dk_7 (dk_at dksX9_shared_0 23 rfl rfl)
theorem dX9_shared_24 : decode cX9_shared 24 = .ok (.iconst 0, 1) := dk_3 (dk_at dksX9_shared_1 0 rfl rfl)
theorem dX9_shared_25 : decode cX9_shared 25 = .ok (.invokevirtual 530, 3) := dk_182 2 18 (dk_at dksX9_shared_1 1 rfl rfl)
theorem dX9_shared_28 : decode cX9_shared 28 = .ok (.invokevirtual 73, 3) := dk_182 0 73 (dk_at dksX9_shared_1 4 rfl rfl)
theorem dX9_shared_31 : decode cX9_shared 31 = .ok (.ireturn, 1) := dk_172 (dk_at dksX9_shared_1 7 rfl rfl)
abbrev cX9_owned : ByteArray := prog_20_method_82_code
def yX9_owned : MethodName := ⟨RX9, "owned", "(IIZ)I"⟩
def dkwX9_owned_4 : List UInt8 := [21, 4, 172]
abbrev dktX9_owned_4 : List UInt8 := dkwX9_owned_4 ++ []
def dkwX9_owned_3 : List UInt8 := [180, 1, 52, 21, 5, 51, 154, 0, 7, 4, 167, 0, 4, 3, 96, 54, 4, 132, 5, 1, 167, 255, 172]
abbrev dktX9_owned_3 : List UInt8 := dkwX9_owned_3 ++ dktX9_owned_4
def dkwX9_owned_2 : List UInt8 := [184, 1, 92, 184, 2, 15, 27, 28, 184, 0, 141, 153, 0, 24, 29, 153, 0, 16, 42, 180, 1, 161]
abbrev dktX9_owned_2 : List UInt8 := dkwX9_owned_2 ++ dktX9_owned_3
def dkwX9_owned_1 : List UInt8 := [42, 180, 0, 17, 21, 5, 42, 180, 1, 161, 180, 0, 160, 112, 21, 5, 42, 180, 1, 161, 180, 0, 160, 108]
abbrev dktX9_owned_1 : List UInt8 := dkwX9_owned_1 ++ dktX9_owned_2
def dkwX9_owned_0 : List UInt8 := [3, 54, 4, 3, 54, 5, 21, 5, 42, 180, 1, 161, 182, 2, 12, 162, 0, 78, 21, 4, 42, 180, 1, 161]
abbrev dktX9_owned_0 : List UInt8 := dkwX9_owned_0 ++ dktX9_owned_1
theorem dksX9_owned_0 : cX9_owned.data.toList.drop 0 = dktX9_owned_0 := by decide +kernel
theorem dksX9_owned_1 : cX9_owned.data.toList.drop 24 = dktX9_owned_1 := dk_seg dksX9_owned_0 24 rfl rfl
theorem dksX9_owned_2 : cX9_owned.data.toList.drop 48 = dktX9_owned_2 := dk_seg dksX9_owned_1 24 rfl rfl
theorem dksX9_owned_3 : cX9_owned.data.toList.drop 70 = dktX9_owned_3 := dk_seg dksX9_owned_2 22 rfl rfl
theorem dksX9_owned_4 : cX9_owned.data.toList.drop 93 = dktX9_owned_4 := dk_seg dksX9_owned_3 23 rfl rfl
theorem dX9_owned_0 : decode cX9_owned 0 = .ok (.iconst 0, 1) := dk_3 (dk_at dksX9_owned_0 0 rfl rfl)
theorem dX9_owned_1 : decode cX9_owned 1 = .ok (.istore 4, 2) := dk_54 4 (dk_at dksX9_owned_0 1 rfl rfl)
theorem dX9_owned_3 : decode cX9_owned 3 = .ok (.iconst 0, 1) := dk_3 (dk_at dksX9_owned_0 3 rfl rfl)
theorem dX9_owned_4 : decode cX9_owned 4 = .ok (.istore 5, 2) := dk_54 5 (dk_at dksX9_owned_0 4 rfl rfl)
theorem dX9_owned_6 : decode cX9_owned 6 = .ok (.iload 5, 2) := dk_21 5 (dk_at dksX9_owned_0 6 rfl rfl)
theorem dX9_owned_8 : decode cX9_owned 8 = .ok (.aload_n 0, 1) := dk_42 (dk_at dksX9_owned_0 8 rfl rfl)
theorem dX9_owned_9 : decode cX9_owned 9 = .ok (.getfield 417, 3) := dk_180 1 161 (dk_at dksX9_owned_0 9 rfl rfl)
theorem dX9_owned_12 : decode cX9_owned 12 = .ok (.invokevirtual 524, 3) := dk_182 2 12 (dk_at dksX9_owned_0 12 rfl rfl)
theorem dX9_owned_15 : decode cX9_owned 15 = .ok (.if_icmp .ge 78, 3) := dk_162 0 78 (dk_at dksX9_owned_0 15 rfl rfl)
theorem dX9_owned_18 : decode cX9_owned 18 = .ok (.iload 4, 2) := dk_21 4 (dk_at dksX9_owned_0 18 rfl rfl)
theorem dX9_owned_20 : decode cX9_owned 20 = .ok (.aload_n 0, 1) := dk_42 (dk_at dksX9_owned_0 20 rfl rfl)
theorem dX9_owned_21 : decode cX9_owned 21 = .ok (.getfield 417, 3) := dk_180 1 161 (dk_at dksX9_owned_0 21 rfl rfl)
theorem dX9_owned_24 : decode cX9_owned 24 = .ok (.aload_n 0, 1) := dk_42 (dk_at dksX9_owned_1 0 rfl rfl)
theorem dX9_owned_25 : decode cX9_owned 25 = .ok (.getfield 17, 3) := dk_180 0 17 (dk_at dksX9_owned_1 1 rfl rfl)
theorem dX9_owned_28 : decode cX9_owned 28 = .ok (.iload 5, 2) := dk_21 5 (dk_at dksX9_owned_1 4 rfl rfl)
theorem dX9_owned_30 : decode cX9_owned 30 = .ok (.aload_n 0, 1) := dk_42 (dk_at dksX9_owned_1 6 rfl rfl)
theorem dX9_owned_31 : decode cX9_owned 31 = .ok (.getfield 417, 3) := dk_180 1 161 (dk_at dksX9_owned_1 7 rfl rfl)
theorem dX9_owned_34 : decode cX9_owned 34 = .ok (.getfield 160, 3) := dk_180 0 160 (dk_at dksX9_owned_1 10 rfl rfl)
theorem dX9_owned_37 : decode cX9_owned 37 = .ok (.irem, 1) := dk_112 (dk_at dksX9_owned_1 13 rfl rfl)
theorem dX9_owned_38 : decode cX9_owned 38 = .ok (.iload 5, 2) := dk_21 5 (dk_at dksX9_owned_1 14 rfl rfl)
theorem dX9_owned_40 : decode cX9_owned 40 = .ok (.aload_n 0, 1) := dk_42 (dk_at dksX9_owned_1 16 rfl rfl)
theorem dX9_owned_41 : decode cX9_owned 41 = .ok (.getfield 417, 3) := dk_180 1 161 (dk_at dksX9_owned_1 17 rfl rfl)
theorem dX9_owned_44 : decode cX9_owned 44 = .ok (.getfield 160, 3) := dk_180 0 160 (dk_at dksX9_owned_1 20 rfl rfl)
theorem dX9_owned_47 : decode cX9_owned 47 = .ok (.idiv, 1) := dk_108 (dk_at dksX9_owned_1 23 rfl rfl)
theorem dX9_owned_48 : decode cX9_owned 48 = .ok (.invokestatic 348, 3) := dk_184 1 92 (dk_at dksX9_owned_2 0 rfl rfl)
theorem dX9_owned_51 : decode cX9_owned 51 = .ok (.invokestatic 527, 3) := dk_184 2 15 (dk_at dksX9_owned_2 3 rfl rfl)
theorem dX9_owned_54 : decode cX9_owned 54 = .ok (.iload_n 1, 1) := dk_27 (dk_at dksX9_owned_2 6 rfl rfl)
theorem dX9_owned_55 : decode cX9_owned 55 = .ok (.iload_n 2, 1) := dk_28 (dk_at dksX9_owned_2 7 rfl rfl)
theorem dX9_owned_56 : decode cX9_owned 56 = .ok (.invokestatic 141, 3) := dk_184 0 141 (dk_at dksX9_owned_2 8 rfl rfl)
theorem dX9_owned_59 : decode cX9_owned 59 = .ok (.ifCond .eq 24, 3) := dk_153 0 24 (dk_at dksX9_owned_2 11 rfl rfl)
theorem dX9_owned_62 : decode cX9_owned 62 = .ok (.iload_n 3, 1) := dk_29 (dk_at dksX9_owned_2 14 rfl rfl)
theorem dX9_owned_63 : decode cX9_owned 63 = .ok (.ifCond .eq 16, 3) := dk_153 0 16 (dk_at dksX9_owned_2 15 rfl rfl)
theorem dX9_owned_66 : decode cX9_owned 66 = .ok (.aload_n 0, 1) := dk_42 (dk_at dksX9_owned_2 18 rfl rfl)
theorem dX9_owned_67 : decode cX9_owned 67 = .ok (.getfield 417, 3) := dk_180 1 161 (dk_at dksX9_owned_2 19 rfl rfl)
theorem dX9_owned_70 : decode cX9_owned 70 = .ok (.getfield 308, 3) := dk_180 1 52 (dk_at dksX9_owned_3 0 rfl rfl)
theorem dX9_owned_73 : decode cX9_owned 73 = .ok (.iload 5, 2) := dk_21 5 (dk_at dksX9_owned_3 3 rfl rfl)
theorem dX9_owned_75 : decode cX9_owned 75 = .ok (.baload, 1) := dk_51 (dk_at dksX9_owned_3 5 rfl rfl)
theorem dX9_owned_76 : decode cX9_owned 76 = .ok (.ifCond .ne 7, 3) := dk_154 0 7 (dk_at dksX9_owned_3 6 rfl rfl)
theorem dX9_owned_79 : decode cX9_owned 79 = .ok (.iconst 1, 1) := dk_4 (dk_at dksX9_owned_3 9 rfl rfl)
theorem dX9_owned_80 : decode cX9_owned 80 = .ok (.goto 4, 3) := dk_167 0 4 (dk_at dksX9_owned_3 10 rfl rfl)
theorem dX9_owned_83 : decode cX9_owned 83 = .ok (.iconst 0, 1) := dk_3 (dk_at dksX9_owned_3 13 rfl rfl)
theorem dX9_owned_84 : decode cX9_owned 84 = .ok (.iadd, 1) := dk_96 (dk_at dksX9_owned_3 14 rfl rfl)
theorem dX9_owned_85 : decode cX9_owned 85 = .ok (.istore 4, 2) := dk_54 4 (dk_at dksX9_owned_3 15 rfl rfl)
theorem dX9_owned_87 : decode cX9_owned 87 = .ok (.iinc 5 1, 3) := dk_132 5 1 (dk_at dksX9_owned_3 17 rfl rfl)
theorem dX9_owned_90 : decode cX9_owned 90 = .ok (.goto (-84), 3) := dk_167 255 172 (dk_at dksX9_owned_3 20 rfl rfl)
theorem dX9_owned_93 : decode cX9_owned 93 = .ok (.iload 4, 2) := dk_21 4 (dk_at dksX9_owned_4 0 rfl rfl)
theorem dX9_owned_95 : decode cX9_owned 95 = .ok (.ireturn, 1) := dk_172 (dk_at dksX9_owned_4 2 rfl rfl)
abbrev cX9_bits : ByteArray := prog_20_method_9_code
def yX9_bits : MethodName := ⟨RX9, "bits", "(I)I"⟩
def dkwX9_bits_0 : List UInt8 := [3, 60, 26, 61, 28, 153, 0, 15, 132, 1, 1, 28, 28, 4, 100, 126, 61, 167, 255, 243, 27, 172]
abbrev dktX9_bits_0 : List UInt8 := dkwX9_bits_0 ++ []
theorem dksX9_bits_0 : cX9_bits.data.toList.drop 0 = dktX9_bits_0 := by decide +kernel
theorem dX9_bits_0 : decode cX9_bits 0 = .ok (.iconst 0, 1) := dk_3 (dk_at dksX9_bits_0 0 rfl rfl)
theorem dX9_bits_1 : decode cX9_bits 1 = .ok (.istore_n 1, 1) := dk_60 (dk_at dksX9_bits_0 1 rfl rfl)
theorem dX9_bits_2 : decode cX9_bits 2 = .ok (.iload_n 0, 1) := dk_26 (dk_at dksX9_bits_0 2 rfl rfl)
theorem dX9_bits_3 : decode cX9_bits 3 = .ok (.istore_n 2, 1) := dk_61 (dk_at dksX9_bits_0 3 rfl rfl)
theorem dX9_bits_4 : decode cX9_bits 4 = .ok (.iload_n 2, 1) := dk_28 (dk_at dksX9_bits_0 4 rfl rfl)
theorem dX9_bits_5 : decode cX9_bits 5 = .ok (.ifCond .eq 15, 3) := dk_153 0 15 (dk_at dksX9_bits_0 5 rfl rfl)
theorem dX9_bits_8 : decode cX9_bits 8 = .ok (.iinc 1 1, 3) := dk_132 1 1 (dk_at dksX9_bits_0 8 rfl rfl)
theorem dX9_bits_11 : decode cX9_bits 11 = .ok (.iload_n 2, 1) := dk_28 (dk_at dksX9_bits_0 11 rfl rfl)
theorem dX9_bits_12 : decode cX9_bits 12 = .ok (.iload_n 2, 1) := dk_28 (dk_at dksX9_bits_0 12 rfl rfl)
theorem dX9_bits_13 : decode cX9_bits 13 = .ok (.iconst 1, 1) := dk_4 (dk_at dksX9_bits_0 13 rfl rfl)
theorem dX9_bits_14 : decode cX9_bits 14 = .ok (.isub, 1) := dk_100 (dk_at dksX9_bits_0 14 rfl rfl)
theorem dX9_bits_15 : decode cX9_bits 15 = .ok (.iand, 1) := dk_126 (dk_at dksX9_bits_0 15 rfl rfl)
theorem dX9_bits_16 : decode cX9_bits 16 = .ok (.istore_n 2, 1) := dk_61 (dk_at dksX9_bits_0 16 rfl rfl)
theorem dX9_bits_17 : decode cX9_bits 17 = .ok (.goto (-13), 3) := dk_167 255 243 (dk_at dksX9_bits_0 17 rfl rfl)
theorem dX9_bits_20 : decode cX9_bits 20 = .ok (.iload_n 1, 1) := dk_27 (dk_at dksX9_bits_0 20 rfl rfl)
theorem dX9_bits_21 : decode cX9_bits 21 = .ok (.ireturn, 1) := dk_172 (dk_at dksX9_bits_0 21 rfl rfl)
abbrev cX9_free : ByteArray := prog_20_method_84_code
def yX9_free : MethodName := ⟨RX9, "free", "()I"⟩
def dkwX9_free_1 : List UInt8 := [4, 182, 2, 18, 182, 0, 73, 172]
abbrev dktX9_free_1 : List UInt8 := dkwX9_free_1 ++ []
def dkwX9_free_0 : List UInt8 := [42, 3, 181, 0, 63, 42, 180, 1, 161, 199, 0, 11, 42, 4, 182, 0, 69, 167, 0, 14, 42, 42, 3, 3]
abbrev dktX9_free_0 : List UInt8 := dkwX9_free_0 ++ dktX9_free_1
theorem dksX9_free_0 : cX9_free.data.toList.drop 0 = dktX9_free_0 := by decide +kernel
theorem dksX9_free_1 : cX9_free.data.toList.drop 24 = dktX9_free_1 := dk_seg dksX9_free_0 24 rfl rfl
theorem dX9_free_0 : decode cX9_free 0 = .ok (.aload_n 0, 1) := dk_42 (dk_at dksX9_free_0 0 rfl rfl)
theorem dX9_free_1 : decode cX9_free 1 = .ok (.iconst 0, 1) := dk_3 (dk_at dksX9_free_0 1 rfl rfl)
theorem dX9_free_2 : decode cX9_free 2 = .ok (.putfield 63, 3) := dk_181 0 63 (dk_at dksX9_free_0 2 rfl rfl)
theorem dX9_free_5 : decode cX9_free 5 = .ok (.aload_n 0, 1) := dk_42 (dk_at dksX9_free_0 5 rfl rfl)
theorem dX9_free_6 : decode cX9_free 6 = .ok (.getfield 417, 3) := dk_180 1 161 (dk_at dksX9_free_0 6 rfl rfl)
theorem dX9_free_9 : decode cX9_free 9 = .ok (.ifnonnull 11, 3) := dk_199 0 11 (dk_at dksX9_free_0 9 rfl rfl)
theorem dX9_free_12 : decode cX9_free 12 = .ok (.aload_n 0, 1) := dk_42 (dk_at dksX9_free_0 12 rfl rfl)
theorem dX9_free_13 : decode cX9_free 13 = .ok (.iconst 1, 1) := dk_4 (dk_at dksX9_free_0 13 rfl rfl)
theorem dX9_free_14 : decode cX9_free 14 = .ok (.invokevirtual 69, 3) := dk_182 0 69 (dk_at dksX9_free_0 14 rfl rfl)
theorem dX9_free_17 : decode cX9_free 17 = .ok (.goto 14, 3) := dk_167 0 14 (dk_at dksX9_free_0 17 rfl rfl)
theorem dX9_free_20 : decode cX9_free 20 = .ok (.aload_n 0, 1) := dk_42 (dk_at dksX9_free_0 20 rfl rfl)
theorem dX9_free_21 : decode cX9_free 21 = .ok (.aload_n 0, 1) := dk_42 (dk_at dksX9_free_0 21 rfl rfl)
theorem dX9_free_22 : decode cX9_free 22 = .ok (.iconst 0, 1) := dk_3 (dk_at dksX9_free_0 22 rfl rfl)
theorem dX9_free_23 : decode cX9_free 23 = .ok (.iconst 0, 1) := dk_3 (dk_at dksX9_free_0 23 rfl rfl)
theorem dX9_free_24 : decode cX9_free 24 = .ok (.iconst 1, 1) := dk_4 (dk_at dksX9_free_1 0 rfl rfl)
theorem dX9_free_25 : decode cX9_free 25 = .ok (.invokevirtual 530, 3) := dk_182 2 18 (dk_at dksX9_free_1 1 rfl rfl)
theorem dX9_free_28 : decode cX9_free 28 = .ok (.invokevirtual 73, 3) := dk_182 0 73 (dk_at dksX9_free_1 4 rfl rfl)
theorem dX9_free_31 : decode cX9_free 31 = .ok (.ireturn, 1) := dk_172 (dk_at dksX9_free_1 7 rfl rfl)
abbrev cX9_house : ByteArray := prog_20_method_85_code
def yX9_house : MethodName := ⟨RX9, "house", "(II)I"⟩
def dkwX9_house_8 : List UInt8 := [180, 0, 17, 3, 27, 96, 46, 104, 164, 0, 7, 4, 167, 0, 4, 3, 182, 0, 73, 172]
abbrev dktX9_house_8 : List UInt8 := dkwX9_house_8 ++ []
def dkwX9_house_7 : List UInt8 := [7, 27, 96, 46, 42, 180, 0, 17, 3, 27, 96, 46, 154, 0, 7, 4, 167, 0, 14, 16, 8, 42]
abbrev dktX9_house_7 : List UInt8 := dkwX9_house_7 ++ dktX9_house_8
def dkwX9_house_6 : List UInt8 := [180, 0, 17, 27, 182, 2, 22, 153, 0, 7, 4, 167, 0, 4, 3, 182, 0, 73, 172, 42, 42, 180, 0, 17]
abbrev dktX9_house_6 : List UInt8 := dkwX9_house_6 ++ dktX9_house_7
def dkwX9_house_5 : List UInt8 := [27, 96, 46, 182, 0, 73, 172, 42, 42, 180, 1, 161, 180, 1, 108, 27, 46, 182, 0, 73, 172, 42, 42, 42]
abbrev dktX9_house_5 : List UInt8 := dkwX9_house_5 ++ dktX9_house_6
def dkwX9_house_4 : List UInt8 := [182, 0, 73, 172, 42, 42, 180, 0, 17, 7, 27, 96, 46, 182, 0, 73, 172, 42, 42, 180, 0, 17, 16, 8]
abbrev dktX9_house_4 : List UInt8 := dkwX9_house_4 ++ dktX9_house_5
def dkwX9_house_3 : List UInt8 := [42, 42, 180, 1, 161, 180, 1, 105, 27, 46, 182, 0, 73, 172, 42, 42, 180, 0, 17, 3, 27, 96, 46]
abbrev dktX9_house_3 : List UInt8 := dkwX9_house_3 ++ dktX9_house_4
def dkwX9_house_2 : List UInt8 := [170, 0, 0, 0, 0, 128, 0, 0, 0, 0, 0, 0, 0, 5, 0, 0, 0, 38, 0, 0, 0, 52, 0, 0, 0, 65, 0, 0, 0, 78, 0, 0, 0, 92, 0, 0, 0, 106]
abbrev dktX9_house_2 : List UInt8 := dkwX9_house_2 ++ dktX9_house_3
def dkwX9_house_1 : List UInt8 := [4, 182, 0, 69, 172, 28]
abbrev dktX9_house_1 : List UInt8 := dkwX9_house_1 ++ dktX9_house_2
def dkwX9_house_0 : List UInt8 := [42, 3, 181, 0, 63, 42, 27, 182, 2, 6, 153, 0, 13, 28, 3, 16, 6, 184, 0, 141, 154, 0, 9, 42]
abbrev dktX9_house_0 : List UInt8 := dkwX9_house_0 ++ dktX9_house_1
theorem dksX9_house_0 : cX9_house.data.toList.drop 0 = dktX9_house_0 := by decide +kernel
theorem dksX9_house_1 : cX9_house.data.toList.drop 24 = dktX9_house_1 := dk_seg dksX9_house_0 24 rfl rfl
theorem dksX9_house_2 : cX9_house.data.toList.drop 30 = dktX9_house_2 := dk_seg dksX9_house_1 6 rfl rfl
theorem dksX9_house_3 : cX9_house.data.toList.drop 68 = dktX9_house_3 := dk_seg dksX9_house_2 38 rfl rfl
theorem dksX9_house_4 : cX9_house.data.toList.drop 91 = dktX9_house_4 := dk_seg dksX9_house_3 23 rfl rfl
theorem dksX9_house_5 : cX9_house.data.toList.drop 115 = dktX9_house_5 := dk_seg dksX9_house_4 24 rfl rfl
theorem dksX9_house_6 : cX9_house.data.toList.drop 139 = dktX9_house_6 := dk_seg dksX9_house_5 24 rfl rfl
theorem dksX9_house_7 : cX9_house.data.toList.drop 163 = dktX9_house_7 := dk_seg dksX9_house_6 24 rfl rfl
theorem dksX9_house_8 : cX9_house.data.toList.drop 185 = dktX9_house_8 := dk_seg dksX9_house_7 22 rfl rfl
theorem dX9_house_0 : decode cX9_house 0 = .ok (.aload_n 0, 1) := dk_42 (dk_at dksX9_house_0 0 rfl rfl)
theorem dX9_house_1 : decode cX9_house 1 = .ok (.iconst 0, 1) := dk_3 (dk_at dksX9_house_0 1 rfl rfl)
theorem dX9_house_2 : decode cX9_house 2 = .ok (.putfield 63, 3) := dk_181 0 63 (dk_at dksX9_house_0 2 rfl rfl)
theorem dX9_house_5 : decode cX9_house 5 = .ok (.aload_n 0, 1) := dk_42 (dk_at dksX9_house_0 5 rfl rfl)
theorem dX9_house_6 : decode cX9_house 6 = .ok (.iload_n 1, 1) := dk_27 (dk_at dksX9_house_0 6 rfl rfl)
theorem dX9_house_7 : decode cX9_house 7 = .ok (.invokevirtual 518, 3) := dk_182 2 6 (dk_at dksX9_house_0 7 rfl rfl)
theorem dX9_house_10 : decode cX9_house 10 = .ok (.ifCond .eq 13, 3) := dk_153 0 13 (dk_at dksX9_house_0 10 rfl rfl)
theorem dX9_house_13 : decode cX9_house 13 = .ok (.iload_n 2, 1) := dk_28 (dk_at dksX9_house_0 13 rfl rfl)
theorem dX9_house_14 : decode cX9_house 14 = .ok (.iconst 0, 1) := dk_3 (dk_at dksX9_house_0 14 rfl rfl)
theorem dX9_house_15 : decode cX9_house 15 = .ok (.bipush 6, 2) := dk_16 6 (dk_at dksX9_house_0 15 rfl rfl)
theorem dX9_house_17 : decode cX9_house 17 = .ok (.invokestatic 141, 3) := dk_184 0 141 (dk_at dksX9_house_0 17 rfl rfl)
theorem dX9_house_20 : decode cX9_house 20 = .ok (.ifCond .ne 9, 3) := dk_154 0 9 (dk_at dksX9_house_0 20 rfl rfl)
theorem dX9_house_23 : decode cX9_house 23 = .ok (.aload_n 0, 1) := dk_42 (dk_at dksX9_house_0 23 rfl rfl)
theorem dX9_house_24 : decode cX9_house 24 = .ok (.iconst 1, 1) := dk_4 (dk_at dksX9_house_1 0 rfl rfl)
theorem dX9_house_25 : decode cX9_house 25 = .ok (.invokevirtual 69, 3) := dk_182 0 69 (dk_at dksX9_house_1 1 rfl rfl)
theorem dX9_house_28 : decode cX9_house 28 = .ok (.ireturn, 1) := dk_172 (dk_at dksX9_house_1 4 rfl rfl)
theorem dX9_house_29 : decode cX9_house 29 = .ok (.iload_n 2, 1) := dk_28 (dk_at dksX9_house_1 5 rfl rfl)
theorem dX9_house_30 : decode cX9_house 30 = .ok (.tableswitch 128 0 5 #[38, 52, 65, 78, 92, 106], 38) := by decide +kernel
theorem dX9_house_68 : decode cX9_house 68 = .ok (.aload_n 0, 1) := dk_42 (dk_at dksX9_house_3 0 rfl rfl)
theorem dX9_house_69 : decode cX9_house 69 = .ok (.aload_n 0, 1) := dk_42 (dk_at dksX9_house_3 1 rfl rfl)
theorem dX9_house_70 : decode cX9_house 70 = .ok (.getfield 417, 3) := dk_180 1 161 (dk_at dksX9_house_3 2 rfl rfl)
theorem dX9_house_73 : decode cX9_house 73 = .ok (.getfield 361, 3) := dk_180 1 105 (dk_at dksX9_house_3 5 rfl rfl)
theorem dX9_house_76 : decode cX9_house 76 = .ok (.iload_n 1, 1) := dk_27 (dk_at dksX9_house_3 8 rfl rfl)
theorem dX9_house_77 : decode cX9_house 77 = .ok (.iaload, 1) := dk_46 (dk_at dksX9_house_3 9 rfl rfl)
theorem dX9_house_78 : decode cX9_house 78 = .ok (.invokevirtual 73, 3) := dk_182 0 73 (dk_at dksX9_house_3 10 rfl rfl)
theorem dX9_house_81 : decode cX9_house 81 = .ok (.ireturn, 1) := dk_172 (dk_at dksX9_house_3 13 rfl rfl)
theorem dX9_house_82 : decode cX9_house 82 = .ok (.aload_n 0, 1) := dk_42 (dk_at dksX9_house_3 14 rfl rfl)
theorem dX9_house_83 : decode cX9_house 83 = .ok (.aload_n 0, 1) := dk_42 (dk_at dksX9_house_3 15 rfl rfl)
theorem dX9_house_84 : decode cX9_house 84 = .ok (.getfield 17, 3) := dk_180 0 17 (dk_at dksX9_house_3 16 rfl rfl)
theorem dX9_house_87 : decode cX9_house 87 = .ok (.iconst 0, 1) := dk_3 (dk_at dksX9_house_3 19 rfl rfl)
theorem dX9_house_88 : decode cX9_house 88 = .ok (.iload_n 1, 1) := dk_27 (dk_at dksX9_house_3 20 rfl rfl)
theorem dX9_house_89 : decode cX9_house 89 = .ok (.iadd, 1) := dk_96 (dk_at dksX9_house_3 21 rfl rfl)
theorem dX9_house_90 : decode cX9_house 90 = .ok (.iaload, 1) := dk_46 (dk_at dksX9_house_3 22 rfl rfl)
theorem dX9_house_91 : decode cX9_house 91 = .ok (.invokevirtual 73, 3) := dk_182 0 73 (dk_at dksX9_house_4 0 rfl rfl)
theorem dX9_house_94 : decode cX9_house 94 = .ok (.ireturn, 1) := dk_172 (dk_at dksX9_house_4 3 rfl rfl)
theorem dX9_house_95 : decode cX9_house 95 = .ok (.aload_n 0, 1) := dk_42 (dk_at dksX9_house_4 4 rfl rfl)
theorem dX9_house_96 : decode cX9_house 96 = .ok (.aload_n 0, 1) := dk_42 (dk_at dksX9_house_4 5 rfl rfl)
theorem dX9_house_97 : decode cX9_house 97 = .ok (.getfield 17, 3) := dk_180 0 17 (dk_at dksX9_house_4 6 rfl rfl)
theorem dX9_house_100 : decode cX9_house 100 = .ok (.iconst 4, 1) := dk_7 (dk_at dksX9_house_4 9 rfl rfl)
theorem dX9_house_101 : decode cX9_house 101 = .ok (.iload_n 1, 1) := dk_27 (dk_at dksX9_house_4 10 rfl rfl)
theorem dX9_house_102 : decode cX9_house 102 = .ok (.iadd, 1) := dk_96 (dk_at dksX9_house_4 11 rfl rfl)
theorem dX9_house_103 : decode cX9_house 103 = .ok (.iaload, 1) := dk_46 (dk_at dksX9_house_4 12 rfl rfl)
theorem dX9_house_104 : decode cX9_house 104 = .ok (.invokevirtual 73, 3) := dk_182 0 73 (dk_at dksX9_house_4 13 rfl rfl)
theorem dX9_house_107 : decode cX9_house 107 = .ok (.ireturn, 1) := dk_172 (dk_at dksX9_house_4 16 rfl rfl)
theorem dX9_house_108 : decode cX9_house 108 = .ok (.aload_n 0, 1) := dk_42 (dk_at dksX9_house_4 17 rfl rfl)
theorem dX9_house_109 : decode cX9_house 109 = .ok (.aload_n 0, 1) := dk_42 (dk_at dksX9_house_4 18 rfl rfl)
theorem dX9_house_110 : decode cX9_house 110 = .ok (.getfield 17, 3) := dk_180 0 17 (dk_at dksX9_house_4 19 rfl rfl)
theorem dX9_house_113 : decode cX9_house 113 = .ok (.bipush 8, 2) := dk_16 8 (dk_at dksX9_house_4 22 rfl rfl)
theorem dX9_house_115 : decode cX9_house 115 = .ok (.iload_n 1, 1) := dk_27 (dk_at dksX9_house_5 0 rfl rfl)
theorem dX9_house_116 : decode cX9_house 116 = .ok (.iadd, 1) := dk_96 (dk_at dksX9_house_5 1 rfl rfl)
theorem dX9_house_117 : decode cX9_house 117 = .ok (.iaload, 1) := dk_46 (dk_at dksX9_house_5 2 rfl rfl)
theorem dX9_house_118 : decode cX9_house 118 = .ok (.invokevirtual 73, 3) := dk_182 0 73 (dk_at dksX9_house_5 3 rfl rfl)
theorem dX9_house_121 : decode cX9_house 121 = .ok (.ireturn, 1) := dk_172 (dk_at dksX9_house_5 6 rfl rfl)
theorem dX9_house_122 : decode cX9_house 122 = .ok (.aload_n 0, 1) := dk_42 (dk_at dksX9_house_5 7 rfl rfl)
theorem dX9_house_123 : decode cX9_house 123 = .ok (.aload_n 0, 1) := dk_42 (dk_at dksX9_house_5 8 rfl rfl)
theorem dX9_house_124 : decode cX9_house 124 = .ok (.getfield 417, 3) := dk_180 1 161 (dk_at dksX9_house_5 9 rfl rfl)
theorem dX9_house_127 : decode cX9_house 127 = .ok (.getfield 364, 3) := dk_180 1 108 (dk_at dksX9_house_5 12 rfl rfl)
theorem dX9_house_130 : decode cX9_house 130 = .ok (.iload_n 1, 1) := dk_27 (dk_at dksX9_house_5 15 rfl rfl)
theorem dX9_house_131 : decode cX9_house 131 = .ok (.iaload, 1) := dk_46 (dk_at dksX9_house_5 16 rfl rfl)
theorem dX9_house_132 : decode cX9_house 132 = .ok (.invokevirtual 73, 3) := dk_182 0 73 (dk_at dksX9_house_5 17 rfl rfl)
theorem dX9_house_135 : decode cX9_house 135 = .ok (.ireturn, 1) := dk_172 (dk_at dksX9_house_5 20 rfl rfl)
theorem dX9_house_136 : decode cX9_house 136 = .ok (.aload_n 0, 1) := dk_42 (dk_at dksX9_house_5 21 rfl rfl)
theorem dX9_house_137 : decode cX9_house 137 = .ok (.aload_n 0, 1) := dk_42 (dk_at dksX9_house_5 22 rfl rfl)
theorem dX9_house_138 : decode cX9_house 138 = .ok (.aload_n 0, 1) := dk_42 (dk_at dksX9_house_5 23 rfl rfl)
theorem dX9_house_139 : decode cX9_house 139 = .ok (.getfield 17, 3) := dk_180 0 17 (dk_at dksX9_house_6 0 rfl rfl)
theorem dX9_house_142 : decode cX9_house 142 = .ok (.iload_n 1, 1) := dk_27 (dk_at dksX9_house_6 3 rfl rfl)
theorem dX9_house_143 : decode cX9_house 143 = .ok (.invokevirtual 534, 3) := dk_182 2 22 (dk_at dksX9_house_6 4 rfl rfl)
theorem dX9_house_146 : decode cX9_house 146 = .ok (.ifCond .eq 7, 3) := dk_153 0 7 (dk_at dksX9_house_6 7 rfl rfl)
theorem dX9_house_149 : decode cX9_house 149 = .ok (.iconst 1, 1) := dk_4 (dk_at dksX9_house_6 10 rfl rfl)
theorem dX9_house_150 : decode cX9_house 150 = .ok (.goto 4, 3) := dk_167 0 4 (dk_at dksX9_house_6 11 rfl rfl)
theorem dX9_house_153 : decode cX9_house 153 = .ok (.iconst 0, 1) := dk_3 (dk_at dksX9_house_6 14 rfl rfl)
theorem dX9_house_154 : decode cX9_house 154 = .ok (.invokevirtual 73, 3) := dk_182 0 73 (dk_at dksX9_house_6 15 rfl rfl)
theorem dX9_house_157 : decode cX9_house 157 = .ok (.ireturn, 1) := dk_172 (dk_at dksX9_house_6 18 rfl rfl)
theorem dX9_house_158 : decode cX9_house 158 = .ok (.aload_n 0, 1) := dk_42 (dk_at dksX9_house_6 19 rfl rfl)
theorem dX9_house_159 : decode cX9_house 159 = .ok (.aload_n 0, 1) := dk_42 (dk_at dksX9_house_6 20 rfl rfl)
theorem dX9_house_160 : decode cX9_house 160 = .ok (.getfield 17, 3) := dk_180 0 17 (dk_at dksX9_house_6 21 rfl rfl)
theorem dX9_house_163 : decode cX9_house 163 = .ok (.iconst 4, 1) := dk_7 (dk_at dksX9_house_7 0 rfl rfl)
theorem dX9_house_164 : decode cX9_house 164 = .ok (.iload_n 1, 1) := dk_27 (dk_at dksX9_house_7 1 rfl rfl)
theorem dX9_house_165 : decode cX9_house 165 = .ok (.iadd, 1) := dk_96 (dk_at dksX9_house_7 2 rfl rfl)
theorem dX9_house_166 : decode cX9_house 166 = .ok (.iaload, 1) := dk_46 (dk_at dksX9_house_7 3 rfl rfl)
theorem dX9_house_167 : decode cX9_house 167 = .ok (.aload_n 0, 1) := dk_42 (dk_at dksX9_house_7 4 rfl rfl)
theorem dX9_house_168 : decode cX9_house 168 = .ok (.getfield 17, 3) := dk_180 0 17 (dk_at dksX9_house_7 5 rfl rfl)
theorem dX9_house_171 : decode cX9_house 171 = .ok (.iconst 0, 1) := dk_3 (dk_at dksX9_house_7 8 rfl rfl)
theorem dX9_house_172 : decode cX9_house 172 = .ok (.iload_n 1, 1) := dk_27 (dk_at dksX9_house_7 9 rfl rfl)
theorem dX9_house_173 : decode cX9_house 173 = .ok (.iadd, 1) := dk_96 (dk_at dksX9_house_7 10 rfl rfl)
theorem dX9_house_174 : decode cX9_house 174 = .ok (.iaload, 1) := dk_46 (dk_at dksX9_house_7 11 rfl rfl)
theorem dX9_house_175 : decode cX9_house 175 = .ok (.ifCond .ne 7, 3) := dk_154 0 7 (dk_at dksX9_house_7 12 rfl rfl)
theorem dX9_house_178 : decode cX9_house 178 = .ok (.iconst 1, 1) := dk_4 (dk_at dksX9_house_7 15 rfl rfl)
theorem dX9_house_179 : decode cX9_house 179 = .ok (.goto 14, 3) := dk_167 0 14 (dk_at dksX9_house_7 16 rfl rfl)
theorem dX9_house_182 : decode cX9_house 182 = .ok (.bipush 8, 2) := dk_16 8 (dk_at dksX9_house_7 19 rfl rfl)
theorem dX9_house_184 : decode cX9_house 184 = .ok (.aload_n 0, 1) := dk_42 (dk_at dksX9_house_7 21 rfl rfl)
theorem dX9_house_185 : decode cX9_house 185 = .ok (.getfield 17, 3) := dk_180 0 17 (dk_at dksX9_house_8 0 rfl rfl)
theorem dX9_house_188 : decode cX9_house 188 = .ok (.iconst 0, 1) := dk_3 (dk_at dksX9_house_8 3 rfl rfl)
theorem dX9_house_189 : decode cX9_house 189 = .ok (.iload_n 1, 1) := dk_27 (dk_at dksX9_house_8 4 rfl rfl)
theorem dX9_house_190 : decode cX9_house 190 = .ok (.iadd, 1) := dk_96 (dk_at dksX9_house_8 5 rfl rfl)
theorem dX9_house_191 : decode cX9_house 191 = .ok (.iaload, 1) := dk_46 (dk_at dksX9_house_8 6 rfl rfl)
theorem dX9_house_192 : decode cX9_house 192 = .ok (.imul, 1) := dk_104 (dk_at dksX9_house_8 7 rfl rfl)
theorem dX9_house_193 : decode cX9_house 193 = .ok (.if_icmp .le 7, 3) := dk_164 0 7 (dk_at dksX9_house_8 8 rfl rfl)
theorem dX9_house_196 : decode cX9_house 196 = .ok (.iconst 1, 1) := dk_4 (dk_at dksX9_house_8 11 rfl rfl)
theorem dX9_house_197 : decode cX9_house 197 = .ok (.goto 4, 3) := dk_167 0 4 (dk_at dksX9_house_8 12 rfl rfl)
theorem dX9_house_200 : decode cX9_house 200 = .ok (.iconst 0, 1) := dk_3 (dk_at dksX9_house_8 15 rfl rfl)
theorem dX9_house_201 : decode cX9_house 201 = .ok (.invokevirtual 73, 3) := dk_182 0 73 (dk_at dksX9_house_8 16 rfl rfl)
theorem dX9_house_204 : decode cX9_house 204 = .ok (.ireturn, 1) := dk_172 (dk_at dksX9_house_8 19 rfl rfl)
abbrev cX9_isHouse : ByteArray := prog_20_method_75_code
def yX9_isHouse : MethodName := ⟨RX9, "isHouse", "(I)Z"⟩
def dkwX9_isHouse_1 : List UInt8 := [167, 0, 4, 3, 172]
abbrev dktX9_isHouse_1 : List UInt8 := dkwX9_isHouse_1 ++ []
def dkwX9_isHouse_0 : List UInt8 := [42, 180, 1, 161, 198, 0, 22, 27, 155, 0, 18, 27, 42, 180, 1, 161, 180, 0, 229, 162, 0, 7, 4]
abbrev dktX9_isHouse_0 : List UInt8 := dkwX9_isHouse_0 ++ dktX9_isHouse_1
theorem dksX9_isHouse_0 : cX9_isHouse.data.toList.drop 0 = dktX9_isHouse_0 := by decide +kernel
theorem dksX9_isHouse_1 : cX9_isHouse.data.toList.drop 23 = dktX9_isHouse_1 := dk_seg dksX9_isHouse_0 23 rfl rfl
theorem dX9_isHouse_0 : decode cX9_isHouse 0 = .ok (.aload_n 0, 1) := dk_42 (dk_at dksX9_isHouse_0 0 rfl rfl)
theorem dX9_isHouse_1 : decode cX9_isHouse 1 = .ok (.getfield 417, 3) := dk_180 1 161 (dk_at dksX9_isHouse_0 1 rfl rfl)
theorem dX9_isHouse_4 : decode cX9_isHouse 4 = .ok (.ifnull 22, 3) := dk_198 0 22 (dk_at dksX9_isHouse_0 4 rfl rfl)
theorem dX9_isHouse_7 : decode cX9_isHouse 7 = .ok (.iload_n 1, 1) := dk_27 (dk_at dksX9_isHouse_0 7 rfl rfl)
theorem dX9_isHouse_8 : decode cX9_isHouse 8 = .ok (.ifCond .lt 18, 3) := dk_155 0 18 (dk_at dksX9_isHouse_0 8 rfl rfl)
theorem dX9_isHouse_11 : decode cX9_isHouse 11 = .ok (.iload_n 1, 1) := dk_27 (dk_at dksX9_isHouse_0 11 rfl rfl)
theorem dX9_isHouse_12 : decode cX9_isHouse 12 = .ok (.aload_n 0, 1) := dk_42 (dk_at dksX9_isHouse_0 12 rfl rfl)
theorem dX9_isHouse_13 : decode cX9_isHouse 13 = .ok (.getfield 417, 3) := dk_180 1 161 (dk_at dksX9_isHouse_0 13 rfl rfl)
theorem dX9_isHouse_16 : decode cX9_isHouse 16 = .ok (.getfield 229, 3) := dk_180 0 229 (dk_at dksX9_isHouse_0 16 rfl rfl)
theorem dX9_isHouse_19 : decode cX9_isHouse 19 = .ok (.if_icmp .ge 7, 3) := dk_162 0 7 (dk_at dksX9_isHouse_0 19 rfl rfl)
theorem dX9_isHouse_22 : decode cX9_isHouse 22 = .ok (.iconst 1, 1) := dk_4 (dk_at dksX9_isHouse_0 22 rfl rfl)
theorem dX9_isHouse_23 : decode cX9_isHouse 23 = .ok (.goto 4, 3) := dk_167 0 4 (dk_at dksX9_isHouse_1 0 rfl rfl)
theorem dX9_isHouse_26 : decode cX9_isHouse 26 = .ok (.iconst 0, 1) := dk_3 (dk_at dksX9_isHouse_1 3 rfl rfl)
theorem dX9_isHouse_27 : decode cX9_isHouse 27 = .ok (.ireturn, 1) := dk_172 (dk_at dksX9_isHouse_1 4 rfl rfl)
abbrev cX9_isShut : ByteArray := prog_20_method_63_code
def yX9_isShut : MethodName := ⟨RX9, "isShut", "([II)Z"⟩
def dkwX9_isShut_1 : List UInt8 := [46, 43, 28, 29, 5, 184, 1, 169, 46, 184, 1, 215, 154, 0, 7, 4, 167, 0, 4, 3, 172]
abbrev dktX9_isShut_1 : List UInt8 := dkwX9_isShut_1 ++ []
def dkwX9_isShut_0 : List UInt8 := [43, 3, 28, 96, 46, 62, 29, 158, 0, 36, 42, 180, 1, 161, 43, 28, 29, 43, 28, 29, 4, 184, 1, 169]
abbrev dktX9_isShut_0 : List UInt8 := dkwX9_isShut_0 ++ dktX9_isShut_1
theorem dksX9_isShut_0 : cX9_isShut.data.toList.drop 0 = dktX9_isShut_0 := by decide +kernel
theorem dksX9_isShut_1 : cX9_isShut.data.toList.drop 24 = dktX9_isShut_1 := dk_seg dksX9_isShut_0 24 rfl rfl
theorem dX9_isShut_0 : decode cX9_isShut 0 = .ok (.aload_n 1, 1) := dk_43 (dk_at dksX9_isShut_0 0 rfl rfl)
theorem dX9_isShut_1 : decode cX9_isShut 1 = .ok (.iconst 0, 1) := dk_3 (dk_at dksX9_isShut_0 1 rfl rfl)
theorem dX9_isShut_2 : decode cX9_isShut 2 = .ok (.iload_n 2, 1) := dk_28 (dk_at dksX9_isShut_0 2 rfl rfl)
theorem dX9_isShut_3 : decode cX9_isShut 3 = .ok (.iadd, 1) := dk_96 (dk_at dksX9_isShut_0 3 rfl rfl)
theorem dX9_isShut_4 : decode cX9_isShut 4 = .ok (.iaload, 1) := dk_46 (dk_at dksX9_isShut_0 4 rfl rfl)
theorem dX9_isShut_5 : decode cX9_isShut 5 = .ok (.istore_n 3, 1) := dk_62 (dk_at dksX9_isShut_0 5 rfl rfl)
theorem dX9_isShut_6 : decode cX9_isShut 6 = .ok (.iload_n 3, 1) := dk_29 (dk_at dksX9_isShut_0 6 rfl rfl)
theorem dX9_isShut_7 : decode cX9_isShut 7 = .ok (.ifCond .le 36, 3) := dk_158 0 36 (dk_at dksX9_isShut_0 7 rfl rfl)
theorem dX9_isShut_10 : decode cX9_isShut 10 = .ok (.aload_n 0, 1) := dk_42 (dk_at dksX9_isShut_0 10 rfl rfl)
theorem dX9_isShut_11 : decode cX9_isShut 11 = .ok (.getfield 417, 3) := dk_180 1 161 (dk_at dksX9_isShut_0 11 rfl rfl)
theorem dX9_isShut_14 : decode cX9_isShut 14 = .ok (.aload_n 1, 1) := dk_43 (dk_at dksX9_isShut_0 14 rfl rfl)
theorem dX9_isShut_15 : decode cX9_isShut 15 = .ok (.iload_n 2, 1) := dk_28 (dk_at dksX9_isShut_0 15 rfl rfl)
theorem dX9_isShut_16 : decode cX9_isShut 16 = .ok (.iload_n 3, 1) := dk_29 (dk_at dksX9_isShut_0 16 rfl rfl)
theorem dX9_isShut_17 : decode cX9_isShut 17 = .ok (.aload_n 1, 1) := dk_43 (dk_at dksX9_isShut_0 17 rfl rfl)
theorem dX9_isShut_18 : decode cX9_isShut 18 = .ok (.iload_n 2, 1) := dk_28 (dk_at dksX9_isShut_0 18 rfl rfl)
theorem dX9_isShut_19 : decode cX9_isShut 19 = .ok (.iload_n 3, 1) := dk_29 (dk_at dksX9_isShut_0 19 rfl rfl)
theorem dX9_isShut_20 : decode cX9_isShut 20 = .ok (.iconst 1, 1) := dk_4 (dk_at dksX9_isShut_0 20 rfl rfl)
theorem dX9_isShut_21 : decode cX9_isShut 21 = .ok (.invokestatic 425, 3) := dk_184 1 169 (dk_at dksX9_isShut_0 21 rfl rfl)
theorem dX9_isShut_24 : decode cX9_isShut 24 = .ok (.iaload, 1) := dk_46 (dk_at dksX9_isShut_1 0 rfl rfl)
theorem dX9_isShut_25 : decode cX9_isShut 25 = .ok (.aload_n 1, 1) := dk_43 (dk_at dksX9_isShut_1 1 rfl rfl)
theorem dX9_isShut_26 : decode cX9_isShut 26 = .ok (.iload_n 2, 1) := dk_28 (dk_at dksX9_isShut_1 2 rfl rfl)
theorem dX9_isShut_27 : decode cX9_isShut 27 = .ok (.iload_n 3, 1) := dk_29 (dk_at dksX9_isShut_1 3 rfl rfl)
theorem dX9_isShut_28 : decode cX9_isShut 28 = .ok (.iconst 2, 1) := dk_5 (dk_at dksX9_isShut_1 4 rfl rfl)
theorem dX9_isShut_29 : decode cX9_isShut 29 = .ok (.invokestatic 425, 3) := dk_184 1 169 (dk_at dksX9_isShut_1 5 rfl rfl)
theorem dX9_isShut_32 : decode cX9_isShut 32 = .ok (.iaload, 1) := dk_46 (dk_at dksX9_isShut_1 8 rfl rfl)
theorem dX9_isShut_33 : decode cX9_isShut 33 = .ok (.invokestatic 471, 3) := dk_184 1 215 (dk_at dksX9_isShut_1 9 rfl rfl)
theorem dX9_isShut_36 : decode cX9_isShut 36 = .ok (.ifCond .ne 7, 3) := dk_154 0 7 (dk_at dksX9_isShut_1 12 rfl rfl)
theorem dX9_isShut_39 : decode cX9_isShut 39 = .ok (.iconst 1, 1) := dk_4 (dk_at dksX9_isShut_1 15 rfl rfl)
theorem dX9_isShut_40 : decode cX9_isShut 40 = .ok (.goto 4, 3) := dk_167 0 4 (dk_at dksX9_isShut_1 16 rfl rfl)
theorem dX9_isShut_43 : decode cX9_isShut 43 = .ok (.iconst 0, 1) := dk_3 (dk_at dksX9_isShut_1 19 rfl rfl)
theorem dX9_isShut_44 : decode cX9_isShut 44 = .ok (.ireturn, 1) := dk_172 (dk_at dksX9_isShut_1 20 rfl rfl)
abbrev cX9_isFree : ByteArray := prog_20_method_62_code
def yX9_isFree : MethodName := ⟨RX9, "isFree", "(LYearSkinsModel$Land;[IIIII)Z"⟩
def dkwX9_isFree_3 : List UInt8 := [3, 172]
abbrev dktX9_isFree_3 : List UInt8 := dkwX9_isFree_3 ++ []
def dkwX9_isFree_2 : List UInt8 := [21, 7, 182, 1, 181, 153, 0, 19, 42, 43, 21, 6, 21, 7, 184, 1, 92, 154, 0, 7, 4, 167, 0, 4]
abbrev dktX9_isFree_2 : List UInt8 := dkwX9_isFree_2 ++ dktX9_isFree_3
def dkwX9_isFree_1 : List UInt8 := [182, 1, 175, 29, 21, 4, 21, 5, 184, 1, 187, 96, 21, 4, 184, 1, 196, 96, 54, 7, 42, 21, 6]
abbrev dktX9_isFree_1 : List UInt8 := dkwX9_isFree_1 ++ dktX9_isFree_2
def dkwX9_isFree_0 : List UInt8 := [42, 28, 182, 1, 178, 29, 21, 4, 21, 5, 184, 1, 184, 96, 21, 4, 184, 1, 193, 96, 54, 6, 42, 28]
abbrev dktX9_isFree_0 : List UInt8 := dkwX9_isFree_0 ++ dktX9_isFree_1
theorem dksX9_isFree_0 : cX9_isFree.data.toList.drop 0 = dktX9_isFree_0 := by decide +kernel
theorem dksX9_isFree_1 : cX9_isFree.data.toList.drop 24 = dktX9_isFree_1 := dk_seg dksX9_isFree_0 24 rfl rfl
theorem dksX9_isFree_2 : cX9_isFree.data.toList.drop 47 = dktX9_isFree_2 := dk_seg dksX9_isFree_1 23 rfl rfl
theorem dksX9_isFree_3 : cX9_isFree.data.toList.drop 71 = dktX9_isFree_3 := dk_seg dksX9_isFree_2 24 rfl rfl
theorem dX9_isFree_0 : decode cX9_isFree 0 = .ok (.aload_n 0, 1) := dk_42 (dk_at dksX9_isFree_0 0 rfl rfl)
theorem dX9_isFree_1 : decode cX9_isFree 1 = .ok (.iload_n 2, 1) := dk_28 (dk_at dksX9_isFree_0 1 rfl rfl)
theorem dX9_isFree_2 : decode cX9_isFree 2 = .ok (.invokevirtual 434, 3) := dk_182 1 178 (dk_at dksX9_isFree_0 2 rfl rfl)
theorem dX9_isFree_5 : decode cX9_isFree 5 = .ok (.iload_n 3, 1) := dk_29 (dk_at dksX9_isFree_0 5 rfl rfl)
theorem dX9_isFree_6 : decode cX9_isFree 6 = .ok (.iload 4, 2) := dk_21 4 (dk_at dksX9_isFree_0 6 rfl rfl)
theorem dX9_isFree_8 : decode cX9_isFree 8 = .ok (.iload 5, 2) := dk_21 5 (dk_at dksX9_isFree_0 8 rfl rfl)
theorem dX9_isFree_10 : decode cX9_isFree 10 = .ok (.invokestatic 440, 3) := dk_184 1 184 (dk_at dksX9_isFree_0 10 rfl rfl)
theorem dX9_isFree_13 : decode cX9_isFree 13 = .ok (.iadd, 1) := dk_96 (dk_at dksX9_isFree_0 13 rfl rfl)
theorem dX9_isFree_14 : decode cX9_isFree 14 = .ok (.iload 4, 2) := dk_21 4 (dk_at dksX9_isFree_0 14 rfl rfl)
theorem dX9_isFree_16 : decode cX9_isFree 16 = .ok (.invokestatic 449, 3) := dk_184 1 193 (dk_at dksX9_isFree_0 16 rfl rfl)
theorem dX9_isFree_19 : decode cX9_isFree 19 = .ok (.iadd, 1) := dk_96 (dk_at dksX9_isFree_0 19 rfl rfl)
theorem dX9_isFree_20 : decode cX9_isFree 20 = .ok (.istore 6, 2) := dk_54 6 (dk_at dksX9_isFree_0 20 rfl rfl)
theorem dX9_isFree_22 : decode cX9_isFree 22 = .ok (.aload_n 0, 1) := dk_42 (dk_at dksX9_isFree_0 22 rfl rfl)
theorem dX9_isFree_23 : decode cX9_isFree 23 = .ok (.iload_n 2, 1) := dk_28 (dk_at dksX9_isFree_0 23 rfl rfl)
theorem dX9_isFree_24 : decode cX9_isFree 24 = .ok (.invokevirtual 431, 3) := dk_182 1 175 (dk_at dksX9_isFree_1 0 rfl rfl)
theorem dX9_isFree_27 : decode cX9_isFree 27 = .ok (.iload_n 3, 1) := dk_29 (dk_at dksX9_isFree_1 3 rfl rfl)
theorem dX9_isFree_28 : decode cX9_isFree 28 = .ok (.iload 4, 2) := dk_21 4 (dk_at dksX9_isFree_1 4 rfl rfl)
theorem dX9_isFree_30 : decode cX9_isFree 30 = .ok (.iload 5, 2) := dk_21 5 (dk_at dksX9_isFree_1 6 rfl rfl)
theorem dX9_isFree_32 : decode cX9_isFree 32 = .ok (.invokestatic 443, 3) := dk_184 1 187 (dk_at dksX9_isFree_1 8 rfl rfl)
theorem dX9_isFree_35 : decode cX9_isFree 35 = .ok (.iadd, 1) := dk_96 (dk_at dksX9_isFree_1 11 rfl rfl)
theorem dX9_isFree_36 : decode cX9_isFree 36 = .ok (.iload 4, 2) := dk_21 4 (dk_at dksX9_isFree_1 12 rfl rfl)
theorem dX9_isFree_38 : decode cX9_isFree 38 = .ok (.invokestatic 452, 3) := dk_184 1 196 (dk_at dksX9_isFree_1 14 rfl rfl)
theorem dX9_isFree_41 : decode cX9_isFree 41 = .ok (.iadd, 1) := dk_96 (dk_at dksX9_isFree_1 17 rfl rfl)
theorem dX9_isFree_42 : decode cX9_isFree 42 = .ok (.istore 7, 2) := dk_54 7 (dk_at dksX9_isFree_1 18 rfl rfl)
theorem dX9_isFree_44 : decode cX9_isFree 44 = .ok (.aload_n 0, 1) := dk_42 (dk_at dksX9_isFree_1 20 rfl rfl)
theorem dX9_isFree_45 : decode cX9_isFree 45 = .ok (.iload 6, 2) := dk_21 6 (dk_at dksX9_isFree_1 21 rfl rfl)
theorem dX9_isFree_47 : decode cX9_isFree 47 = .ok (.iload 7, 2) := dk_21 7 (dk_at dksX9_isFree_2 0 rfl rfl)
theorem dX9_isFree_49 : decode cX9_isFree 49 = .ok (.invokevirtual 437, 3) := dk_182 1 181 (dk_at dksX9_isFree_2 2 rfl rfl)
theorem dX9_isFree_52 : decode cX9_isFree 52 = .ok (.ifCond .eq 19, 3) := dk_153 0 19 (dk_at dksX9_isFree_2 5 rfl rfl)
theorem dX9_isFree_55 : decode cX9_isFree 55 = .ok (.aload_n 0, 1) := dk_42 (dk_at dksX9_isFree_2 8 rfl rfl)
theorem dX9_isFree_56 : decode cX9_isFree 56 = .ok (.aload_n 1, 1) := dk_43 (dk_at dksX9_isFree_2 9 rfl rfl)
theorem dX9_isFree_57 : decode cX9_isFree 57 = .ok (.iload 6, 2) := dk_21 6 (dk_at dksX9_isFree_2 10 rfl rfl)
theorem dX9_isFree_59 : decode cX9_isFree 59 = .ok (.iload 7, 2) := dk_21 7 (dk_at dksX9_isFree_2 12 rfl rfl)
theorem dX9_isFree_61 : decode cX9_isFree 61 = .ok (.invokestatic 348, 3) := dk_184 1 92 (dk_at dksX9_isFree_2 14 rfl rfl)
theorem dX9_isFree_64 : decode cX9_isFree 64 = .ok (.ifCond .ne 7, 3) := dk_154 0 7 (dk_at dksX9_isFree_2 17 rfl rfl)
theorem dX9_isFree_67 : decode cX9_isFree 67 = .ok (.iconst 1, 1) := dk_4 (dk_at dksX9_isFree_2 20 rfl rfl)
theorem dX9_isFree_68 : decode cX9_isFree 68 = .ok (.goto 4, 3) := dk_167 0 4 (dk_at dksX9_isFree_2 21 rfl rfl)
theorem dX9_isFree_71 : decode cX9_isFree 71 = .ok (.iconst 0, 1) := dk_3 (dk_at dksX9_isFree_3 0 rfl rfl)
theorem dX9_isFree_72 : decode cX9_isFree 72 = .ok (.ireturn, 1) := dk_172 (dk_at dksX9_isFree_3 1 rfl rfl)
abbrev cX9_doorX : ByteArray := prog_20_method_51_code
def yX9_doorX : MethodName := ⟨RX9, "doorX", "(III)I"⟩
def dkwX9_doorX_1 : List UInt8 := [172]
abbrev dktX9_doorX_1 : List UInt8 := dkwX9_doorX_1 ++ []
def dkwX9_doorX_0 : List UInt8 := [27, 4, 160, 0, 7, 26, 167, 0, 18, 27, 6, 160, 0, 8, 26, 116, 167, 0, 8, 28, 4, 96, 26, 100]
abbrev dktX9_doorX_0 : List UInt8 := dkwX9_doorX_0 ++ dktX9_doorX_1
theorem dksX9_doorX_0 : cX9_doorX.data.toList.drop 0 = dktX9_doorX_0 := by decide +kernel
theorem dksX9_doorX_1 : cX9_doorX.data.toList.drop 24 = dktX9_doorX_1 := dk_seg dksX9_doorX_0 24 rfl rfl
theorem dX9_doorX_0 : decode cX9_doorX 0 = .ok (.iload_n 1, 1) := dk_27 (dk_at dksX9_doorX_0 0 rfl rfl)
theorem dX9_doorX_1 : decode cX9_doorX 1 = .ok (.iconst 1, 1) := dk_4 (dk_at dksX9_doorX_0 1 rfl rfl)
theorem dX9_doorX_2 : decode cX9_doorX 2 = .ok (.if_icmp .ne 7, 3) := dk_160 0 7 (dk_at dksX9_doorX_0 2 rfl rfl)
theorem dX9_doorX_5 : decode cX9_doorX 5 = .ok (.iload_n 0, 1) := dk_26 (dk_at dksX9_doorX_0 5 rfl rfl)
theorem dX9_doorX_6 : decode cX9_doorX 6 = .ok (.goto 18, 3) := dk_167 0 18 (dk_at dksX9_doorX_0 6 rfl rfl)
theorem dX9_doorX_9 : decode cX9_doorX 9 = .ok (.iload_n 1, 1) := dk_27 (dk_at dksX9_doorX_0 9 rfl rfl)
theorem dX9_doorX_10 : decode cX9_doorX 10 = .ok (.iconst 3, 1) := dk_6 (dk_at dksX9_doorX_0 10 rfl rfl)
theorem dX9_doorX_11 : decode cX9_doorX 11 = .ok (.if_icmp .ne 8, 3) := dk_160 0 8 (dk_at dksX9_doorX_0 11 rfl rfl)
theorem dX9_doorX_14 : decode cX9_doorX 14 = .ok (.iload_n 0, 1) := dk_26 (dk_at dksX9_doorX_0 14 rfl rfl)
theorem dX9_doorX_15 : decode cX9_doorX 15 = .ok (.ineg, 1) := dk_116 (dk_at dksX9_doorX_0 15 rfl rfl)
theorem dX9_doorX_16 : decode cX9_doorX 16 = .ok (.goto 8, 3) := dk_167 0 8 (dk_at dksX9_doorX_0 16 rfl rfl)
theorem dX9_doorX_19 : decode cX9_doorX 19 = .ok (.iload_n 2, 1) := dk_28 (dk_at dksX9_doorX_0 19 rfl rfl)
theorem dX9_doorX_20 : decode cX9_doorX 20 = .ok (.iconst 1, 1) := dk_4 (dk_at dksX9_doorX_0 20 rfl rfl)
theorem dX9_doorX_21 : decode cX9_doorX 21 = .ok (.iadd, 1) := dk_96 (dk_at dksX9_doorX_0 21 rfl rfl)
theorem dX9_doorX_22 : decode cX9_doorX 22 = .ok (.iload_n 0, 1) := dk_26 (dk_at dksX9_doorX_0 22 rfl rfl)
theorem dX9_doorX_23 : decode cX9_doorX 23 = .ok (.isub, 1) := dk_100 (dk_at dksX9_doorX_0 23 rfl rfl)
theorem dX9_doorX_24 : decode cX9_doorX 24 = .ok (.ireturn, 1) := dk_172 (dk_at dksX9_doorX_1 0 rfl rfl)
abbrev cX9_outX : ByteArray := prog_20_method_54_code
def yX9_outX : MethodName := ⟨RX9, "outX", "(I)I"⟩
def dkwX9_outX_0 : List UInt8 := [26, 4, 160, 0, 7, 4, 167, 0, 13, 26, 6, 160, 0, 7, 2, 167, 0, 4, 3, 172]
abbrev dktX9_outX_0 : List UInt8 := dkwX9_outX_0 ++ []
theorem dksX9_outX_0 : cX9_outX.data.toList.drop 0 = dktX9_outX_0 := by decide +kernel
theorem dX9_outX_0 : decode cX9_outX 0 = .ok (.iload_n 0, 1) := dk_26 (dk_at dksX9_outX_0 0 rfl rfl)
theorem dX9_outX_1 : decode cX9_outX 1 = .ok (.iconst 1, 1) := dk_4 (dk_at dksX9_outX_0 1 rfl rfl)
theorem dX9_outX_2 : decode cX9_outX 2 = .ok (.if_icmp .ne 7, 3) := dk_160 0 7 (dk_at dksX9_outX_0 2 rfl rfl)
theorem dX9_outX_5 : decode cX9_outX 5 = .ok (.iconst 1, 1) := dk_4 (dk_at dksX9_outX_0 5 rfl rfl)
theorem dX9_outX_6 : decode cX9_outX 6 = .ok (.goto 13, 3) := dk_167 0 13 (dk_at dksX9_outX_0 6 rfl rfl)
theorem dX9_outX_9 : decode cX9_outX 9 = .ok (.iload_n 0, 1) := dk_26 (dk_at dksX9_outX_0 9 rfl rfl)
theorem dX9_outX_10 : decode cX9_outX 10 = .ok (.iconst 3, 1) := dk_6 (dk_at dksX9_outX_0 10 rfl rfl)
theorem dX9_outX_11 : decode cX9_outX 11 = .ok (.if_icmp .ne 7, 3) := dk_160 0 7 (dk_at dksX9_outX_0 11 rfl rfl)
theorem dX9_outX_14 : decode cX9_outX 14 = .ok (.iconst (-1), 1) := dk_2 (dk_at dksX9_outX_0 14 rfl rfl)
theorem dX9_outX_15 : decode cX9_outX 15 = .ok (.goto 4, 3) := dk_167 0 4 (dk_at dksX9_outX_0 15 rfl rfl)
theorem dX9_outX_18 : decode cX9_outX 18 = .ok (.iconst 0, 1) := dk_3 (dk_at dksX9_outX_0 18 rfl rfl)
theorem dX9_outX_19 : decode cX9_outX 19 = .ok (.ireturn, 1) := dk_172 (dk_at dksX9_outX_0 19 rfl rfl)
abbrev cX9_doorY : ByteArray := prog_20_method_52_code
def yX9_doorY : MethodName := ⟨RX9, "doorY", "(III)I"⟩
def dkwX9_doorY_0 : List UInt8 := [27, 5, 160, 0, 7, 26, 167, 0, 17, 27, 154, 0, 8, 26, 116, 167, 0, 8, 28, 4, 96, 26, 100, 172]
abbrev dktX9_doorY_0 : List UInt8 := dkwX9_doorY_0 ++ []
theorem dksX9_doorY_0 : cX9_doorY.data.toList.drop 0 = dktX9_doorY_0 := by decide +kernel
theorem dX9_doorY_0 : decode cX9_doorY 0 = .ok (.iload_n 1, 1) := dk_27 (dk_at dksX9_doorY_0 0 rfl rfl)
theorem dX9_doorY_1 : decode cX9_doorY 1 = .ok (.iconst 2, 1) := dk_5 (dk_at dksX9_doorY_0 1 rfl rfl)
theorem dX9_doorY_2 : decode cX9_doorY 2 = .ok (.if_icmp .ne 7, 3) := dk_160 0 7 (dk_at dksX9_doorY_0 2 rfl rfl)
theorem dX9_doorY_5 : decode cX9_doorY 5 = .ok (.iload_n 0, 1) := dk_26 (dk_at dksX9_doorY_0 5 rfl rfl)
theorem dX9_doorY_6 : decode cX9_doorY 6 = .ok (.goto 17, 3) := dk_167 0 17 (dk_at dksX9_doorY_0 6 rfl rfl)
theorem dX9_doorY_9 : decode cX9_doorY 9 = .ok (.iload_n 1, 1) := dk_27 (dk_at dksX9_doorY_0 9 rfl rfl)
theorem dX9_doorY_10 : decode cX9_doorY 10 = .ok (.ifCond .ne 8, 3) := dk_154 0 8 (dk_at dksX9_doorY_0 10 rfl rfl)
theorem dX9_doorY_13 : decode cX9_doorY 13 = .ok (.iload_n 0, 1) := dk_26 (dk_at dksX9_doorY_0 13 rfl rfl)
theorem dX9_doorY_14 : decode cX9_doorY 14 = .ok (.ineg, 1) := dk_116 (dk_at dksX9_doorY_0 14 rfl rfl)
theorem dX9_doorY_15 : decode cX9_doorY 15 = .ok (.goto 8, 3) := dk_167 0 8 (dk_at dksX9_doorY_0 15 rfl rfl)
theorem dX9_doorY_18 : decode cX9_doorY 18 = .ok (.iload_n 2, 1) := dk_28 (dk_at dksX9_doorY_0 18 rfl rfl)
theorem dX9_doorY_19 : decode cX9_doorY 19 = .ok (.iconst 1, 1) := dk_4 (dk_at dksX9_doorY_0 19 rfl rfl)
theorem dX9_doorY_20 : decode cX9_doorY 20 = .ok (.iadd, 1) := dk_96 (dk_at dksX9_doorY_0 20 rfl rfl)
theorem dX9_doorY_21 : decode cX9_doorY 21 = .ok (.iload_n 0, 1) := dk_26 (dk_at dksX9_doorY_0 21 rfl rfl)
theorem dX9_doorY_22 : decode cX9_doorY 22 = .ok (.isub, 1) := dk_100 (dk_at dksX9_doorY_0 22 rfl rfl)
theorem dX9_doorY_23 : decode cX9_doorY 23 = .ok (.ireturn, 1) := dk_172 (dk_at dksX9_doorY_0 23 rfl rfl)
abbrev cX9_outY : ByteArray := prog_20_method_55_code
def yX9_outY : MethodName := ⟨RX9, "outY", "(I)I"⟩
def dkwX9_outY_0 : List UInt8 := [26, 5, 160, 0, 7, 4, 167, 0, 12, 26, 154, 0, 7, 2, 167, 0, 4, 3, 172]
abbrev dktX9_outY_0 : List UInt8 := dkwX9_outY_0 ++ []
theorem dksX9_outY_0 : cX9_outY.data.toList.drop 0 = dktX9_outY_0 := by decide +kernel
theorem dX9_outY_0 : decode cX9_outY 0 = .ok (.iload_n 0, 1) := dk_26 (dk_at dksX9_outY_0 0 rfl rfl)
theorem dX9_outY_1 : decode cX9_outY 1 = .ok (.iconst 2, 1) := dk_5 (dk_at dksX9_outY_0 1 rfl rfl)
theorem dX9_outY_2 : decode cX9_outY 2 = .ok (.if_icmp .ne 7, 3) := dk_160 0 7 (dk_at dksX9_outY_0 2 rfl rfl)
theorem dX9_outY_5 : decode cX9_outY 5 = .ok (.iconst 1, 1) := dk_4 (dk_at dksX9_outY_0 5 rfl rfl)
theorem dX9_outY_6 : decode cX9_outY 6 = .ok (.goto 12, 3) := dk_167 0 12 (dk_at dksX9_outY_0 6 rfl rfl)
theorem dX9_outY_9 : decode cX9_outY 9 = .ok (.iload_n 0, 1) := dk_26 (dk_at dksX9_outY_0 9 rfl rfl)
theorem dX9_outY_10 : decode cX9_outY 10 = .ok (.ifCond .ne 7, 3) := dk_154 0 7 (dk_at dksX9_outY_0 10 rfl rfl)
theorem dX9_outY_13 : decode cX9_outY 13 = .ok (.iconst (-1), 1) := dk_2 (dk_at dksX9_outY_0 13 rfl rfl)
theorem dX9_outY_14 : decode cX9_outY 14 = .ok (.goto 4, 3) := dk_167 0 4 (dk_at dksX9_outY_0 14 rfl rfl)
theorem dX9_outY_17 : decode cX9_outY 17 = .ok (.iconst 0, 1) := dk_3 (dk_at dksX9_outY_0 17 rfl rfl)
theorem dX9_outY_18 : decode cX9_outY 18 = .ok (.ireturn, 1) := dk_172 (dk_at dksX9_outY_0 18 rfl rfl)
abbrev cX9_skin : ByteArray := prog_20_method_86_code
def yX9_skin : MethodName := ⟨RX9, "skin", "(III)I"⟩
def dkwX9_skin_1 : List UInt8 := [42, 42, 180, 0, 17, 27, 28, 29, 184, 1, 169, 46, 182, 0, 73, 167, 0, 8, 42, 4, 182, 0, 69, 172]
abbrev dktX9_skin_1 : List UInt8 := dkwX9_skin_1 ++ []
def dkwX9_skin_0 : List UInt8 := [42, 3, 181, 0, 63, 42, 27, 28, 182, 2, 25, 153, 0, 31, 29, 3, 16, 7, 184, 0, 141, 153, 0, 21]
abbrev dktX9_skin_0 : List UInt8 := dkwX9_skin_0 ++ dktX9_skin_1
theorem dksX9_skin_0 : cX9_skin.data.toList.drop 0 = dktX9_skin_0 := by decide +kernel
theorem dksX9_skin_1 : cX9_skin.data.toList.drop 24 = dktX9_skin_1 := dk_seg dksX9_skin_0 24 rfl rfl
theorem dX9_skin_0 : decode cX9_skin 0 = .ok (.aload_n 0, 1) := dk_42 (dk_at dksX9_skin_0 0 rfl rfl)
theorem dX9_skin_1 : decode cX9_skin 1 = .ok (.iconst 0, 1) := dk_3 (dk_at dksX9_skin_0 1 rfl rfl)
theorem dX9_skin_2 : decode cX9_skin 2 = .ok (.putfield 63, 3) := dk_181 0 63 (dk_at dksX9_skin_0 2 rfl rfl)
theorem dX9_skin_5 : decode cX9_skin 5 = .ok (.aload_n 0, 1) := dk_42 (dk_at dksX9_skin_0 5 rfl rfl)
theorem dX9_skin_6 : decode cX9_skin 6 = .ok (.iload_n 1, 1) := dk_27 (dk_at dksX9_skin_0 6 rfl rfl)
theorem dX9_skin_7 : decode cX9_skin 7 = .ok (.iload_n 2, 1) := dk_28 (dk_at dksX9_skin_0 7 rfl rfl)
theorem dX9_skin_8 : decode cX9_skin 8 = .ok (.invokevirtual 537, 3) := dk_182 2 25 (dk_at dksX9_skin_0 8 rfl rfl)
theorem dX9_skin_11 : decode cX9_skin 11 = .ok (.ifCond .eq 31, 3) := dk_153 0 31 (dk_at dksX9_skin_0 11 rfl rfl)
theorem dX9_skin_14 : decode cX9_skin 14 = .ok (.iload_n 3, 1) := dk_29 (dk_at dksX9_skin_0 14 rfl rfl)
theorem dX9_skin_15 : decode cX9_skin 15 = .ok (.iconst 0, 1) := dk_3 (dk_at dksX9_skin_0 15 rfl rfl)
theorem dX9_skin_16 : decode cX9_skin 16 = .ok (.bipush 7, 2) := dk_16 7 (dk_at dksX9_skin_0 16 rfl rfl)
theorem dX9_skin_18 : decode cX9_skin 18 = .ok (.invokestatic 141, 3) := dk_184 0 141 (dk_at dksX9_skin_0 18 rfl rfl)
theorem dX9_skin_21 : decode cX9_skin 21 = .ok (.ifCond .eq 21, 3) := dk_153 0 21 (dk_at dksX9_skin_0 21 rfl rfl)
theorem dX9_skin_24 : decode cX9_skin 24 = .ok (.aload_n 0, 1) := dk_42 (dk_at dksX9_skin_1 0 rfl rfl)
theorem dX9_skin_25 : decode cX9_skin 25 = .ok (.aload_n 0, 1) := dk_42 (dk_at dksX9_skin_1 1 rfl rfl)
theorem dX9_skin_26 : decode cX9_skin 26 = .ok (.getfield 17, 3) := dk_180 0 17 (dk_at dksX9_skin_1 2 rfl rfl)
theorem dX9_skin_29 : decode cX9_skin 29 = .ok (.iload_n 1, 1) := dk_27 (dk_at dksX9_skin_1 5 rfl rfl)
theorem dX9_skin_30 : decode cX9_skin 30 = .ok (.iload_n 2, 1) := dk_28 (dk_at dksX9_skin_1 6 rfl rfl)
theorem dX9_skin_31 : decode cX9_skin 31 = .ok (.iload_n 3, 1) := dk_29 (dk_at dksX9_skin_1 7 rfl rfl)
theorem dX9_skin_32 : decode cX9_skin 32 = .ok (.invokestatic 425, 3) := dk_184 1 169 (dk_at dksX9_skin_1 8 rfl rfl)
theorem dX9_skin_35 : decode cX9_skin 35 = .ok (.iaload, 1) := dk_46 (dk_at dksX9_skin_1 11 rfl rfl)
theorem dX9_skin_36 : decode cX9_skin 36 = .ok (.invokevirtual 73, 3) := dk_182 0 73 (dk_at dksX9_skin_1 12 rfl rfl)
theorem dX9_skin_39 : decode cX9_skin 39 = .ok (.goto 8, 3) := dk_167 0 8 (dk_at dksX9_skin_1 15 rfl rfl)
theorem dX9_skin_42 : decode cX9_skin 42 = .ok (.aload_n 0, 1) := dk_42 (dk_at dksX9_skin_1 18 rfl rfl)
theorem dX9_skin_43 : decode cX9_skin 43 = .ok (.iconst 1, 1) := dk_4 (dk_at dksX9_skin_1 19 rfl rfl)
theorem dX9_skin_44 : decode cX9_skin 44 = .ok (.invokevirtual 69, 3) := dk_182 0 69 (dk_at dksX9_skin_1 20 rfl rfl)
theorem dX9_skin_47 : decode cX9_skin 47 = .ok (.ireturn, 1) := dk_172 (dk_at dksX9_skin_1 23 rfl rfl)
abbrev cX9_isSkin : ByteArray := prog_20_method_76_code
def yX9_isSkin : MethodName := ⟨RX9, "isSkin", "(II)Z"⟩
def dkwX9_isSkin_1 : List UInt8 := [163, 0, 7, 4, 167, 0, 4, 3, 172]
abbrev dktX9_isSkin_1 : List UInt8 := dkwX9_isSkin_1 ++ []
def dkwX9_isSkin_0 : List UInt8 := [42, 27, 182, 2, 6, 153, 0, 24, 28, 4, 161, 0, 19, 28, 42, 180, 0, 17, 3, 27, 96, 46]
abbrev dktX9_isSkin_0 : List UInt8 := dkwX9_isSkin_0 ++ dktX9_isSkin_1
theorem dksX9_isSkin_0 : cX9_isSkin.data.toList.drop 0 = dktX9_isSkin_0 := by decide +kernel
theorem dksX9_isSkin_1 : cX9_isSkin.data.toList.drop 22 = dktX9_isSkin_1 := dk_seg dksX9_isSkin_0 22 rfl rfl
theorem dX9_isSkin_0 : decode cX9_isSkin 0 = .ok (.aload_n 0, 1) := dk_42 (dk_at dksX9_isSkin_0 0 rfl rfl)
theorem dX9_isSkin_1 : decode cX9_isSkin 1 = .ok (.iload_n 1, 1) := dk_27 (dk_at dksX9_isSkin_0 1 rfl rfl)
theorem dX9_isSkin_2 : decode cX9_isSkin 2 = .ok (.invokevirtual 518, 3) := dk_182 2 6 (dk_at dksX9_isSkin_0 2 rfl rfl)
theorem dX9_isSkin_5 : decode cX9_isSkin 5 = .ok (.ifCond .eq 24, 3) := dk_153 0 24 (dk_at dksX9_isSkin_0 5 rfl rfl)
theorem dX9_isSkin_8 : decode cX9_isSkin 8 = .ok (.iload_n 2, 1) := dk_28 (dk_at dksX9_isSkin_0 8 rfl rfl)
theorem dX9_isSkin_9 : decode cX9_isSkin 9 = .ok (.iconst 1, 1) := dk_4 (dk_at dksX9_isSkin_0 9 rfl rfl)
theorem dX9_isSkin_10 : decode cX9_isSkin 10 = .ok (.if_icmp .lt 19, 3) := dk_161 0 19 (dk_at dksX9_isSkin_0 10 rfl rfl)
theorem dX9_isSkin_13 : decode cX9_isSkin 13 = .ok (.iload_n 2, 1) := dk_28 (dk_at dksX9_isSkin_0 13 rfl rfl)
theorem dX9_isSkin_14 : decode cX9_isSkin 14 = .ok (.aload_n 0, 1) := dk_42 (dk_at dksX9_isSkin_0 14 rfl rfl)
theorem dX9_isSkin_15 : decode cX9_isSkin 15 = .ok (.getfield 17, 3) := dk_180 0 17 (dk_at dksX9_isSkin_0 15 rfl rfl)
theorem dX9_isSkin_18 : decode cX9_isSkin 18 = .ok (.iconst 0, 1) := dk_3 (dk_at dksX9_isSkin_0 18 rfl rfl)
theorem dX9_isSkin_19 : decode cX9_isSkin 19 = .ok (.iload_n 1, 1) := dk_27 (dk_at dksX9_isSkin_0 19 rfl rfl)
theorem dX9_isSkin_20 : decode cX9_isSkin 20 = .ok (.iadd, 1) := dk_96 (dk_at dksX9_isSkin_0 20 rfl rfl)
theorem dX9_isSkin_21 : decode cX9_isSkin 21 = .ok (.iaload, 1) := dk_46 (dk_at dksX9_isSkin_0 21 rfl rfl)
theorem dX9_isSkin_22 : decode cX9_isSkin 22 = .ok (.if_icmp .gt 7, 3) := dk_163 0 7 (dk_at dksX9_isSkin_1 0 rfl rfl)
theorem dX9_isSkin_25 : decode cX9_isSkin 25 = .ok (.iconst 1, 1) := dk_4 (dk_at dksX9_isSkin_1 3 rfl rfl)
theorem dX9_isSkin_26 : decode cX9_isSkin 26 = .ok (.goto 4, 3) := dk_167 0 4 (dk_at dksX9_isSkin_1 4 rfl rfl)
theorem dX9_isSkin_29 : decode cX9_isSkin 29 = .ok (.iconst 0, 1) := dk_3 (dk_at dksX9_isSkin_1 7 rfl rfl)
theorem dX9_isSkin_30 : decode cX9_isSkin 30 = .ok (.ireturn, 1) := dk_172 (dk_at dksX9_isSkin_1 8 rfl rfl)
abbrev cX9_warm : ByteArray := prog_20_method_89_code
def yX9_warm : MethodName := ⟨RX9, "warm", "(II)I"⟩
def dkwX9_warm_1 : List UInt8 := [167, 0, 8, 42, 4, 182, 0, 69, 172]
abbrev dktX9_warm_1 : List UInt8 := dkwX9_warm_1 ++ []
def dkwX9_warm_0 : List UInt8 := [42, 3, 181, 0, 63, 42, 27, 28, 182, 2, 28, 153, 0, 16, 42, 42, 27, 28, 182, 2, 31, 182, 0, 73]
abbrev dktX9_warm_0 : List UInt8 := dkwX9_warm_0 ++ dktX9_warm_1
theorem dksX9_warm_0 : cX9_warm.data.toList.drop 0 = dktX9_warm_0 := by decide +kernel
theorem dksX9_warm_1 : cX9_warm.data.toList.drop 24 = dktX9_warm_1 := dk_seg dksX9_warm_0 24 rfl rfl
theorem dX9_warm_0 : decode cX9_warm 0 = .ok (.aload_n 0, 1) := dk_42 (dk_at dksX9_warm_0 0 rfl rfl)
theorem dX9_warm_1 : decode cX9_warm 1 = .ok (.iconst 0, 1) := dk_3 (dk_at dksX9_warm_0 1 rfl rfl)
theorem dX9_warm_2 : decode cX9_warm 2 = .ok (.putfield 63, 3) := dk_181 0 63 (dk_at dksX9_warm_0 2 rfl rfl)
theorem dX9_warm_5 : decode cX9_warm 5 = .ok (.aload_n 0, 1) := dk_42 (dk_at dksX9_warm_0 5 rfl rfl)
theorem dX9_warm_6 : decode cX9_warm 6 = .ok (.iload_n 1, 1) := dk_27 (dk_at dksX9_warm_0 6 rfl rfl)
theorem dX9_warm_7 : decode cX9_warm 7 = .ok (.iload_n 2, 1) := dk_28 (dk_at dksX9_warm_0 7 rfl rfl)
theorem dX9_warm_8 : decode cX9_warm 8 = .ok (.invokevirtual 540, 3) := dk_182 2 28 (dk_at dksX9_warm_0 8 rfl rfl)
theorem dX9_warm_11 : decode cX9_warm 11 = .ok (.ifCond .eq 16, 3) := dk_153 0 16 (dk_at dksX9_warm_0 11 rfl rfl)
theorem dX9_warm_14 : decode cX9_warm 14 = .ok (.aload_n 0, 1) := dk_42 (dk_at dksX9_warm_0 14 rfl rfl)
theorem dX9_warm_15 : decode cX9_warm 15 = .ok (.aload_n 0, 1) := dk_42 (dk_at dksX9_warm_0 15 rfl rfl)
theorem dX9_warm_16 : decode cX9_warm 16 = .ok (.iload_n 1, 1) := dk_27 (dk_at dksX9_warm_0 16 rfl rfl)
theorem dX9_warm_17 : decode cX9_warm 17 = .ok (.iload_n 2, 1) := dk_28 (dk_at dksX9_warm_0 17 rfl rfl)
theorem dX9_warm_18 : decode cX9_warm 18 = .ok (.invokevirtual 543, 3) := dk_182 2 31 (dk_at dksX9_warm_0 18 rfl rfl)
theorem dX9_warm_21 : decode cX9_warm 21 = .ok (.invokevirtual 73, 3) := dk_182 0 73 (dk_at dksX9_warm_0 21 rfl rfl)
theorem dX9_warm_24 : decode cX9_warm 24 = .ok (.goto 8, 3) := dk_167 0 8 (dk_at dksX9_warm_1 0 rfl rfl)
theorem dX9_warm_27 : decode cX9_warm 27 = .ok (.aload_n 0, 1) := dk_42 (dk_at dksX9_warm_1 3 rfl rfl)
theorem dX9_warm_28 : decode cX9_warm 28 = .ok (.iconst 1, 1) := dk_4 (dk_at dksX9_warm_1 4 rfl rfl)
theorem dX9_warm_29 : decode cX9_warm 29 = .ok (.invokevirtual 69, 3) := dk_182 0 69 (dk_at dksX9_warm_1 5 rfl rfl)
theorem dX9_warm_32 : decode cX9_warm 32 = .ok (.ireturn, 1) := dk_172 (dk_at dksX9_warm_1 8 rfl rfl)
abbrev cX9_isDepth : ByteArray := prog_20_method_87_code
def yX9_isDepth : MethodName := ⟨RX9, "isDepth", "(II)Z"⟩
def dkwX9_isDepth_1 : List UInt8 := [4, 167, 0, 4, 3, 172]
abbrev dktX9_isDepth_1 : List UInt8 := dkwX9_isDepth_1 ++ []
def dkwX9_isDepth_0 : List UInt8 := [42, 27, 182, 2, 6, 153, 0, 23, 28, 155, 0, 19, 28, 42, 180, 0, 17, 3, 27, 96, 46, 163, 0, 7]
abbrev dktX9_isDepth_0 : List UInt8 := dkwX9_isDepth_0 ++ dktX9_isDepth_1
theorem dksX9_isDepth_0 : cX9_isDepth.data.toList.drop 0 = dktX9_isDepth_0 := by decide +kernel
theorem dksX9_isDepth_1 : cX9_isDepth.data.toList.drop 24 = dktX9_isDepth_1 := dk_seg dksX9_isDepth_0 24 rfl rfl
theorem dX9_isDepth_0 : decode cX9_isDepth 0 = .ok (.aload_n 0, 1) := dk_42 (dk_at dksX9_isDepth_0 0 rfl rfl)
theorem dX9_isDepth_1 : decode cX9_isDepth 1 = .ok (.iload_n 1, 1) := dk_27 (dk_at dksX9_isDepth_0 1 rfl rfl)
theorem dX9_isDepth_2 : decode cX9_isDepth 2 = .ok (.invokevirtual 518, 3) := dk_182 2 6 (dk_at dksX9_isDepth_0 2 rfl rfl)
theorem dX9_isDepth_5 : decode cX9_isDepth 5 = .ok (.ifCond .eq 23, 3) := dk_153 0 23 (dk_at dksX9_isDepth_0 5 rfl rfl)
theorem dX9_isDepth_8 : decode cX9_isDepth 8 = .ok (.iload_n 2, 1) := dk_28 (dk_at dksX9_isDepth_0 8 rfl rfl)
theorem dX9_isDepth_9 : decode cX9_isDepth 9 = .ok (.ifCond .lt 19, 3) := dk_155 0 19 (dk_at dksX9_isDepth_0 9 rfl rfl)
theorem dX9_isDepth_12 : decode cX9_isDepth 12 = .ok (.iload_n 2, 1) := dk_28 (dk_at dksX9_isDepth_0 12 rfl rfl)
theorem dX9_isDepth_13 : decode cX9_isDepth 13 = .ok (.aload_n 0, 1) := dk_42 (dk_at dksX9_isDepth_0 13 rfl rfl)
theorem dX9_isDepth_14 : decode cX9_isDepth 14 = .ok (.getfield 17, 3) := dk_180 0 17 (dk_at dksX9_isDepth_0 14 rfl rfl)
theorem dX9_isDepth_17 : decode cX9_isDepth 17 = .ok (.iconst 0, 1) := dk_3 (dk_at dksX9_isDepth_0 17 rfl rfl)
theorem dX9_isDepth_18 : decode cX9_isDepth 18 = .ok (.iload_n 1, 1) := dk_27 (dk_at dksX9_isDepth_0 18 rfl rfl)
theorem dX9_isDepth_19 : decode cX9_isDepth 19 = .ok (.iadd, 1) := dk_96 (dk_at dksX9_isDepth_0 19 rfl rfl)
theorem dX9_isDepth_20 : decode cX9_isDepth 20 = .ok (.iaload, 1) := dk_46 (dk_at dksX9_isDepth_0 20 rfl rfl)
theorem dX9_isDepth_21 : decode cX9_isDepth 21 = .ok (.if_icmp .gt 7, 3) := dk_163 0 7 (dk_at dksX9_isDepth_0 21 rfl rfl)
theorem dX9_isDepth_24 : decode cX9_isDepth 24 = .ok (.iconst 1, 1) := dk_4 (dk_at dksX9_isDepth_1 0 rfl rfl)
theorem dX9_isDepth_25 : decode cX9_isDepth 25 = .ok (.goto 4, 3) := dk_167 0 4 (dk_at dksX9_isDepth_1 1 rfl rfl)
theorem dX9_isDepth_28 : decode cX9_isDepth 28 = .ok (.iconst 0, 1) := dk_3 (dk_at dksX9_isDepth_1 4 rfl rfl)
theorem dX9_isDepth_29 : decode cX9_isDepth 29 = .ok (.ireturn, 1) := dk_172 (dk_at dksX9_isDepth_1 5 rfl rfl)
abbrev cX9_warmth : ByteArray := prog_20_method_88_code
def yX9_warmth : MethodName := ⟨RX9, "warmth", "(II)I"⟩
def dkwX9_warmth_3 : List UInt8 := [132, 4, 1, 167, 255, 198, 29, 172]
abbrev dktX9_warmth_3 : List UInt8 := dkwX9_warmth_3 ++ []
def dkwX9_warmth_2 : List UInt8 := [180, 1, 81, 42, 180, 0, 17, 27, 21, 4, 3, 184, 1, 169, 46, 46, 167, 0, 4, 3, 96, 62]
abbrev dktX9_warmth_2 : List UInt8 := dkwX9_warmth_2 ++ dktX9_warmth_3
def dkwX9_warmth_1 : List UInt8 := [163, 0, 51, 29, 42, 180, 0, 17, 27, 21, 4, 8, 184, 1, 169, 46, 154, 0, 26, 42, 180, 1, 161]
abbrev dktX9_warmth_1 : List UInt8 := dkwX9_warmth_1 ++ dktX9_warmth_2
def dkwX9_warmth_0 : List UInt8 := [3, 62, 28, 158, 0, 7, 28, 167, 0, 4, 4, 54, 4, 21, 4, 42, 180, 0, 17, 3, 27, 96, 46]
abbrev dktX9_warmth_0 : List UInt8 := dkwX9_warmth_0 ++ dktX9_warmth_1
theorem dksX9_warmth_0 : cX9_warmth.data.toList.drop 0 = dktX9_warmth_0 := by decide +kernel
theorem dksX9_warmth_1 : cX9_warmth.data.toList.drop 23 = dktX9_warmth_1 := dk_seg dksX9_warmth_0 23 rfl rfl
theorem dksX9_warmth_2 : cX9_warmth.data.toList.drop 46 = dktX9_warmth_2 := dk_seg dksX9_warmth_1 23 rfl rfl
theorem dksX9_warmth_3 : cX9_warmth.data.toList.drop 68 = dktX9_warmth_3 := dk_seg dksX9_warmth_2 22 rfl rfl
theorem dX9_warmth_0 : decode cX9_warmth 0 = .ok (.iconst 0, 1) := dk_3 (dk_at dksX9_warmth_0 0 rfl rfl)
theorem dX9_warmth_1 : decode cX9_warmth 1 = .ok (.istore_n 3, 1) := dk_62 (dk_at dksX9_warmth_0 1 rfl rfl)
theorem dX9_warmth_2 : decode cX9_warmth 2 = .ok (.iload_n 2, 1) := dk_28 (dk_at dksX9_warmth_0 2 rfl rfl)
theorem dX9_warmth_3 : decode cX9_warmth 3 = .ok (.ifCond .le 7, 3) := dk_158 0 7 (dk_at dksX9_warmth_0 3 rfl rfl)
theorem dX9_warmth_6 : decode cX9_warmth 6 = .ok (.iload_n 2, 1) := dk_28 (dk_at dksX9_warmth_0 6 rfl rfl)
theorem dX9_warmth_7 : decode cX9_warmth 7 = .ok (.goto 4, 3) := dk_167 0 4 (dk_at dksX9_warmth_0 7 rfl rfl)
theorem dX9_warmth_10 : decode cX9_warmth 10 = .ok (.iconst 1, 1) := dk_4 (dk_at dksX9_warmth_0 10 rfl rfl)
theorem dX9_warmth_11 : decode cX9_warmth 11 = .ok (.istore 4, 2) := dk_54 4 (dk_at dksX9_warmth_0 11 rfl rfl)
theorem dX9_warmth_13 : decode cX9_warmth 13 = .ok (.iload 4, 2) := dk_21 4 (dk_at dksX9_warmth_0 13 rfl rfl)
theorem dX9_warmth_15 : decode cX9_warmth 15 = .ok (.aload_n 0, 1) := dk_42 (dk_at dksX9_warmth_0 15 rfl rfl)
theorem dX9_warmth_16 : decode cX9_warmth 16 = .ok (.getfield 17, 3) := dk_180 0 17 (dk_at dksX9_warmth_0 16 rfl rfl)
theorem dX9_warmth_19 : decode cX9_warmth 19 = .ok (.iconst 0, 1) := dk_3 (dk_at dksX9_warmth_0 19 rfl rfl)
theorem dX9_warmth_20 : decode cX9_warmth 20 = .ok (.iload_n 1, 1) := dk_27 (dk_at dksX9_warmth_0 20 rfl rfl)
theorem dX9_warmth_21 : decode cX9_warmth 21 = .ok (.iadd, 1) := dk_96 (dk_at dksX9_warmth_0 21 rfl rfl)
theorem dX9_warmth_22 : decode cX9_warmth 22 = .ok (.iaload, 1) := dk_46 (dk_at dksX9_warmth_0 22 rfl rfl)
theorem dX9_warmth_23 : decode cX9_warmth 23 = .ok (.if_icmp .gt 51, 3) := dk_163 0 51 (dk_at dksX9_warmth_1 0 rfl rfl)
theorem dX9_warmth_26 : decode cX9_warmth 26 = .ok (.iload_n 3, 1) := dk_29 (dk_at dksX9_warmth_1 3 rfl rfl)
theorem dX9_warmth_27 : decode cX9_warmth 27 = .ok (.aload_n 0, 1) := dk_42 (dk_at dksX9_warmth_1 4 rfl rfl)
theorem dX9_warmth_28 : decode cX9_warmth 28 = .ok (.getfield 17, 3) := dk_180 0 17 (dk_at dksX9_warmth_1 5 rfl rfl)
theorem dX9_warmth_31 : decode cX9_warmth 31 = .ok (.iload_n 1, 1) := dk_27 (dk_at dksX9_warmth_1 8 rfl rfl)
theorem dX9_warmth_32 : decode cX9_warmth 32 = .ok (.iload 4, 2) := dk_21 4 (dk_at dksX9_warmth_1 9 rfl rfl)
theorem dX9_warmth_34 : decode cX9_warmth 34 = .ok (.iconst 5, 1) := dk_8 (dk_at dksX9_warmth_1 11 rfl rfl)
theorem dX9_warmth_35 : decode cX9_warmth 35 = .ok (.invokestatic 425, 3) := dk_184 1 169 (dk_at dksX9_warmth_1 12 rfl rfl)
theorem dX9_warmth_38 : decode cX9_warmth 38 = .ok (.iaload, 1) := dk_46 (dk_at dksX9_warmth_1 15 rfl rfl)
theorem dX9_warmth_39 : decode cX9_warmth 39 = .ok (.ifCond .ne 26, 3) := dk_154 0 26 (dk_at dksX9_warmth_1 16 rfl rfl)
theorem dX9_warmth_42 : decode cX9_warmth 42 = .ok (.aload_n 0, 1) := dk_42 (dk_at dksX9_warmth_1 19 rfl rfl)
theorem dX9_warmth_43 : decode cX9_warmth 43 = .ok (.getfield 417, 3) := dk_180 1 161 (dk_at dksX9_warmth_1 20 rfl rfl)
theorem dX9_warmth_46 : decode cX9_warmth 46 = .ok (.getfield 337, 3) := dk_180 1 81 (dk_at dksX9_warmth_2 0 rfl rfl)
theorem dX9_warmth_49 : decode cX9_warmth 49 = .ok (.aload_n 0, 1) := dk_42 (dk_at dksX9_warmth_2 3 rfl rfl)
theorem dX9_warmth_50 : decode cX9_warmth 50 = .ok (.getfield 17, 3) := dk_180 0 17 (dk_at dksX9_warmth_2 4 rfl rfl)
theorem dX9_warmth_53 : decode cX9_warmth 53 = .ok (.iload_n 1, 1) := dk_27 (dk_at dksX9_warmth_2 7 rfl rfl)
theorem dX9_warmth_54 : decode cX9_warmth 54 = .ok (.iload 4, 2) := dk_21 4 (dk_at dksX9_warmth_2 8 rfl rfl)
theorem dX9_warmth_56 : decode cX9_warmth 56 = .ok (.iconst 0, 1) := dk_3 (dk_at dksX9_warmth_2 10 rfl rfl)
theorem dX9_warmth_57 : decode cX9_warmth 57 = .ok (.invokestatic 425, 3) := dk_184 1 169 (dk_at dksX9_warmth_2 11 rfl rfl)
theorem dX9_warmth_60 : decode cX9_warmth 60 = .ok (.iaload, 1) := dk_46 (dk_at dksX9_warmth_2 14 rfl rfl)
theorem dX9_warmth_61 : decode cX9_warmth 61 = .ok (.iaload, 1) := dk_46 (dk_at dksX9_warmth_2 15 rfl rfl)
theorem dX9_warmth_62 : decode cX9_warmth 62 = .ok (.goto 4, 3) := dk_167 0 4 (dk_at dksX9_warmth_2 16 rfl rfl)
theorem dX9_warmth_65 : decode cX9_warmth 65 = .ok (.iconst 0, 1) := dk_3 (dk_at dksX9_warmth_2 19 rfl rfl)
theorem dX9_warmth_66 : decode cX9_warmth 66 = .ok (.iadd, 1) := dk_96 (dk_at dksX9_warmth_2 20 rfl rfl)
theorem dX9_warmth_67 : decode cX9_warmth 67 = .ok (.istore_n 3, 1) := dk_62 (dk_at dksX9_warmth_2 21 rfl rfl)
theorem dX9_warmth_68 : decode cX9_warmth 68 = .ok (.iinc 4 1, 3) := dk_132 4 1 (dk_at dksX9_warmth_3 0 rfl rfl)
theorem dX9_warmth_71 : decode cX9_warmth 71 = .ok (.goto (-58), 3) := dk_167 255 198 (dk_at dksX9_warmth_3 3 rfl rfl)
theorem dX9_warmth_74 : decode cX9_warmth 74 = .ok (.iload_n 3, 1) := dk_29 (dk_at dksX9_warmth_3 6 rfl rfl)
theorem dX9_warmth_75 : decode cX9_warmth 75 = .ok (.ireturn, 1) := dk_172 (dk_at dksX9_warmth_3 7 rfl rfl)
abbrev cX9_light : ByteArray := prog_20_method_90_code
def yX9_light : MethodName := ⟨RX9, "light", "(II)I"⟩
def dkwX9_light_2 : List UInt8 := [182, 0, 73, 172]
abbrev dktX9_light_2 : List UInt8 := dkwX9_light_2 ++ []
def dkwX9_light_1 : List UInt8 := [180, 0, 17, 3, 27, 96, 46, 28, 100, 104, 100, 62, 42, 29, 158, 0, 7, 29, 167, 0, 4, 3]
abbrev dktX9_light_1 : List UInt8 := dkwX9_light_1 ++ dktX9_light_2
def dkwX9_light_0 : List UInt8 := [42, 3, 181, 0, 63, 42, 27, 28, 182, 2, 28, 154, 0, 9, 42, 4, 182, 0, 69, 172, 16, 9, 6, 42]
abbrev dktX9_light_0 : List UInt8 := dkwX9_light_0 ++ dktX9_light_1
theorem dksX9_light_0 : cX9_light.data.toList.drop 0 = dktX9_light_0 := by decide +kernel
theorem dksX9_light_1 : cX9_light.data.toList.drop 24 = dktX9_light_1 := dk_seg dksX9_light_0 24 rfl rfl
theorem dksX9_light_2 : cX9_light.data.toList.drop 46 = dktX9_light_2 := dk_seg dksX9_light_1 22 rfl rfl
theorem dX9_light_0 : decode cX9_light 0 = .ok (.aload_n 0, 1) := dk_42 (dk_at dksX9_light_0 0 rfl rfl)
theorem dX9_light_1 : decode cX9_light 1 = .ok (.iconst 0, 1) := dk_3 (dk_at dksX9_light_0 1 rfl rfl)
theorem dX9_light_2 : decode cX9_light 2 = .ok (.putfield 63, 3) := dk_181 0 63 (dk_at dksX9_light_0 2 rfl rfl)
theorem dX9_light_5 : decode cX9_light 5 = .ok (.aload_n 0, 1) := dk_42 (dk_at dksX9_light_0 5 rfl rfl)
theorem dX9_light_6 : decode cX9_light 6 = .ok (.iload_n 1, 1) := dk_27 (dk_at dksX9_light_0 6 rfl rfl)
theorem dX9_light_7 : decode cX9_light 7 = .ok (.iload_n 2, 1) := dk_28 (dk_at dksX9_light_0 7 rfl rfl)
theorem dX9_light_8 : decode cX9_light 8 = .ok (.invokevirtual 540, 3) := dk_182 2 28 (dk_at dksX9_light_0 8 rfl rfl)
theorem dX9_light_11 : decode cX9_light 11 = .ok (.ifCond .ne 9, 3) := dk_154 0 9 (dk_at dksX9_light_0 11 rfl rfl)
theorem dX9_light_14 : decode cX9_light 14 = .ok (.aload_n 0, 1) := dk_42 (dk_at dksX9_light_0 14 rfl rfl)
theorem dX9_light_15 : decode cX9_light 15 = .ok (.iconst 1, 1) := dk_4 (dk_at dksX9_light_0 15 rfl rfl)
theorem dX9_light_16 : decode cX9_light 16 = .ok (.invokevirtual 69, 3) := dk_182 0 69 (dk_at dksX9_light_0 16 rfl rfl)
theorem dX9_light_19 : decode cX9_light 19 = .ok (.ireturn, 1) := dk_172 (dk_at dksX9_light_0 19 rfl rfl)
theorem dX9_light_20 : decode cX9_light 20 = .ok (.bipush 9, 2) := dk_16 9 (dk_at dksX9_light_0 20 rfl rfl)
theorem dX9_light_22 : decode cX9_light 22 = .ok (.iconst 3, 1) := dk_6 (dk_at dksX9_light_0 22 rfl rfl)
theorem dX9_light_23 : decode cX9_light 23 = .ok (.aload_n 0, 1) := dk_42 (dk_at dksX9_light_0 23 rfl rfl)
theorem dX9_light_24 : decode cX9_light 24 = .ok (.getfield 17, 3) := dk_180 0 17 (dk_at dksX9_light_1 0 rfl rfl)
theorem dX9_light_27 : decode cX9_light 27 = .ok (.iconst 0, 1) := dk_3 (dk_at dksX9_light_1 3 rfl rfl)
theorem dX9_light_28 : decode cX9_light 28 = .ok (.iload_n 1, 1) := dk_27 (dk_at dksX9_light_1 4 rfl rfl)
theorem dX9_light_29 : decode cX9_light 29 = .ok (.iadd, 1) := dk_96 (dk_at dksX9_light_1 5 rfl rfl)
theorem dX9_light_30 : decode cX9_light 30 = .ok (.iaload, 1) := dk_46 (dk_at dksX9_light_1 6 rfl rfl)
theorem dX9_light_31 : decode cX9_light 31 = .ok (.iload_n 2, 1) := dk_28 (dk_at dksX9_light_1 7 rfl rfl)
theorem dX9_light_32 : decode cX9_light 32 = .ok (.isub, 1) := dk_100 (dk_at dksX9_light_1 8 rfl rfl)
theorem dX9_light_33 : decode cX9_light 33 = .ok (.imul, 1) := dk_104 (dk_at dksX9_light_1 9 rfl rfl)
theorem dX9_light_34 : decode cX9_light 34 = .ok (.isub, 1) := dk_100 (dk_at dksX9_light_1 10 rfl rfl)
theorem dX9_light_35 : decode cX9_light 35 = .ok (.istore_n 3, 1) := dk_62 (dk_at dksX9_light_1 11 rfl rfl)
theorem dX9_light_36 : decode cX9_light 36 = .ok (.aload_n 0, 1) := dk_42 (dk_at dksX9_light_1 12 rfl rfl)
theorem dX9_light_37 : decode cX9_light 37 = .ok (.iload_n 3, 1) := dk_29 (dk_at dksX9_light_1 13 rfl rfl)
theorem dX9_light_38 : decode cX9_light 38 = .ok (.ifCond .le 7, 3) := dk_158 0 7 (dk_at dksX9_light_1 14 rfl rfl)
theorem dX9_light_41 : decode cX9_light 41 = .ok (.iload_n 3, 1) := dk_29 (dk_at dksX9_light_1 17 rfl rfl)
theorem dX9_light_42 : decode cX9_light 42 = .ok (.goto 4, 3) := dk_167 0 4 (dk_at dksX9_light_1 18 rfl rfl)
theorem dX9_light_45 : decode cX9_light 45 = .ok (.iconst 0, 1) := dk_3 (dk_at dksX9_light_1 21 rfl rfl)
theorem dX9_light_46 : decode cX9_light 46 = .ok (.invokevirtual 73, 3) := dk_182 0 73 (dk_at dksX9_light_2 0 rfl rfl)
theorem dX9_light_49 : decode cX9_light 49 = .ok (.ireturn, 1) := dk_172 (dk_at dksX9_light_2 3 rfl rfl)
abbrev cX9_heir : ByteArray := prog_20_method_91_code
def yX9_heir : MethodName := ⟨RX9, "heir", "(II)I"⟩
def dkwX9_heir_3 : List UInt8 := [27, 46, 42, 180, 0, 17, 17, 0, 204, 27, 96, 46, 182, 2, 31, 182, 0, 73, 172]
abbrev dktX9_heir_3 : List UInt8 := dkwX9_heir_3 ++ []
def dkwX9_heir_2 : List UInt8 := [160, 0, 16, 42, 180, 0, 17, 17, 0, 204, 27, 96, 46, 167, 0, 26, 42, 42, 180, 1, 161, 180, 1, 135]
abbrev dktX9_heir_2 : List UInt8 := dkwX9_heir_2 ++ dktX9_heir_3
def dkwX9_heir_1 : List UInt8 := [182, 0, 69, 172, 42, 28, 154, 0, 15, 42, 180, 1, 161, 180, 1, 135, 27, 46, 167, 0, 44, 28, 4]
abbrev dktX9_heir_1 : List UInt8 := dkwX9_heir_1 ++ dktX9_heir_2
def dkwX9_heir_0 : List UInt8 := [42, 3, 181, 0, 63, 42, 27, 182, 2, 34, 153, 0, 12, 28, 3, 5, 184, 0, 141, 154, 0, 9, 42, 4]
abbrev dktX9_heir_0 : List UInt8 := dkwX9_heir_0 ++ dktX9_heir_1
theorem dksX9_heir_0 : cX9_heir.data.toList.drop 0 = dktX9_heir_0 := by decide +kernel
theorem dksX9_heir_1 : cX9_heir.data.toList.drop 24 = dktX9_heir_1 := dk_seg dksX9_heir_0 24 rfl rfl
theorem dksX9_heir_2 : cX9_heir.data.toList.drop 47 = dktX9_heir_2 := dk_seg dksX9_heir_1 23 rfl rfl
theorem dksX9_heir_3 : cX9_heir.data.toList.drop 71 = dktX9_heir_3 := dk_seg dksX9_heir_2 24 rfl rfl
theorem dX9_heir_0 : decode cX9_heir 0 = .ok (.aload_n 0, 1) := dk_42 (dk_at dksX9_heir_0 0 rfl rfl)
theorem dX9_heir_1 : decode cX9_heir 1 = .ok (.iconst 0, 1) := dk_3 (dk_at dksX9_heir_0 1 rfl rfl)
theorem dX9_heir_2 : decode cX9_heir 2 = .ok (.putfield 63, 3) := dk_181 0 63 (dk_at dksX9_heir_0 2 rfl rfl)
theorem dX9_heir_5 : decode cX9_heir 5 = .ok (.aload_n 0, 1) := dk_42 (dk_at dksX9_heir_0 5 rfl rfl)
theorem dX9_heir_6 : decode cX9_heir 6 = .ok (.iload_n 1, 1) := dk_27 (dk_at dksX9_heir_0 6 rfl rfl)
theorem dX9_heir_7 : decode cX9_heir 7 = .ok (.invokevirtual 546, 3) := dk_182 2 34 (dk_at dksX9_heir_0 7 rfl rfl)
theorem dX9_heir_10 : decode cX9_heir 10 = .ok (.ifCond .eq 12, 3) := dk_153 0 12 (dk_at dksX9_heir_0 10 rfl rfl)
theorem dX9_heir_13 : decode cX9_heir 13 = .ok (.iload_n 2, 1) := dk_28 (dk_at dksX9_heir_0 13 rfl rfl)
theorem dX9_heir_14 : decode cX9_heir 14 = .ok (.iconst 0, 1) := dk_3 (dk_at dksX9_heir_0 14 rfl rfl)
theorem dX9_heir_15 : decode cX9_heir 15 = .ok (.iconst 2, 1) := dk_5 (dk_at dksX9_heir_0 15 rfl rfl)
theorem dX9_heir_16 : decode cX9_heir 16 = .ok (.invokestatic 141, 3) := dk_184 0 141 (dk_at dksX9_heir_0 16 rfl rfl)
theorem dX9_heir_19 : decode cX9_heir 19 = .ok (.ifCond .ne 9, 3) := dk_154 0 9 (dk_at dksX9_heir_0 19 rfl rfl)
theorem dX9_heir_22 : decode cX9_heir 22 = .ok (.aload_n 0, 1) := dk_42 (dk_at dksX9_heir_0 22 rfl rfl)
theorem dX9_heir_23 : decode cX9_heir 23 = .ok (.iconst 1, 1) := dk_4 (dk_at dksX9_heir_0 23 rfl rfl)
theorem dX9_heir_24 : decode cX9_heir 24 = .ok (.invokevirtual 69, 3) := dk_182 0 69 (dk_at dksX9_heir_1 0 rfl rfl)
theorem dX9_heir_27 : decode cX9_heir 27 = .ok (.ireturn, 1) := dk_172 (dk_at dksX9_heir_1 3 rfl rfl)
theorem dX9_heir_28 : decode cX9_heir 28 = .ok (.aload_n 0, 1) := dk_42 (dk_at dksX9_heir_1 4 rfl rfl)
theorem dX9_heir_29 : decode cX9_heir 29 = .ok (.iload_n 2, 1) := dk_28 (dk_at dksX9_heir_1 5 rfl rfl)
theorem dX9_heir_30 : decode cX9_heir 30 = .ok (.ifCond .ne 15, 3) := dk_154 0 15 (dk_at dksX9_heir_1 6 rfl rfl)
theorem dX9_heir_33 : decode cX9_heir 33 = .ok (.aload_n 0, 1) := dk_42 (dk_at dksX9_heir_1 9 rfl rfl)
theorem dX9_heir_34 : decode cX9_heir 34 = .ok (.getfield 417, 3) := dk_180 1 161 (dk_at dksX9_heir_1 10 rfl rfl)
theorem dX9_heir_37 : decode cX9_heir 37 = .ok (.getfield 391, 3) := dk_180 1 135 (dk_at dksX9_heir_1 13 rfl rfl)
theorem dX9_heir_40 : decode cX9_heir 40 = .ok (.iload_n 1, 1) := dk_27 (dk_at dksX9_heir_1 16 rfl rfl)
theorem dX9_heir_41 : decode cX9_heir 41 = .ok (.iaload, 1) := dk_46 (dk_at dksX9_heir_1 17 rfl rfl)
theorem dX9_heir_42 : decode cX9_heir 42 = .ok (.goto 44, 3) := dk_167 0 44 (dk_at dksX9_heir_1 18 rfl rfl)
theorem dX9_heir_45 : decode cX9_heir 45 = .ok (.iload_n 2, 1) := dk_28 (dk_at dksX9_heir_1 21 rfl rfl)
theorem dX9_heir_46 : decode cX9_heir 46 = .ok (.iconst 1, 1) := dk_4 (dk_at dksX9_heir_1 22 rfl rfl)
theorem dX9_heir_47 : decode cX9_heir 47 = .ok (.if_icmp .ne 16, 3) := dk_160 0 16 (dk_at dksX9_heir_2 0 rfl rfl)
theorem dX9_heir_50 : decode cX9_heir 50 = .ok (.aload_n 0, 1) := dk_42 (dk_at dksX9_heir_2 3 rfl rfl)
theorem dX9_heir_51 : decode cX9_heir 51 = .ok (.getfield 17, 3) := dk_180 0 17 (dk_at dksX9_heir_2 4 rfl rfl)
theorem dX9_heir_54 : decode cX9_heir 54 = .ok (.sipush 204, 3) := dk_17 0 204 (dk_at dksX9_heir_2 7 rfl rfl)
theorem dX9_heir_57 : decode cX9_heir 57 = .ok (.iload_n 1, 1) := dk_27 (dk_at dksX9_heir_2 10 rfl rfl)
theorem dX9_heir_58 : decode cX9_heir 58 = .ok (.iadd, 1) := dk_96 (dk_at dksX9_heir_2 11 rfl rfl)
theorem dX9_heir_59 : decode cX9_heir 59 = .ok (.iaload, 1) := dk_46 (dk_at dksX9_heir_2 12 rfl rfl)
theorem dX9_heir_60 : decode cX9_heir 60 = .ok (.goto 26, 3) := dk_167 0 26 (dk_at dksX9_heir_2 13 rfl rfl)
theorem dX9_heir_63 : decode cX9_heir 63 = .ok (.aload_n 0, 1) := dk_42 (dk_at dksX9_heir_2 16 rfl rfl)
theorem dX9_heir_64 : decode cX9_heir 64 = .ok (.aload_n 0, 1) := dk_42 (dk_at dksX9_heir_2 17 rfl rfl)
theorem dX9_heir_65 : decode cX9_heir 65 = .ok (.getfield 417, 3) := dk_180 1 161 (dk_at dksX9_heir_2 18 rfl rfl)
theorem dX9_heir_68 : decode cX9_heir 68 = .ok (.getfield 391, 3) := dk_180 1 135 (dk_at dksX9_heir_2 21 rfl rfl)
theorem dX9_heir_71 : decode cX9_heir 71 = .ok (.iload_n 1, 1) := dk_27 (dk_at dksX9_heir_3 0 rfl rfl)
theorem dX9_heir_72 : decode cX9_heir 72 = .ok (.iaload, 1) := dk_46 (dk_at dksX9_heir_3 1 rfl rfl)
theorem dX9_heir_73 : decode cX9_heir 73 = .ok (.aload_n 0, 1) := dk_42 (dk_at dksX9_heir_3 2 rfl rfl)
theorem dX9_heir_74 : decode cX9_heir 74 = .ok (.getfield 17, 3) := dk_180 0 17 (dk_at dksX9_heir_3 3 rfl rfl)
theorem dX9_heir_77 : decode cX9_heir 77 = .ok (.sipush 204, 3) := dk_17 0 204 (dk_at dksX9_heir_3 6 rfl rfl)
theorem dX9_heir_80 : decode cX9_heir 80 = .ok (.iload_n 1, 1) := dk_27 (dk_at dksX9_heir_3 9 rfl rfl)
theorem dX9_heir_81 : decode cX9_heir 81 = .ok (.iadd, 1) := dk_96 (dk_at dksX9_heir_3 10 rfl rfl)
theorem dX9_heir_82 : decode cX9_heir 82 = .ok (.iaload, 1) := dk_46 (dk_at dksX9_heir_3 11 rfl rfl)
theorem dX9_heir_83 : decode cX9_heir 83 = .ok (.invokevirtual 543, 3) := dk_182 2 31 (dk_at dksX9_heir_3 12 rfl rfl)
theorem dX9_heir_86 : decode cX9_heir 86 = .ok (.invokevirtual 73, 3) := dk_182 0 73 (dk_at dksX9_heir_3 15 rfl rfl)
theorem dX9_heir_89 : decode cX9_heir 89 = .ok (.ireturn, 1) := dk_172 (dk_at dksX9_heir_3 18 rfl rfl)
abbrev cX9_isHeir : ByteArray := prog_20_method_78_code
def yX9_isHeir : MethodName := ⟨RX9, "isHeir", "(I)Z"⟩
def dkwX9_isHeir_1 : List UInt8 := [167, 0, 4, 3, 172]
abbrev dktX9_isHeir_1 : List UInt8 := dkwX9_isHeir_1 ++ []
def dkwX9_isHeir_0 : List UInt8 := [42, 180, 1, 161, 198, 0, 22, 27, 155, 0, 18, 27, 42, 180, 1, 161, 180, 1, 132, 162, 0, 7, 4]
abbrev dktX9_isHeir_0 : List UInt8 := dkwX9_isHeir_0 ++ dktX9_isHeir_1
theorem dksX9_isHeir_0 : cX9_isHeir.data.toList.drop 0 = dktX9_isHeir_0 := by decide +kernel
theorem dksX9_isHeir_1 : cX9_isHeir.data.toList.drop 23 = dktX9_isHeir_1 := dk_seg dksX9_isHeir_0 23 rfl rfl
theorem dX9_isHeir_0 : decode cX9_isHeir 0 = .ok (.aload_n 0, 1) := dk_42 (dk_at dksX9_isHeir_0 0 rfl rfl)
theorem dX9_isHeir_1 : decode cX9_isHeir 1 = .ok (.getfield 417, 3) := dk_180 1 161 (dk_at dksX9_isHeir_0 1 rfl rfl)
theorem dX9_isHeir_4 : decode cX9_isHeir 4 = .ok (.ifnull 22, 3) := dk_198 0 22 (dk_at dksX9_isHeir_0 4 rfl rfl)
theorem dX9_isHeir_7 : decode cX9_isHeir 7 = .ok (.iload_n 1, 1) := dk_27 (dk_at dksX9_isHeir_0 7 rfl rfl)
theorem dX9_isHeir_8 : decode cX9_isHeir 8 = .ok (.ifCond .lt 18, 3) := dk_155 0 18 (dk_at dksX9_isHeir_0 8 rfl rfl)
theorem dX9_isHeir_11 : decode cX9_isHeir 11 = .ok (.iload_n 1, 1) := dk_27 (dk_at dksX9_isHeir_0 11 rfl rfl)
theorem dX9_isHeir_12 : decode cX9_isHeir 12 = .ok (.aload_n 0, 1) := dk_42 (dk_at dksX9_isHeir_0 12 rfl rfl)
theorem dX9_isHeir_13 : decode cX9_isHeir 13 = .ok (.getfield 417, 3) := dk_180 1 161 (dk_at dksX9_isHeir_0 13 rfl rfl)
theorem dX9_isHeir_16 : decode cX9_isHeir 16 = .ok (.getfield 388, 3) := dk_180 1 132 (dk_at dksX9_isHeir_0 16 rfl rfl)
theorem dX9_isHeir_19 : decode cX9_isHeir 19 = .ok (.if_icmp .ge 7, 3) := dk_162 0 7 (dk_at dksX9_isHeir_0 19 rfl rfl)
theorem dX9_isHeir_22 : decode cX9_isHeir 22 = .ok (.iconst 1, 1) := dk_4 (dk_at dksX9_isHeir_0 22 rfl rfl)
theorem dX9_isHeir_23 : decode cX9_isHeir 23 = .ok (.goto 4, 3) := dk_167 0 4 (dk_at dksX9_isHeir_1 0 rfl rfl)
theorem dX9_isHeir_26 : decode cX9_isHeir 26 = .ok (.iconst 0, 1) := dk_3 (dk_at dksX9_isHeir_1 3 rfl rfl)
theorem dX9_isHeir_27 : decode cX9_isHeir 27 = .ok (.ireturn, 1) := dk_172 (dk_at dksX9_isHeir_1 4 rfl rfl)
abbrev cX9_fits : ByteArray := prog_20_method_92_code
def yX9_fits : MethodName := ⟨RX9, "fits", "(I)I"⟩
def dkwX9_fits_2 : List UInt8 := [182, 0, 73, 167, 0, 8, 42, 4, 182, 0, 69, 172]
abbrev dktX9_fits_2 : List UInt8 := dkwX9_fits_2 ++ []
def dkwX9_fits_1 : List UInt8 := [162, 0, 22, 42, 180, 1, 161, 42, 180, 0, 17, 27, 184, 1, 119, 153, 0, 7, 4, 167, 0, 4, 3]
abbrev dktX9_fits_1 : List UInt8 := dkwX9_fits_1 ++ dktX9_fits_2
def dkwX9_fits_0 : List UInt8 := [42, 3, 181, 0, 63, 42, 27, 182, 2, 6, 153, 0, 43, 42, 42, 180, 0, 17, 3, 27, 96, 46, 16, 6]
abbrev dktX9_fits_0 : List UInt8 := dkwX9_fits_0 ++ dktX9_fits_1
theorem dksX9_fits_0 : cX9_fits.data.toList.drop 0 = dktX9_fits_0 := by decide +kernel
theorem dksX9_fits_1 : cX9_fits.data.toList.drop 24 = dktX9_fits_1 := dk_seg dksX9_fits_0 24 rfl rfl
theorem dksX9_fits_2 : cX9_fits.data.toList.drop 47 = dktX9_fits_2 := dk_seg dksX9_fits_1 23 rfl rfl
theorem dX9_fits_0 : decode cX9_fits 0 = .ok (.aload_n 0, 1) := dk_42 (dk_at dksX9_fits_0 0 rfl rfl)
theorem dX9_fits_1 : decode cX9_fits 1 = .ok (.iconst 0, 1) := dk_3 (dk_at dksX9_fits_0 1 rfl rfl)
theorem dX9_fits_2 : decode cX9_fits 2 = .ok (.putfield 63, 3) := dk_181 0 63 (dk_at dksX9_fits_0 2 rfl rfl)
theorem dX9_fits_5 : decode cX9_fits 5 = .ok (.aload_n 0, 1) := dk_42 (dk_at dksX9_fits_0 5 rfl rfl)
theorem dX9_fits_6 : decode cX9_fits 6 = .ok (.iload_n 1, 1) := dk_27 (dk_at dksX9_fits_0 6 rfl rfl)
theorem dX9_fits_7 : decode cX9_fits 7 = .ok (.invokevirtual 518, 3) := dk_182 2 6 (dk_at dksX9_fits_0 7 rfl rfl)
theorem dX9_fits_10 : decode cX9_fits 10 = .ok (.ifCond .eq 43, 3) := dk_153 0 43 (dk_at dksX9_fits_0 10 rfl rfl)
theorem dX9_fits_13 : decode cX9_fits 13 = .ok (.aload_n 0, 1) := dk_42 (dk_at dksX9_fits_0 13 rfl rfl)
theorem dX9_fits_14 : decode cX9_fits 14 = .ok (.aload_n 0, 1) := dk_42 (dk_at dksX9_fits_0 14 rfl rfl)
theorem dX9_fits_15 : decode cX9_fits 15 = .ok (.getfield 17, 3) := dk_180 0 17 (dk_at dksX9_fits_0 15 rfl rfl)
theorem dX9_fits_18 : decode cX9_fits 18 = .ok (.iconst 0, 1) := dk_3 (dk_at dksX9_fits_0 18 rfl rfl)
theorem dX9_fits_19 : decode cX9_fits 19 = .ok (.iload_n 1, 1) := dk_27 (dk_at dksX9_fits_0 19 rfl rfl)
theorem dX9_fits_20 : decode cX9_fits 20 = .ok (.iadd, 1) := dk_96 (dk_at dksX9_fits_0 20 rfl rfl)
theorem dX9_fits_21 : decode cX9_fits 21 = .ok (.iaload, 1) := dk_46 (dk_at dksX9_fits_0 21 rfl rfl)
theorem dX9_fits_22 : decode cX9_fits 22 = .ok (.bipush 6, 2) := dk_16 6 (dk_at dksX9_fits_0 22 rfl rfl)
theorem dX9_fits_24 : decode cX9_fits 24 = .ok (.if_icmp .ge 22, 3) := dk_162 0 22 (dk_at dksX9_fits_1 0 rfl rfl)
theorem dX9_fits_27 : decode cX9_fits 27 = .ok (.aload_n 0, 1) := dk_42 (dk_at dksX9_fits_1 3 rfl rfl)
theorem dX9_fits_28 : decode cX9_fits 28 = .ok (.getfield 417, 3) := dk_180 1 161 (dk_at dksX9_fits_1 4 rfl rfl)
theorem dX9_fits_31 : decode cX9_fits 31 = .ok (.aload_n 0, 1) := dk_42 (dk_at dksX9_fits_1 7 rfl rfl)
theorem dX9_fits_32 : decode cX9_fits 32 = .ok (.getfield 17, 3) := dk_180 0 17 (dk_at dksX9_fits_1 8 rfl rfl)
theorem dX9_fits_35 : decode cX9_fits 35 = .ok (.iload_n 1, 1) := dk_27 (dk_at dksX9_fits_1 11 rfl rfl)
theorem dX9_fits_36 : decode cX9_fits 36 = .ok (.invokestatic 375, 3) := dk_184 1 119 (dk_at dksX9_fits_1 12 rfl rfl)
theorem dX9_fits_39 : decode cX9_fits 39 = .ok (.ifCond .eq 7, 3) := dk_153 0 7 (dk_at dksX9_fits_1 15 rfl rfl)
theorem dX9_fits_42 : decode cX9_fits 42 = .ok (.iconst 1, 1) := dk_4 (dk_at dksX9_fits_1 18 rfl rfl)
theorem dX9_fits_43 : decode cX9_fits 43 = .ok (.goto 4, 3) := dk_167 0 4 (dk_at dksX9_fits_1 19 rfl rfl)
theorem dX9_fits_46 : decode cX9_fits 46 = .ok (.iconst 0, 1) := dk_3 (dk_at dksX9_fits_1 22 rfl rfl)
theorem dX9_fits_47 : decode cX9_fits 47 = .ok (.invokevirtual 73, 3) := dk_182 0 73 (dk_at dksX9_fits_2 0 rfl rfl)
theorem dX9_fits_50 : decode cX9_fits 50 = .ok (.goto 8, 3) := dk_167 0 8 (dk_at dksX9_fits_2 3 rfl rfl)
theorem dX9_fits_53 : decode cX9_fits 53 = .ok (.aload_n 0, 1) := dk_42 (dk_at dksX9_fits_2 6 rfl rfl)
theorem dX9_fits_54 : decode cX9_fits 54 = .ok (.iconst 1, 1) := dk_4 (dk_at dksX9_fits_2 7 rfl rfl)
theorem dX9_fits_55 : decode cX9_fits 55 = .ok (.invokevirtual 69, 3) := dk_182 0 69 (dk_at dksX9_fits_2 8 rfl rfl)
theorem dX9_fits_58 : decode cX9_fits 58 = .ok (.ireturn, 1) := dk_172 (dk_at dksX9_fits_2 11 rfl rfl)
abbrev cX9_door : ByteArray := prog_20_method_93_code
def yX9_door : MethodName := ⟨RX9, "door", "(I)I"⟩
def dkwX9_door_2 : List UInt8 := [167, 0, 5, 16, 254, 182, 0, 73, 172]
abbrev dktX9_door_2 : List UInt8 := dkwX9_door_2 ++ []
def dkwX9_door_1 : List UInt8 := [180, 0, 17, 27, 182, 1, 241, 153, 0, 18, 16, 100, 42, 180, 1, 219, 104, 42, 180, 1, 222, 96]
abbrev dktX9_door_1 : List UInt8 := dkwX9_door_1 ++ dktX9_door_2
def dkwX9_door_0 : List UInt8 := [42, 3, 181, 0, 63, 42, 27, 182, 2, 6, 154, 0, 9, 42, 4, 182, 0, 69, 172, 42, 42, 42]
abbrev dktX9_door_0 : List UInt8 := dkwX9_door_0 ++ dktX9_door_1
theorem dksX9_door_0 : cX9_door.data.toList.drop 0 = dktX9_door_0 := by decide +kernel
theorem dksX9_door_1 : cX9_door.data.toList.drop 22 = dktX9_door_1 := dk_seg dksX9_door_0 22 rfl rfl
theorem dksX9_door_2 : cX9_door.data.toList.drop 44 = dktX9_door_2 := dk_seg dksX9_door_1 22 rfl rfl
theorem dX9_door_0 : decode cX9_door 0 = .ok (.aload_n 0, 1) := dk_42 (dk_at dksX9_door_0 0 rfl rfl)
theorem dX9_door_1 : decode cX9_door 1 = .ok (.iconst 0, 1) := dk_3 (dk_at dksX9_door_0 1 rfl rfl)
theorem dX9_door_2 : decode cX9_door 2 = .ok (.putfield 63, 3) := dk_181 0 63 (dk_at dksX9_door_0 2 rfl rfl)
theorem dX9_door_5 : decode cX9_door 5 = .ok (.aload_n 0, 1) := dk_42 (dk_at dksX9_door_0 5 rfl rfl)
theorem dX9_door_6 : decode cX9_door 6 = .ok (.iload_n 1, 1) := dk_27 (dk_at dksX9_door_0 6 rfl rfl)
theorem dX9_door_7 : decode cX9_door 7 = .ok (.invokevirtual 518, 3) := dk_182 2 6 (dk_at dksX9_door_0 7 rfl rfl)
theorem dX9_door_10 : decode cX9_door 10 = .ok (.ifCond .ne 9, 3) := dk_154 0 9 (dk_at dksX9_door_0 10 rfl rfl)
theorem dX9_door_13 : decode cX9_door 13 = .ok (.aload_n 0, 1) := dk_42 (dk_at dksX9_door_0 13 rfl rfl)
theorem dX9_door_14 : decode cX9_door 14 = .ok (.iconst 1, 1) := dk_4 (dk_at dksX9_door_0 14 rfl rfl)
theorem dX9_door_15 : decode cX9_door 15 = .ok (.invokevirtual 69, 3) := dk_182 0 69 (dk_at dksX9_door_0 15 rfl rfl)
theorem dX9_door_18 : decode cX9_door 18 = .ok (.ireturn, 1) := dk_172 (dk_at dksX9_door_0 18 rfl rfl)
theorem dX9_door_19 : decode cX9_door 19 = .ok (.aload_n 0, 1) := dk_42 (dk_at dksX9_door_0 19 rfl rfl)
theorem dX9_door_20 : decode cX9_door 20 = .ok (.aload_n 0, 1) := dk_42 (dk_at dksX9_door_0 20 rfl rfl)
theorem dX9_door_21 : decode cX9_door 21 = .ok (.aload_n 0, 1) := dk_42 (dk_at dksX9_door_0 21 rfl rfl)
theorem dX9_door_22 : decode cX9_door 22 = .ok (.getfield 17, 3) := dk_180 0 17 (dk_at dksX9_door_1 0 rfl rfl)
theorem dX9_door_25 : decode cX9_door 25 = .ok (.iload_n 1, 1) := dk_27 (dk_at dksX9_door_1 3 rfl rfl)
theorem dX9_door_26 : decode cX9_door 26 = .ok (.invokevirtual 497, 3) := dk_182 1 241 (dk_at dksX9_door_1 4 rfl rfl)
theorem dX9_door_29 : decode cX9_door 29 = .ok (.ifCond .eq 18, 3) := dk_153 0 18 (dk_at dksX9_door_1 7 rfl rfl)
theorem dX9_door_32 : decode cX9_door 32 = .ok (.bipush 100, 2) := dk_16 100 (dk_at dksX9_door_1 10 rfl rfl)
theorem dX9_door_34 : decode cX9_door 34 = .ok (.aload_n 0, 1) := dk_42 (dk_at dksX9_door_1 12 rfl rfl)
theorem dX9_door_35 : decode cX9_door 35 = .ok (.getfield 475, 3) := dk_180 1 219 (dk_at dksX9_door_1 13 rfl rfl)
theorem dX9_door_38 : decode cX9_door 38 = .ok (.imul, 1) := dk_104 (dk_at dksX9_door_1 16 rfl rfl)
theorem dX9_door_39 : decode cX9_door 39 = .ok (.aload_n 0, 1) := dk_42 (dk_at dksX9_door_1 17 rfl rfl)
theorem dX9_door_40 : decode cX9_door 40 = .ok (.getfield 478, 3) := dk_180 1 222 (dk_at dksX9_door_1 18 rfl rfl)
theorem dX9_door_43 : decode cX9_door 43 = .ok (.iadd, 1) := dk_96 (dk_at dksX9_door_1 21 rfl rfl)
theorem dX9_door_44 : decode cX9_door 44 = .ok (.goto 5, 3) := dk_167 0 5 (dk_at dksX9_door_2 0 rfl rfl)
theorem dX9_door_47 : decode cX9_door 47 = .ok (.bipush (-2), 2) := dk_16 254 (dk_at dksX9_door_2 3 rfl rfl)
theorem dX9_door_49 : decode cX9_door 49 = .ok (.invokevirtual 73, 3) := dk_182 0 73 (dk_at dksX9_door_2 5 rfl rfl)
theorem dX9_door_52 : decode cX9_door 52 = .ok (.ireturn, 1) := dk_172 (dk_at dksX9_door_2 8 rfl rfl)
abbrev cX9_findsDoor : ByteArray := prog_20_method_64_code
def yX9_findsDoor : MethodName := ⟨RX9, "findsDoor", "([II)Z"⟩
def dkwX9_findsDoor_8 : List UInt8 := [132, 5, 1, 167, 255, 106, 21, 4, 16, 254, 159, 0, 7, 4, 167, 0, 4, 3, 172]
abbrev dktX9_findsDoor_8 : List UInt8 := dkwX9_findsDoor_8 ++ []
def dkwX9_findsDoor_7 : List UInt8 := [21, 7, 54, 4, 42, 21, 5, 181, 1, 219, 42, 21, 6, 181, 1, 222, 132, 6, 1, 167, 255, 121]
abbrev dktX9_findsDoor_7 : List UInt8 := dkwX9_findsDoor_7 ++ dktX9_findsDoor_8
def dkwX9_findsDoor_6 : List UInt8 := [153, 0, 13, 21, 7, 21, 4, 163, 0, 16, 167, 0, 29, 21, 7, 21, 4, 161, 0, 6, 167, 0, 19]
abbrev dktX9_findsDoor_6 : List UInt8 := dkwX9_findsDoor_6 ++ dktX9_findsDoor_7
def dkwX9_findsDoor_5 : List UInt8 := [184, 1, 202, 184, 1, 205, 54, 7, 21, 4, 16, 254, 159, 0, 33, 42, 180, 1, 161, 180, 1, 25]
abbrev dktX9_findsDoor_5 : List UInt8 := dkwX9_findsDoor_5 ++ dktX9_findsDoor_6
def dkwX9_findsDoor_4 : List UInt8 := [29, 4, 100, 43, 28, 29, 4, 100, 4, 184, 1, 169, 46, 43, 28, 29, 4, 100, 5, 184, 1, 169, 46]
abbrev dktX9_findsDoor_4 : List UInt8 := dkwX9_findsDoor_4 ++ dktX9_findsDoor_5
def dkwX9_findsDoor_3 : List UInt8 := [154, 0, 6, 167, 0, 105, 29, 4, 160, 0, 7, 3, 167, 0, 41, 29, 29, 21, 5, 21, 6, 184, 1, 199]
abbrev dktX9_findsDoor_3 : List UInt8 := dkwX9_findsDoor_3 ++ dktX9_findsDoor_4
def dkwX9_findsDoor_2 : List UInt8 := [21, 6, 5, 29, 104, 4, 100, 162, 0, 131, 42, 180, 1, 161, 43, 28, 29, 21, 5, 21, 6, 184, 1, 215]
abbrev dktX9_findsDoor_2 : List UInt8 := dkwX9_findsDoor_2 ++ dktX9_findsDoor_3
def dkwX9_findsDoor_1 : List UInt8 := [43, 3, 28, 96, 46, 4, 96, 62, 16, 254, 54, 4, 3, 54, 5, 21, 5, 7, 162, 0, 150, 3, 54, 6]
abbrev dktX9_findsDoor_1 : List UInt8 := dkwX9_findsDoor_1 ++ dktX9_findsDoor_2
def dkwX9_findsDoor_0 : List UInt8 := [43, 3, 28, 96, 46, 16, 6, 159, 0, 15, 42, 180, 1, 161, 43, 28, 184, 1, 119, 154, 0, 5, 3, 172]
abbrev dktX9_findsDoor_0 : List UInt8 := dkwX9_findsDoor_0 ++ dktX9_findsDoor_1
theorem dksX9_findsDoor_0 : cX9_findsDoor.data.toList.drop 0 = dktX9_findsDoor_0 := by decide +kernel
theorem dksX9_findsDoor_1 : cX9_findsDoor.data.toList.drop 24 = dktX9_findsDoor_1 := dk_seg dksX9_findsDoor_0 24 rfl rfl
theorem dksX9_findsDoor_2 : cX9_findsDoor.data.toList.drop 48 = dktX9_findsDoor_2 := dk_seg dksX9_findsDoor_1 24 rfl rfl
theorem dksX9_findsDoor_3 : cX9_findsDoor.data.toList.drop 72 = dktX9_findsDoor_3 := dk_seg dksX9_findsDoor_2 24 rfl rfl
theorem dksX9_findsDoor_4 : cX9_findsDoor.data.toList.drop 96 = dktX9_findsDoor_4 := dk_seg dksX9_findsDoor_3 24 rfl rfl
theorem dksX9_findsDoor_5 : cX9_findsDoor.data.toList.drop 119 = dktX9_findsDoor_5 := dk_seg dksX9_findsDoor_4 23 rfl rfl
theorem dksX9_findsDoor_6 : cX9_findsDoor.data.toList.drop 141 = dktX9_findsDoor_6 := dk_seg dksX9_findsDoor_5 22 rfl rfl
theorem dksX9_findsDoor_7 : cX9_findsDoor.data.toList.drop 164 = dktX9_findsDoor_7 := dk_seg dksX9_findsDoor_6 23 rfl rfl
theorem dksX9_findsDoor_8 : cX9_findsDoor.data.toList.drop 186 = dktX9_findsDoor_8 := dk_seg dksX9_findsDoor_7 22 rfl rfl
theorem dX9_findsDoor_0 : decode cX9_findsDoor 0 = .ok (.aload_n 1, 1) := dk_43 (dk_at dksX9_findsDoor_0 0 rfl rfl)
theorem dX9_findsDoor_1 : decode cX9_findsDoor 1 = .ok (.iconst 0, 1) := dk_3 (dk_at dksX9_findsDoor_0 1 rfl rfl)
theorem dX9_findsDoor_2 : decode cX9_findsDoor 2 = .ok (.iload_n 2, 1) := dk_28 (dk_at dksX9_findsDoor_0 2 rfl rfl)
theorem dX9_findsDoor_3 : decode cX9_findsDoor 3 = .ok (.iadd, 1) := dk_96 (dk_at dksX9_findsDoor_0 3 rfl rfl)
theorem dX9_findsDoor_4 : decode cX9_findsDoor 4 = .ok (.iaload, 1) := dk_46 (dk_at dksX9_findsDoor_0 4 rfl rfl)
theorem dX9_findsDoor_5 : decode cX9_findsDoor 5 = .ok (.bipush 6, 2) := dk_16 6 (dk_at dksX9_findsDoor_0 5 rfl rfl)
theorem dX9_findsDoor_7 : decode cX9_findsDoor 7 = .ok (.if_icmp .eq 15, 3) := dk_159 0 15 (dk_at dksX9_findsDoor_0 7 rfl rfl)
theorem dX9_findsDoor_10 : decode cX9_findsDoor 10 = .ok (.aload_n 0, 1) := dk_42 (dk_at dksX9_findsDoor_0 10 rfl rfl)
theorem dX9_findsDoor_11 : decode cX9_findsDoor 11 = .ok (.getfield 417, 3) := dk_180 1 161 (dk_at dksX9_findsDoor_0 11 rfl rfl)
theorem dX9_findsDoor_14 : decode cX9_findsDoor 14 = .ok (.aload_n 1, 1) := dk_43 (dk_at dksX9_findsDoor_0 14 rfl rfl)
theorem dX9_findsDoor_15 : decode cX9_findsDoor 15 = .ok (.iload_n 2, 1) := dk_28 (dk_at dksX9_findsDoor_0 15 rfl rfl)
theorem dX9_findsDoor_16 : decode cX9_findsDoor 16 = .ok (.invokestatic 375, 3) := dk_184 1 119 (dk_at dksX9_findsDoor_0 16 rfl rfl)
theorem dX9_findsDoor_19 : decode cX9_findsDoor 19 = .ok (.ifCond .ne 5, 3) := dk_154 0 5 (dk_at dksX9_findsDoor_0 19 rfl rfl)
theorem dX9_findsDoor_22 : decode cX9_findsDoor 22 = .ok (.iconst 0, 1) := dk_3 (dk_at dksX9_findsDoor_0 22 rfl rfl)
theorem dX9_findsDoor_23 : decode cX9_findsDoor 23 = .ok (.ireturn, 1) := dk_172 (dk_at dksX9_findsDoor_0 23 rfl rfl)
theorem dX9_findsDoor_24 : decode cX9_findsDoor 24 = .ok (.aload_n 1, 1) := dk_43 (dk_at dksX9_findsDoor_1 0 rfl rfl)
theorem dX9_findsDoor_25 : decode cX9_findsDoor 25 = .ok (.iconst 0, 1) := dk_3 (dk_at dksX9_findsDoor_1 1 rfl rfl)
theorem dX9_findsDoor_26 : decode cX9_findsDoor 26 = .ok (.iload_n 2, 1) := dk_28 (dk_at dksX9_findsDoor_1 2 rfl rfl)
theorem dX9_findsDoor_27 : decode cX9_findsDoor 27 = .ok (.iadd, 1) := dk_96 (dk_at dksX9_findsDoor_1 3 rfl rfl)
theorem dX9_findsDoor_28 : decode cX9_findsDoor 28 = .ok (.iaload, 1) := dk_46 (dk_at dksX9_findsDoor_1 4 rfl rfl)
theorem dX9_findsDoor_29 : decode cX9_findsDoor 29 = .ok (.iconst 1, 1) := dk_4 (dk_at dksX9_findsDoor_1 5 rfl rfl)
theorem dX9_findsDoor_30 : decode cX9_findsDoor 30 = .ok (.iadd, 1) := dk_96 (dk_at dksX9_findsDoor_1 6 rfl rfl)
theorem dX9_findsDoor_31 : decode cX9_findsDoor 31 = .ok (.istore_n 3, 1) := dk_62 (dk_at dksX9_findsDoor_1 7 rfl rfl)
theorem dX9_findsDoor_32 : decode cX9_findsDoor 32 = .ok (.bipush (-2), 2) := dk_16 254 (dk_at dksX9_findsDoor_1 8 rfl rfl)
theorem dX9_findsDoor_34 : decode cX9_findsDoor 34 = .ok (.istore 4, 2) := dk_54 4 (dk_at dksX9_findsDoor_1 10 rfl rfl)
theorem dX9_findsDoor_36 : decode cX9_findsDoor 36 = .ok (.iconst 0, 1) := dk_3 (dk_at dksX9_findsDoor_1 12 rfl rfl)
theorem dX9_findsDoor_37 : decode cX9_findsDoor 37 = .ok (.istore 5, 2) := dk_54 5 (dk_at dksX9_findsDoor_1 13 rfl rfl)
theorem dX9_findsDoor_39 : decode cX9_findsDoor 39 = .ok (.iload 5, 2) := dk_21 5 (dk_at dksX9_findsDoor_1 15 rfl rfl)
theorem dX9_findsDoor_41 : decode cX9_findsDoor 41 = .ok (.iconst 4, 1) := dk_7 (dk_at dksX9_findsDoor_1 17 rfl rfl)
theorem dX9_findsDoor_42 : decode cX9_findsDoor 42 = .ok (.if_icmp .ge 150, 3) := dk_162 0 150 (dk_at dksX9_findsDoor_1 18 rfl rfl)
theorem dX9_findsDoor_45 : decode cX9_findsDoor 45 = .ok (.iconst 0, 1) := dk_3 (dk_at dksX9_findsDoor_1 21 rfl rfl)
theorem dX9_findsDoor_46 : decode cX9_findsDoor 46 = .ok (.istore 6, 2) := dk_54 6 (dk_at dksX9_findsDoor_1 22 rfl rfl)
theorem dX9_findsDoor_48 : decode cX9_findsDoor 48 = .ok (.iload 6, 2) := dk_21 6 (dk_at dksX9_findsDoor_2 0 rfl rfl)
theorem dX9_findsDoor_50 : decode cX9_findsDoor 50 = .ok (.iconst 2, 1) := dk_5 (dk_at dksX9_findsDoor_2 2 rfl rfl)
theorem dX9_findsDoor_51 : decode cX9_findsDoor 51 = .ok (.iload_n 3, 1) := dk_29 (dk_at dksX9_findsDoor_2 3 rfl rfl)
theorem dX9_findsDoor_52 : decode cX9_findsDoor 52 = .ok (.imul, 1) := dk_104 (dk_at dksX9_findsDoor_2 4 rfl rfl)
theorem dX9_findsDoor_53 : decode cX9_findsDoor 53 = .ok (.iconst 1, 1) := dk_4 (dk_at dksX9_findsDoor_2 5 rfl rfl)
theorem dX9_findsDoor_54 : decode cX9_findsDoor 54 = .ok (.isub, 1) := dk_100 (dk_at dksX9_findsDoor_2 6 rfl rfl)
theorem dX9_findsDoor_55 : decode cX9_findsDoor 55 = .ok (.if_icmp .ge 131, 3) := dk_162 0 131 (dk_at dksX9_findsDoor_2 7 rfl rfl)
theorem dX9_findsDoor_58 : decode cX9_findsDoor 58 = .ok (.aload_n 0, 1) := dk_42 (dk_at dksX9_findsDoor_2 10 rfl rfl)
theorem dX9_findsDoor_59 : decode cX9_findsDoor 59 = .ok (.getfield 417, 3) := dk_180 1 161 (dk_at dksX9_findsDoor_2 11 rfl rfl)
theorem dX9_findsDoor_62 : decode cX9_findsDoor 62 = .ok (.aload_n 1, 1) := dk_43 (dk_at dksX9_findsDoor_2 14 rfl rfl)
theorem dX9_findsDoor_63 : decode cX9_findsDoor 63 = .ok (.iload_n 2, 1) := dk_28 (dk_at dksX9_findsDoor_2 15 rfl rfl)
theorem dX9_findsDoor_64 : decode cX9_findsDoor 64 = .ok (.iload_n 3, 1) := dk_29 (dk_at dksX9_findsDoor_2 16 rfl rfl)
theorem dX9_findsDoor_65 : decode cX9_findsDoor 65 = .ok (.iload 5, 2) := dk_21 5 (dk_at dksX9_findsDoor_2 17 rfl rfl)
theorem dX9_findsDoor_67 : decode cX9_findsDoor 67 = .ok (.iload 6, 2) := dk_21 6 (dk_at dksX9_findsDoor_2 19 rfl rfl)
theorem dX9_findsDoor_69 : decode cX9_findsDoor 69 = .ok (.invokestatic 471, 3) := dk_184 1 215 (dk_at dksX9_findsDoor_2 21 rfl rfl)
theorem dX9_findsDoor_72 : decode cX9_findsDoor 72 = .ok (.ifCond .ne 6, 3) := dk_154 0 6 (dk_at dksX9_findsDoor_3 0 rfl rfl)
theorem dX9_findsDoor_75 : decode cX9_findsDoor 75 = .ok (.goto 105, 3) := dk_167 0 105 (dk_at dksX9_findsDoor_3 3 rfl rfl)
theorem dX9_findsDoor_78 : decode cX9_findsDoor 78 = .ok (.iload_n 3, 1) := dk_29 (dk_at dksX9_findsDoor_3 6 rfl rfl)
theorem dX9_findsDoor_79 : decode cX9_findsDoor 79 = .ok (.iconst 1, 1) := dk_4 (dk_at dksX9_findsDoor_3 7 rfl rfl)
theorem dX9_findsDoor_80 : decode cX9_findsDoor 80 = .ok (.if_icmp .ne 7, 3) := dk_160 0 7 (dk_at dksX9_findsDoor_3 8 rfl rfl)
theorem dX9_findsDoor_83 : decode cX9_findsDoor 83 = .ok (.iconst 0, 1) := dk_3 (dk_at dksX9_findsDoor_3 11 rfl rfl)
theorem dX9_findsDoor_84 : decode cX9_findsDoor 84 = .ok (.goto 41, 3) := dk_167 0 41 (dk_at dksX9_findsDoor_3 12 rfl rfl)
theorem dX9_findsDoor_87 : decode cX9_findsDoor 87 = .ok (.iload_n 3, 1) := dk_29 (dk_at dksX9_findsDoor_3 15 rfl rfl)
theorem dX9_findsDoor_88 : decode cX9_findsDoor 88 = .ok (.iload_n 3, 1) := dk_29 (dk_at dksX9_findsDoor_3 16 rfl rfl)
theorem dX9_findsDoor_89 : decode cX9_findsDoor 89 = .ok (.iload 5, 2) := dk_21 5 (dk_at dksX9_findsDoor_3 17 rfl rfl)
theorem dX9_findsDoor_91 : decode cX9_findsDoor 91 = .ok (.iload 6, 2) := dk_21 6 (dk_at dksX9_findsDoor_3 19 rfl rfl)
theorem dX9_findsDoor_93 : decode cX9_findsDoor 93 = .ok (.invokestatic 455, 3) := dk_184 1 199 (dk_at dksX9_findsDoor_3 21 rfl rfl)
theorem dX9_findsDoor_96 : decode cX9_findsDoor 96 = .ok (.iload_n 3, 1) := dk_29 (dk_at dksX9_findsDoor_4 0 rfl rfl)
theorem dX9_findsDoor_97 : decode cX9_findsDoor 97 = .ok (.iconst 1, 1) := dk_4 (dk_at dksX9_findsDoor_4 1 rfl rfl)
theorem dX9_findsDoor_98 : decode cX9_findsDoor 98 = .ok (.isub, 1) := dk_100 (dk_at dksX9_findsDoor_4 2 rfl rfl)
theorem dX9_findsDoor_99 : decode cX9_findsDoor 99 = .ok (.aload_n 1, 1) := dk_43 (dk_at dksX9_findsDoor_4 3 rfl rfl)
theorem dX9_findsDoor_100 : decode cX9_findsDoor 100 = .ok (.iload_n 2, 1) := dk_28 (dk_at dksX9_findsDoor_4 4 rfl rfl)
theorem dX9_findsDoor_101 : decode cX9_findsDoor 101 = .ok (.iload_n 3, 1) := dk_29 (dk_at dksX9_findsDoor_4 5 rfl rfl)
theorem dX9_findsDoor_102 : decode cX9_findsDoor 102 = .ok (.iconst 1, 1) := dk_4 (dk_at dksX9_findsDoor_4 6 rfl rfl)
theorem dX9_findsDoor_103 : decode cX9_findsDoor 103 = .ok (.isub, 1) := dk_100 (dk_at dksX9_findsDoor_4 7 rfl rfl)
theorem dX9_findsDoor_104 : decode cX9_findsDoor 104 = .ok (.iconst 1, 1) := dk_4 (dk_at dksX9_findsDoor_4 8 rfl rfl)
theorem dX9_findsDoor_105 : decode cX9_findsDoor 105 = .ok (.invokestatic 425, 3) := dk_184 1 169 (dk_at dksX9_findsDoor_4 9 rfl rfl)
theorem dX9_findsDoor_108 : decode cX9_findsDoor 108 = .ok (.iaload, 1) := dk_46 (dk_at dksX9_findsDoor_4 12 rfl rfl)
theorem dX9_findsDoor_109 : decode cX9_findsDoor 109 = .ok (.aload_n 1, 1) := dk_43 (dk_at dksX9_findsDoor_4 13 rfl rfl)
theorem dX9_findsDoor_110 : decode cX9_findsDoor 110 = .ok (.iload_n 2, 1) := dk_28 (dk_at dksX9_findsDoor_4 14 rfl rfl)
theorem dX9_findsDoor_111 : decode cX9_findsDoor 111 = .ok (.iload_n 3, 1) := dk_29 (dk_at dksX9_findsDoor_4 15 rfl rfl)
theorem dX9_findsDoor_112 : decode cX9_findsDoor 112 = .ok (.iconst 1, 1) := dk_4 (dk_at dksX9_findsDoor_4 16 rfl rfl)
theorem dX9_findsDoor_113 : decode cX9_findsDoor 113 = .ok (.isub, 1) := dk_100 (dk_at dksX9_findsDoor_4 17 rfl rfl)
theorem dX9_findsDoor_114 : decode cX9_findsDoor 114 = .ok (.iconst 2, 1) := dk_5 (dk_at dksX9_findsDoor_4 18 rfl rfl)
theorem dX9_findsDoor_115 : decode cX9_findsDoor 115 = .ok (.invokestatic 425, 3) := dk_184 1 169 (dk_at dksX9_findsDoor_4 19 rfl rfl)
theorem dX9_findsDoor_118 : decode cX9_findsDoor 118 = .ok (.iaload, 1) := dk_46 (dk_at dksX9_findsDoor_4 22 rfl rfl)
theorem dX9_findsDoor_119 : decode cX9_findsDoor 119 = .ok (.invokestatic 458, 3) := dk_184 1 202 (dk_at dksX9_findsDoor_5 0 rfl rfl)
theorem dX9_findsDoor_122 : decode cX9_findsDoor 122 = .ok (.invokestatic 461, 3) := dk_184 1 205 (dk_at dksX9_findsDoor_5 3 rfl rfl)
theorem dX9_findsDoor_125 : decode cX9_findsDoor 125 = .ok (.istore 7, 2) := dk_54 7 (dk_at dksX9_findsDoor_5 6 rfl rfl)
theorem dX9_findsDoor_127 : decode cX9_findsDoor 127 = .ok (.iload 4, 2) := dk_21 4 (dk_at dksX9_findsDoor_5 8 rfl rfl)
theorem dX9_findsDoor_129 : decode cX9_findsDoor 129 = .ok (.bipush (-2), 2) := dk_16 254 (dk_at dksX9_findsDoor_5 10 rfl rfl)
theorem dX9_findsDoor_131 : decode cX9_findsDoor 131 = .ok (.if_icmp .eq 33, 3) := dk_159 0 33 (dk_at dksX9_findsDoor_5 12 rfl rfl)
theorem dX9_findsDoor_134 : decode cX9_findsDoor 134 = .ok (.aload_n 0, 1) := dk_42 (dk_at dksX9_findsDoor_5 15 rfl rfl)
theorem dX9_findsDoor_135 : decode cX9_findsDoor 135 = .ok (.getfield 417, 3) := dk_180 1 161 (dk_at dksX9_findsDoor_5 16 rfl rfl)
theorem dX9_findsDoor_138 : decode cX9_findsDoor 138 = .ok (.getfield 281, 3) := dk_180 1 25 (dk_at dksX9_findsDoor_5 19 rfl rfl)
theorem dX9_findsDoor_141 : decode cX9_findsDoor 141 = .ok (.ifCond .eq 13, 3) := dk_153 0 13 (dk_at dksX9_findsDoor_6 0 rfl rfl)
theorem dX9_findsDoor_144 : decode cX9_findsDoor 144 = .ok (.iload 7, 2) := dk_21 7 (dk_at dksX9_findsDoor_6 3 rfl rfl)
theorem dX9_findsDoor_146 : decode cX9_findsDoor 146 = .ok (.iload 4, 2) := dk_21 4 (dk_at dksX9_findsDoor_6 5 rfl rfl)
theorem dX9_findsDoor_148 : decode cX9_findsDoor 148 = .ok (.if_icmp .gt 16, 3) := dk_163 0 16 (dk_at dksX9_findsDoor_6 7 rfl rfl)
theorem dX9_findsDoor_151 : decode cX9_findsDoor 151 = .ok (.goto 29, 3) := dk_167 0 29 (dk_at dksX9_findsDoor_6 10 rfl rfl)
theorem dX9_findsDoor_154 : decode cX9_findsDoor 154 = .ok (.iload 7, 2) := dk_21 7 (dk_at dksX9_findsDoor_6 13 rfl rfl)
theorem dX9_findsDoor_156 : decode cX9_findsDoor 156 = .ok (.iload 4, 2) := dk_21 4 (dk_at dksX9_findsDoor_6 15 rfl rfl)
theorem dX9_findsDoor_158 : decode cX9_findsDoor 158 = .ok (.if_icmp .lt 6, 3) := dk_161 0 6 (dk_at dksX9_findsDoor_6 17 rfl rfl)
theorem dX9_findsDoor_161 : decode cX9_findsDoor 161 = .ok (.goto 19, 3) := dk_167 0 19 (dk_at dksX9_findsDoor_6 20 rfl rfl)
theorem dX9_findsDoor_164 : decode cX9_findsDoor 164 = .ok (.iload 7, 2) := dk_21 7 (dk_at dksX9_findsDoor_7 0 rfl rfl)
theorem dX9_findsDoor_166 : decode cX9_findsDoor 166 = .ok (.istore 4, 2) := dk_54 4 (dk_at dksX9_findsDoor_7 2 rfl rfl)
theorem dX9_findsDoor_168 : decode cX9_findsDoor 168 = .ok (.aload_n 0, 1) := dk_42 (dk_at dksX9_findsDoor_7 4 rfl rfl)
theorem dX9_findsDoor_169 : decode cX9_findsDoor 169 = .ok (.iload 5, 2) := dk_21 5 (dk_at dksX9_findsDoor_7 5 rfl rfl)
theorem dX9_findsDoor_171 : decode cX9_findsDoor 171 = .ok (.putfield 475, 3) := dk_181 1 219 (dk_at dksX9_findsDoor_7 7 rfl rfl)
theorem dX9_findsDoor_174 : decode cX9_findsDoor 174 = .ok (.aload_n 0, 1) := dk_42 (dk_at dksX9_findsDoor_7 10 rfl rfl)
theorem dX9_findsDoor_175 : decode cX9_findsDoor 175 = .ok (.iload 6, 2) := dk_21 6 (dk_at dksX9_findsDoor_7 11 rfl rfl)
theorem dX9_findsDoor_177 : decode cX9_findsDoor 177 = .ok (.putfield 478, 3) := dk_181 1 222 (dk_at dksX9_findsDoor_7 13 rfl rfl)
theorem dX9_findsDoor_180 : decode cX9_findsDoor 180 = .ok (.iinc 6 1, 3) := dk_132 6 1 (dk_at dksX9_findsDoor_7 16 rfl rfl)
theorem dX9_findsDoor_183 : decode cX9_findsDoor 183 = .ok (.goto (-135), 3) := dk_167 255 121 (dk_at dksX9_findsDoor_7 19 rfl rfl)
theorem dX9_findsDoor_186 : decode cX9_findsDoor 186 = .ok (.iinc 5 1, 3) := dk_132 5 1 (dk_at dksX9_findsDoor_8 0 rfl rfl)
theorem dX9_findsDoor_189 : decode cX9_findsDoor 189 = .ok (.goto (-150), 3) := dk_167 255 106 (dk_at dksX9_findsDoor_8 3 rfl rfl)
theorem dX9_findsDoor_192 : decode cX9_findsDoor 192 = .ok (.iload 4, 2) := dk_21 4 (dk_at dksX9_findsDoor_8 6 rfl rfl)
theorem dX9_findsDoor_194 : decode cX9_findsDoor 194 = .ok (.bipush (-2), 2) := dk_16 254 (dk_at dksX9_findsDoor_8 8 rfl rfl)
theorem dX9_findsDoor_196 : decode cX9_findsDoor 196 = .ok (.if_icmp .eq 7, 3) := dk_159 0 7 (dk_at dksX9_findsDoor_8 10 rfl rfl)
theorem dX9_findsDoor_199 : decode cX9_findsDoor 199 = .ok (.iconst 1, 1) := dk_4 (dk_at dksX9_findsDoor_8 13 rfl rfl)
theorem dX9_findsDoor_200 : decode cX9_findsDoor 200 = .ok (.goto 4, 3) := dk_167 0 4 (dk_at dksX9_findsDoor_8 14 rfl rfl)
theorem dX9_findsDoor_203 : decode cX9_findsDoor 203 = .ok (.iconst 0, 1) := dk_3 (dk_at dksX9_findsDoor_8 17 rfl rfl)
theorem dX9_findsDoor_204 : decode cX9_findsDoor 204 = .ok (.ireturn, 1) := dk_172 (dk_at dksX9_findsDoor_8 18 rfl rfl)
abbrev cX9_doorPlace : ByteArray := prog_20_method_56_code
def yX9_doorPlace : MethodName := ⟨RX9, "doorPlace", "(III)I"⟩
def dkwX9_doorPlace_0 : List UInt8 := [26, 26, 27, 28, 184, 1, 184, 26, 27, 28, 184, 1, 187, 184, 1, 190, 172]
abbrev dktX9_doorPlace_0 : List UInt8 := dkwX9_doorPlace_0 ++ []
theorem dksX9_doorPlace_0 : cX9_doorPlace.data.toList.drop 0 = dktX9_doorPlace_0 := by decide +kernel
theorem dX9_doorPlace_0 : decode cX9_doorPlace 0 = .ok (.iload_n 0, 1) := dk_26 (dk_at dksX9_doorPlace_0 0 rfl rfl)
theorem dX9_doorPlace_1 : decode cX9_doorPlace 1 = .ok (.iload_n 0, 1) := dk_26 (dk_at dksX9_doorPlace_0 1 rfl rfl)
theorem dX9_doorPlace_2 : decode cX9_doorPlace 2 = .ok (.iload_n 1, 1) := dk_27 (dk_at dksX9_doorPlace_0 2 rfl rfl)
theorem dX9_doorPlace_3 : decode cX9_doorPlace 3 = .ok (.iload_n 2, 1) := dk_28 (dk_at dksX9_doorPlace_0 3 rfl rfl)
theorem dX9_doorPlace_4 : decode cX9_doorPlace 4 = .ok (.invokestatic 440, 3) := dk_184 1 184 (dk_at dksX9_doorPlace_0 4 rfl rfl)
theorem dX9_doorPlace_7 : decode cX9_doorPlace 7 = .ok (.iload_n 0, 1) := dk_26 (dk_at dksX9_doorPlace_0 7 rfl rfl)
theorem dX9_doorPlace_8 : decode cX9_doorPlace 8 = .ok (.iload_n 1, 1) := dk_27 (dk_at dksX9_doorPlace_0 8 rfl rfl)
theorem dX9_doorPlace_9 : decode cX9_doorPlace 9 = .ok (.iload_n 2, 1) := dk_28 (dk_at dksX9_doorPlace_0 9 rfl rfl)
theorem dX9_doorPlace_10 : decode cX9_doorPlace 10 = .ok (.invokestatic 443, 3) := dk_184 1 187 (dk_at dksX9_doorPlace_0 10 rfl rfl)
theorem dX9_doorPlace_13 : decode cX9_doorPlace 13 = .ok (.invokestatic 446, 3) := dk_184 1 190 (dk_at dksX9_doorPlace_0 13 rfl rfl)
theorem dX9_doorPlace_16 : decode cX9_doorPlace 16 = .ok (.ireturn, 1) := dk_172 (dk_at dksX9_doorPlace_0 16 rfl rfl)
abbrev cX9_placeOf : ByteArray := prog_20_method_53_code
def yX9_placeOf : MethodName := ⟨RX9, "placeOf", "(III)I"⟩
def dkwX9_placeOf_1 : List UInt8 := [26, 160, 0, 13, 7, 26, 104, 26, 96, 27, 100, 167, 0, 11, 16, 6, 26, 104, 26, 96, 28, 100, 172]
abbrev dktX9_placeOf_1 : List UInt8 := dkwX9_placeOf_1 ++ []
def dkwX9_placeOf_0 : List UInt8 := [28, 26, 116, 160, 0, 7, 27, 26, 96, 172, 27, 26, 160, 0, 11, 5, 26, 104, 28, 96, 26, 96, 172, 28]
abbrev dktX9_placeOf_0 : List UInt8 := dkwX9_placeOf_0 ++ dktX9_placeOf_1
theorem dksX9_placeOf_0 : cX9_placeOf.data.toList.drop 0 = dktX9_placeOf_0 := by decide +kernel
theorem dksX9_placeOf_1 : cX9_placeOf.data.toList.drop 24 = dktX9_placeOf_1 := dk_seg dksX9_placeOf_0 24 rfl rfl
theorem dX9_placeOf_0 : decode cX9_placeOf 0 = .ok (.iload_n 2, 1) := dk_28 (dk_at dksX9_placeOf_0 0 rfl rfl)
theorem dX9_placeOf_1 : decode cX9_placeOf 1 = .ok (.iload_n 0, 1) := dk_26 (dk_at dksX9_placeOf_0 1 rfl rfl)
theorem dX9_placeOf_2 : decode cX9_placeOf 2 = .ok (.ineg, 1) := dk_116 (dk_at dksX9_placeOf_0 2 rfl rfl)
theorem dX9_placeOf_3 : decode cX9_placeOf 3 = .ok (.if_icmp .ne 7, 3) := dk_160 0 7 (dk_at dksX9_placeOf_0 3 rfl rfl)
theorem dX9_placeOf_6 : decode cX9_placeOf 6 = .ok (.iload_n 1, 1) := dk_27 (dk_at dksX9_placeOf_0 6 rfl rfl)
theorem dX9_placeOf_7 : decode cX9_placeOf 7 = .ok (.iload_n 0, 1) := dk_26 (dk_at dksX9_placeOf_0 7 rfl rfl)
theorem dX9_placeOf_8 : decode cX9_placeOf 8 = .ok (.iadd, 1) := dk_96 (dk_at dksX9_placeOf_0 8 rfl rfl)
theorem dX9_placeOf_9 : decode cX9_placeOf 9 = .ok (.ireturn, 1) := dk_172 (dk_at dksX9_placeOf_0 9 rfl rfl)
theorem dX9_placeOf_10 : decode cX9_placeOf 10 = .ok (.iload_n 1, 1) := dk_27 (dk_at dksX9_placeOf_0 10 rfl rfl)
theorem dX9_placeOf_11 : decode cX9_placeOf 11 = .ok (.iload_n 0, 1) := dk_26 (dk_at dksX9_placeOf_0 11 rfl rfl)
theorem dX9_placeOf_12 : decode cX9_placeOf 12 = .ok (.if_icmp .ne 11, 3) := dk_160 0 11 (dk_at dksX9_placeOf_0 12 rfl rfl)
theorem dX9_placeOf_15 : decode cX9_placeOf 15 = .ok (.iconst 2, 1) := dk_5 (dk_at dksX9_placeOf_0 15 rfl rfl)
theorem dX9_placeOf_16 : decode cX9_placeOf 16 = .ok (.iload_n 0, 1) := dk_26 (dk_at dksX9_placeOf_0 16 rfl rfl)
theorem dX9_placeOf_17 : decode cX9_placeOf 17 = .ok (.imul, 1) := dk_104 (dk_at dksX9_placeOf_0 17 rfl rfl)
theorem dX9_placeOf_18 : decode cX9_placeOf 18 = .ok (.iload_n 2, 1) := dk_28 (dk_at dksX9_placeOf_0 18 rfl rfl)
theorem dX9_placeOf_19 : decode cX9_placeOf 19 = .ok (.iadd, 1) := dk_96 (dk_at dksX9_placeOf_0 19 rfl rfl)
theorem dX9_placeOf_20 : decode cX9_placeOf 20 = .ok (.iload_n 0, 1) := dk_26 (dk_at dksX9_placeOf_0 20 rfl rfl)
theorem dX9_placeOf_21 : decode cX9_placeOf 21 = .ok (.iadd, 1) := dk_96 (dk_at dksX9_placeOf_0 21 rfl rfl)
theorem dX9_placeOf_22 : decode cX9_placeOf 22 = .ok (.ireturn, 1) := dk_172 (dk_at dksX9_placeOf_0 22 rfl rfl)
theorem dX9_placeOf_23 : decode cX9_placeOf 23 = .ok (.iload_n 2, 1) := dk_28 (dk_at dksX9_placeOf_0 23 rfl rfl)
theorem dX9_placeOf_24 : decode cX9_placeOf 24 = .ok (.iload_n 0, 1) := dk_26 (dk_at dksX9_placeOf_1 0 rfl rfl)
theorem dX9_placeOf_25 : decode cX9_placeOf 25 = .ok (.if_icmp .ne 13, 3) := dk_160 0 13 (dk_at dksX9_placeOf_1 1 rfl rfl)
theorem dX9_placeOf_28 : decode cX9_placeOf 28 = .ok (.iconst 4, 1) := dk_7 (dk_at dksX9_placeOf_1 4 rfl rfl)
theorem dX9_placeOf_29 : decode cX9_placeOf 29 = .ok (.iload_n 0, 1) := dk_26 (dk_at dksX9_placeOf_1 5 rfl rfl)
theorem dX9_placeOf_30 : decode cX9_placeOf 30 = .ok (.imul, 1) := dk_104 (dk_at dksX9_placeOf_1 6 rfl rfl)
theorem dX9_placeOf_31 : decode cX9_placeOf 31 = .ok (.iload_n 0, 1) := dk_26 (dk_at dksX9_placeOf_1 7 rfl rfl)
theorem dX9_placeOf_32 : decode cX9_placeOf 32 = .ok (.iadd, 1) := dk_96 (dk_at dksX9_placeOf_1 8 rfl rfl)
theorem dX9_placeOf_33 : decode cX9_placeOf 33 = .ok (.iload_n 1, 1) := dk_27 (dk_at dksX9_placeOf_1 9 rfl rfl)
theorem dX9_placeOf_34 : decode cX9_placeOf 34 = .ok (.isub, 1) := dk_100 (dk_at dksX9_placeOf_1 10 rfl rfl)
theorem dX9_placeOf_35 : decode cX9_placeOf 35 = .ok (.goto 11, 3) := dk_167 0 11 (dk_at dksX9_placeOf_1 11 rfl rfl)
theorem dX9_placeOf_38 : decode cX9_placeOf 38 = .ok (.bipush 6, 2) := dk_16 6 (dk_at dksX9_placeOf_1 14 rfl rfl)
theorem dX9_placeOf_40 : decode cX9_placeOf 40 = .ok (.iload_n 0, 1) := dk_26 (dk_at dksX9_placeOf_1 16 rfl rfl)
theorem dX9_placeOf_41 : decode cX9_placeOf 41 = .ok (.imul, 1) := dk_104 (dk_at dksX9_placeOf_1 17 rfl rfl)
theorem dX9_placeOf_42 : decode cX9_placeOf 42 = .ok (.iload_n 0, 1) := dk_26 (dk_at dksX9_placeOf_1 18 rfl rfl)
theorem dX9_placeOf_43 : decode cX9_placeOf 43 = .ok (.iadd, 1) := dk_96 (dk_at dksX9_placeOf_1 19 rfl rfl)
theorem dX9_placeOf_44 : decode cX9_placeOf 44 = .ok (.iload_n 2, 1) := dk_28 (dk_at dksX9_placeOf_1 20 rfl rfl)
theorem dX9_placeOf_45 : decode cX9_placeOf 45 = .ok (.isub, 1) := dk_100 (dk_at dksX9_placeOf_1 21 rfl rfl)
theorem dX9_placeOf_46 : decode cX9_placeOf 46 = .ok (.ireturn, 1) := dk_172 (dk_at dksX9_placeOf_1 22 rfl rfl)
abbrev cX9_frontPlace : ByteArray := prog_20_method_57_code
def yX9_frontPlace : MethodName := ⟨RX9, "frontPlace", "(III)I"⟩
def dkwX9_frontPlace_1 : List UInt8 := [96, 184, 1, 190, 172]
abbrev dktX9_frontPlace_1 : List UInt8 := dkwX9_frontPlace_1 ++ []
def dkwX9_frontPlace_0 : List UInt8 := [26, 4, 96, 26, 27, 28, 184, 1, 184, 27, 184, 1, 193, 96, 26, 27, 28, 184, 1, 187, 27, 184, 1, 196]
abbrev dktX9_frontPlace_0 : List UInt8 := dkwX9_frontPlace_0 ++ dktX9_frontPlace_1
theorem dksX9_frontPlace_0 : cX9_frontPlace.data.toList.drop 0 = dktX9_frontPlace_0 := by decide +kernel
theorem dksX9_frontPlace_1 : cX9_frontPlace.data.toList.drop 24 = dktX9_frontPlace_1 := dk_seg dksX9_frontPlace_0 24 rfl rfl
theorem dX9_frontPlace_0 : decode cX9_frontPlace 0 = .ok (.iload_n 0, 1) := dk_26 (dk_at dksX9_frontPlace_0 0 rfl rfl)
theorem dX9_frontPlace_1 : decode cX9_frontPlace 1 = .ok (.iconst 1, 1) := dk_4 (dk_at dksX9_frontPlace_0 1 rfl rfl)
theorem dX9_frontPlace_2 : decode cX9_frontPlace 2 = .ok (.iadd, 1) := dk_96 (dk_at dksX9_frontPlace_0 2 rfl rfl)
theorem dX9_frontPlace_3 : decode cX9_frontPlace 3 = .ok (.iload_n 0, 1) := dk_26 (dk_at dksX9_frontPlace_0 3 rfl rfl)
theorem dX9_frontPlace_4 : decode cX9_frontPlace 4 = .ok (.iload_n 1, 1) := dk_27 (dk_at dksX9_frontPlace_0 4 rfl rfl)
theorem dX9_frontPlace_5 : decode cX9_frontPlace 5 = .ok (.iload_n 2, 1) := dk_28 (dk_at dksX9_frontPlace_0 5 rfl rfl)
theorem dX9_frontPlace_6 : decode cX9_frontPlace 6 = .ok (.invokestatic 440, 3) := dk_184 1 184 (dk_at dksX9_frontPlace_0 6 rfl rfl)
theorem dX9_frontPlace_9 : decode cX9_frontPlace 9 = .ok (.iload_n 1, 1) := dk_27 (dk_at dksX9_frontPlace_0 9 rfl rfl)
theorem dX9_frontPlace_10 : decode cX9_frontPlace 10 = .ok (.invokestatic 449, 3) := dk_184 1 193 (dk_at dksX9_frontPlace_0 10 rfl rfl)
theorem dX9_frontPlace_13 : decode cX9_frontPlace 13 = .ok (.iadd, 1) := dk_96 (dk_at dksX9_frontPlace_0 13 rfl rfl)
theorem dX9_frontPlace_14 : decode cX9_frontPlace 14 = .ok (.iload_n 0, 1) := dk_26 (dk_at dksX9_frontPlace_0 14 rfl rfl)
theorem dX9_frontPlace_15 : decode cX9_frontPlace 15 = .ok (.iload_n 1, 1) := dk_27 (dk_at dksX9_frontPlace_0 15 rfl rfl)
theorem dX9_frontPlace_16 : decode cX9_frontPlace 16 = .ok (.iload_n 2, 1) := dk_28 (dk_at dksX9_frontPlace_0 16 rfl rfl)
theorem dX9_frontPlace_17 : decode cX9_frontPlace 17 = .ok (.invokestatic 443, 3) := dk_184 1 187 (dk_at dksX9_frontPlace_0 17 rfl rfl)
theorem dX9_frontPlace_20 : decode cX9_frontPlace 20 = .ok (.iload_n 1, 1) := dk_27 (dk_at dksX9_frontPlace_0 20 rfl rfl)
theorem dX9_frontPlace_21 : decode cX9_frontPlace 21 = .ok (.invokestatic 452, 3) := dk_184 1 196 (dk_at dksX9_frontPlace_0 21 rfl rfl)
theorem dX9_frontPlace_24 : decode cX9_frontPlace 24 = .ok (.iadd, 1) := dk_96 (dk_at dksX9_frontPlace_1 0 rfl rfl)
theorem dX9_frontPlace_25 : decode cX9_frontPlace 25 = .ok (.invokestatic 446, 3) := dk_184 1 190 (dk_at dksX9_frontPlace_1 1 rfl rfl)
theorem dX9_frontPlace_28 : decode cX9_frontPlace 28 = .ok (.ireturn, 1) := dk_172 (dk_at dksX9_frontPlace_1 4 rfl rfl)
abbrev cX9_roundOf : ByteArray := prog_20_method_58_code
def yX9_roundOf : MethodName := ⟨RX9, "roundOf", "(III)I"⟩
def dkwX9_roundOf_1 : List UInt8 := [162, 0, 7, 29, 167, 0, 9, 16, 8, 26, 104, 29, 100, 172]
abbrev dktX9_roundOf_1 : List UInt8 := dkwX9_roundOf_1 ++ []
def dkwX9_roundOf_0 : List UInt8 := [27, 28, 164, 0, 9, 27, 28, 100, 167, 0, 6, 28, 27, 100, 62, 29, 16, 8, 26, 104, 29, 100]
abbrev dktX9_roundOf_0 : List UInt8 := dkwX9_roundOf_0 ++ dktX9_roundOf_1
theorem dksX9_roundOf_0 : cX9_roundOf.data.toList.drop 0 = dktX9_roundOf_0 := by decide +kernel
theorem dksX9_roundOf_1 : cX9_roundOf.data.toList.drop 22 = dktX9_roundOf_1 := dk_seg dksX9_roundOf_0 22 rfl rfl
theorem dX9_roundOf_0 : decode cX9_roundOf 0 = .ok (.iload_n 1, 1) := dk_27 (dk_at dksX9_roundOf_0 0 rfl rfl)
theorem dX9_roundOf_1 : decode cX9_roundOf 1 = .ok (.iload_n 2, 1) := dk_28 (dk_at dksX9_roundOf_0 1 rfl rfl)
theorem dX9_roundOf_2 : decode cX9_roundOf 2 = .ok (.if_icmp .le 9, 3) := dk_164 0 9 (dk_at dksX9_roundOf_0 2 rfl rfl)
theorem dX9_roundOf_5 : decode cX9_roundOf 5 = .ok (.iload_n 1, 1) := dk_27 (dk_at dksX9_roundOf_0 5 rfl rfl)
theorem dX9_roundOf_6 : decode cX9_roundOf 6 = .ok (.iload_n 2, 1) := dk_28 (dk_at dksX9_roundOf_0 6 rfl rfl)
theorem dX9_roundOf_7 : decode cX9_roundOf 7 = .ok (.isub, 1) := dk_100 (dk_at dksX9_roundOf_0 7 rfl rfl)
theorem dX9_roundOf_8 : decode cX9_roundOf 8 = .ok (.goto 6, 3) := dk_167 0 6 (dk_at dksX9_roundOf_0 8 rfl rfl)
theorem dX9_roundOf_11 : decode cX9_roundOf 11 = .ok (.iload_n 2, 1) := dk_28 (dk_at dksX9_roundOf_0 11 rfl rfl)
theorem dX9_roundOf_12 : decode cX9_roundOf 12 = .ok (.iload_n 1, 1) := dk_27 (dk_at dksX9_roundOf_0 12 rfl rfl)
theorem dX9_roundOf_13 : decode cX9_roundOf 13 = .ok (.isub, 1) := dk_100 (dk_at dksX9_roundOf_0 13 rfl rfl)
theorem dX9_roundOf_14 : decode cX9_roundOf 14 = .ok (.istore_n 3, 1) := dk_62 (dk_at dksX9_roundOf_0 14 rfl rfl)
theorem dX9_roundOf_15 : decode cX9_roundOf 15 = .ok (.iload_n 3, 1) := dk_29 (dk_at dksX9_roundOf_0 15 rfl rfl)
theorem dX9_roundOf_16 : decode cX9_roundOf 16 = .ok (.bipush 8, 2) := dk_16 8 (dk_at dksX9_roundOf_0 16 rfl rfl)
theorem dX9_roundOf_18 : decode cX9_roundOf 18 = .ok (.iload_n 0, 1) := dk_26 (dk_at dksX9_roundOf_0 18 rfl rfl)
theorem dX9_roundOf_19 : decode cX9_roundOf 19 = .ok (.imul, 1) := dk_104 (dk_at dksX9_roundOf_0 19 rfl rfl)
theorem dX9_roundOf_20 : decode cX9_roundOf 20 = .ok (.iload_n 3, 1) := dk_29 (dk_at dksX9_roundOf_0 20 rfl rfl)
theorem dX9_roundOf_21 : decode cX9_roundOf 21 = .ok (.isub, 1) := dk_100 (dk_at dksX9_roundOf_0 21 rfl rfl)
theorem dX9_roundOf_22 : decode cX9_roundOf 22 = .ok (.if_icmp .ge 7, 3) := dk_162 0 7 (dk_at dksX9_roundOf_1 0 rfl rfl)
theorem dX9_roundOf_25 : decode cX9_roundOf 25 = .ok (.iload_n 3, 1) := dk_29 (dk_at dksX9_roundOf_1 3 rfl rfl)
theorem dX9_roundOf_26 : decode cX9_roundOf 26 = .ok (.goto 9, 3) := dk_167 0 9 (dk_at dksX9_roundOf_1 4 rfl rfl)
theorem dX9_roundOf_29 : decode cX9_roundOf 29 = .ok (.bipush 8, 2) := dk_16 8 (dk_at dksX9_roundOf_1 7 rfl rfl)
theorem dX9_roundOf_31 : decode cX9_roundOf 31 = .ok (.iload_n 0, 1) := dk_26 (dk_at dksX9_roundOf_1 9 rfl rfl)
theorem dX9_roundOf_32 : decode cX9_roundOf 32 = .ok (.imul, 1) := dk_104 (dk_at dksX9_roundOf_1 10 rfl rfl)
theorem dX9_roundOf_33 : decode cX9_roundOf 33 = .ok (.iload_n 3, 1) := dk_29 (dk_at dksX9_roundOf_1 11 rfl rfl)
theorem dX9_roundOf_34 : decode cX9_roundOf 34 = .ok (.isub, 1) := dk_100 (dk_at dksX9_roundOf_1 12 rfl rfl)
theorem dX9_roundOf_35 : decode cX9_roundOf 35 = .ok (.ireturn, 1) := dk_172 (dk_at dksX9_roundOf_1 13 rfl rfl)
abbrev cX9_costs : ByteArray := prog_20_method_94_code
def yX9_costs : MethodName := ⟨RX9, "costs", "(II)I"⟩
def dkwX9_costs_2 : List UInt8 := [167, 0, 17, 42, 42, 42, 180, 0, 17, 27, 28, 182, 1, 245, 182, 0, 73, 172]
abbrev dktX9_costs_2 : List UInt8 := dkwX9_costs_2 ++ []
def dkwX9_costs_1 : List UInt8 := [182, 0, 69, 172, 42, 180, 0, 17, 3, 27, 96, 46, 16, 6, 160, 0, 11, 42, 6, 182, 0, 69]
abbrev dktX9_costs_1 : List UInt8 := dkwX9_costs_1 ++ dktX9_costs_2
def dkwX9_costs_0 : List UInt8 := [42, 3, 181, 0, 63, 42, 27, 182, 2, 6, 153, 0, 11, 42, 28, 182, 2, 37, 154, 0, 9, 42, 4]
abbrev dktX9_costs_0 : List UInt8 := dkwX9_costs_0 ++ dktX9_costs_1
theorem dksX9_costs_0 : cX9_costs.data.toList.drop 0 = dktX9_costs_0 := by decide +kernel
theorem dksX9_costs_1 : cX9_costs.data.toList.drop 23 = dktX9_costs_1 := dk_seg dksX9_costs_0 23 rfl rfl
theorem dksX9_costs_2 : cX9_costs.data.toList.drop 45 = dktX9_costs_2 := dk_seg dksX9_costs_1 22 rfl rfl
theorem dX9_costs_0 : decode cX9_costs 0 = .ok (.aload_n 0, 1) := dk_42 (dk_at dksX9_costs_0 0 rfl rfl)
theorem dX9_costs_1 : decode cX9_costs 1 = .ok (.iconst 0, 1) := dk_3 (dk_at dksX9_costs_0 1 rfl rfl)
theorem dX9_costs_2 : decode cX9_costs 2 = .ok (.putfield 63, 3) := dk_181 0 63 (dk_at dksX9_costs_0 2 rfl rfl)
theorem dX9_costs_5 : decode cX9_costs 5 = .ok (.aload_n 0, 1) := dk_42 (dk_at dksX9_costs_0 5 rfl rfl)
theorem dX9_costs_6 : decode cX9_costs 6 = .ok (.iload_n 1, 1) := dk_27 (dk_at dksX9_costs_0 6 rfl rfl)
theorem dX9_costs_7 : decode cX9_costs 7 = .ok (.invokevirtual 518, 3) := dk_182 2 6 (dk_at dksX9_costs_0 7 rfl rfl)
theorem dX9_costs_10 : decode cX9_costs 10 = .ok (.ifCond .eq 11, 3) := dk_153 0 11 (dk_at dksX9_costs_0 10 rfl rfl)
theorem dX9_costs_13 : decode cX9_costs 13 = .ok (.aload_n 0, 1) := dk_42 (dk_at dksX9_costs_0 13 rfl rfl)
theorem dX9_costs_14 : decode cX9_costs 14 = .ok (.iload_n 2, 1) := dk_28 (dk_at dksX9_costs_0 14 rfl rfl)
theorem dX9_costs_15 : decode cX9_costs 15 = .ok (.invokevirtual 549, 3) := dk_182 2 37 (dk_at dksX9_costs_0 15 rfl rfl)
theorem dX9_costs_18 : decode cX9_costs 18 = .ok (.ifCond .ne 9, 3) := dk_154 0 9 (dk_at dksX9_costs_0 18 rfl rfl)
theorem dX9_costs_21 : decode cX9_costs 21 = .ok (.aload_n 0, 1) := dk_42 (dk_at dksX9_costs_0 21 rfl rfl)
theorem dX9_costs_22 : decode cX9_costs 22 = .ok (.iconst 1, 1) := dk_4 (dk_at dksX9_costs_0 22 rfl rfl)
theorem dX9_costs_23 : decode cX9_costs 23 = .ok (.invokevirtual 69, 3) := dk_182 0 69 (dk_at dksX9_costs_1 0 rfl rfl)
theorem dX9_costs_26 : decode cX9_costs 26 = .ok (.ireturn, 1) := dk_172 (dk_at dksX9_costs_1 3 rfl rfl)
theorem dX9_costs_27 : decode cX9_costs 27 = .ok (.aload_n 0, 1) := dk_42 (dk_at dksX9_costs_1 4 rfl rfl)
theorem dX9_costs_28 : decode cX9_costs 28 = .ok (.getfield 17, 3) := dk_180 0 17 (dk_at dksX9_costs_1 5 rfl rfl)
theorem dX9_costs_31 : decode cX9_costs 31 = .ok (.iconst 0, 1) := dk_3 (dk_at dksX9_costs_1 8 rfl rfl)
theorem dX9_costs_32 : decode cX9_costs 32 = .ok (.iload_n 1, 1) := dk_27 (dk_at dksX9_costs_1 9 rfl rfl)
theorem dX9_costs_33 : decode cX9_costs 33 = .ok (.iadd, 1) := dk_96 (dk_at dksX9_costs_1 10 rfl rfl)
theorem dX9_costs_34 : decode cX9_costs 34 = .ok (.iaload, 1) := dk_46 (dk_at dksX9_costs_1 11 rfl rfl)
theorem dX9_costs_35 : decode cX9_costs 35 = .ok (.bipush 6, 2) := dk_16 6 (dk_at dksX9_costs_1 12 rfl rfl)
theorem dX9_costs_37 : decode cX9_costs 37 = .ok (.if_icmp .ne 11, 3) := dk_160 0 11 (dk_at dksX9_costs_1 14 rfl rfl)
theorem dX9_costs_40 : decode cX9_costs 40 = .ok (.aload_n 0, 1) := dk_42 (dk_at dksX9_costs_1 17 rfl rfl)
theorem dX9_costs_41 : decode cX9_costs 41 = .ok (.iconst 3, 1) := dk_6 (dk_at dksX9_costs_1 18 rfl rfl)
theorem dX9_costs_42 : decode cX9_costs 42 = .ok (.invokevirtual 69, 3) := dk_182 0 69 (dk_at dksX9_costs_1 19 rfl rfl)
theorem dX9_costs_45 : decode cX9_costs 45 = .ok (.goto 17, 3) := dk_167 0 17 (dk_at dksX9_costs_2 0 rfl rfl)
theorem dX9_costs_48 : decode cX9_costs 48 = .ok (.aload_n 0, 1) := dk_42 (dk_at dksX9_costs_2 3 rfl rfl)
theorem dX9_costs_49 : decode cX9_costs 49 = .ok (.aload_n 0, 1) := dk_42 (dk_at dksX9_costs_2 4 rfl rfl)
theorem dX9_costs_50 : decode cX9_costs 50 = .ok (.aload_n 0, 1) := dk_42 (dk_at dksX9_costs_2 5 rfl rfl)
theorem dX9_costs_51 : decode cX9_costs 51 = .ok (.getfield 17, 3) := dk_180 0 17 (dk_at dksX9_costs_2 6 rfl rfl)
theorem dX9_costs_54 : decode cX9_costs 54 = .ok (.iload_n 1, 1) := dk_27 (dk_at dksX9_costs_2 9 rfl rfl)
theorem dX9_costs_55 : decode cX9_costs 55 = .ok (.iload_n 2, 1) := dk_28 (dk_at dksX9_costs_2 10 rfl rfl)
theorem dX9_costs_56 : decode cX9_costs 56 = .ok (.invokevirtual 501, 3) := dk_182 1 245 (dk_at dksX9_costs_2 11 rfl rfl)
theorem dX9_costs_59 : decode cX9_costs 59 = .ok (.invokevirtual 73, 3) := dk_182 0 73 (dk_at dksX9_costs_2 14 rfl rfl)
theorem dX9_costs_62 : decode cX9_costs 62 = .ok (.ireturn, 1) := dk_172 (dk_at dksX9_costs_2 17 rfl rfl)
abbrev cX9_isStone : ByteArray := prog_20_method_77_code
def yX9_isStone : MethodName := ⟨RX9, "isStone", "(I)Z"⟩
def dkwX9_isStone_1 : List UInt8 := [167, 0, 4, 3, 172]
abbrev dktX9_isStone_1 : List UInt8 := dkwX9_isStone_1 ++ []
def dkwX9_isStone_0 : List UInt8 := [42, 180, 1, 161, 198, 0, 22, 27, 155, 0, 18, 27, 42, 180, 1, 161, 180, 0, 226, 162, 0, 7, 4]
abbrev dktX9_isStone_0 : List UInt8 := dkwX9_isStone_0 ++ dktX9_isStone_1
theorem dksX9_isStone_0 : cX9_isStone.data.toList.drop 0 = dktX9_isStone_0 := by decide +kernel
theorem dksX9_isStone_1 : cX9_isStone.data.toList.drop 23 = dktX9_isStone_1 := dk_seg dksX9_isStone_0 23 rfl rfl
theorem dX9_isStone_0 : decode cX9_isStone 0 = .ok (.aload_n 0, 1) := dk_42 (dk_at dksX9_isStone_0 0 rfl rfl)
theorem dX9_isStone_1 : decode cX9_isStone 1 = .ok (.getfield 417, 3) := dk_180 1 161 (dk_at dksX9_isStone_0 1 rfl rfl)
theorem dX9_isStone_4 : decode cX9_isStone 4 = .ok (.ifnull 22, 3) := dk_198 0 22 (dk_at dksX9_isStone_0 4 rfl rfl)
theorem dX9_isStone_7 : decode cX9_isStone 7 = .ok (.iload_n 1, 1) := dk_27 (dk_at dksX9_isStone_0 7 rfl rfl)
theorem dX9_isStone_8 : decode cX9_isStone 8 = .ok (.ifCond .lt 18, 3) := dk_155 0 18 (dk_at dksX9_isStone_0 8 rfl rfl)
theorem dX9_isStone_11 : decode cX9_isStone 11 = .ok (.iload_n 1, 1) := dk_27 (dk_at dksX9_isStone_0 11 rfl rfl)
theorem dX9_isStone_12 : decode cX9_isStone 12 = .ok (.aload_n 0, 1) := dk_42 (dk_at dksX9_isStone_0 12 rfl rfl)
theorem dX9_isStone_13 : decode cX9_isStone 13 = .ok (.getfield 417, 3) := dk_180 1 161 (dk_at dksX9_isStone_0 13 rfl rfl)
theorem dX9_isStone_16 : decode cX9_isStone 16 = .ok (.getfield 226, 3) := dk_180 0 226 (dk_at dksX9_isStone_0 16 rfl rfl)
theorem dX9_isStone_19 : decode cX9_isStone 19 = .ok (.if_icmp .ge 7, 3) := dk_162 0 7 (dk_at dksX9_isStone_0 19 rfl rfl)
theorem dX9_isStone_22 : decode cX9_isStone 22 = .ok (.iconst 1, 1) := dk_4 (dk_at dksX9_isStone_0 22 rfl rfl)
theorem dX9_isStone_23 : decode cX9_isStone 23 = .ok (.goto 4, 3) := dk_167 0 4 (dk_at dksX9_isStone_1 0 rfl rfl)
theorem dX9_isStone_26 : decode cX9_isStone 26 = .ok (.iconst 0, 1) := dk_3 (dk_at dksX9_isStone_1 3 rfl rfl)
theorem dX9_isStone_27 : decode cX9_isStone 27 = .ok (.ireturn, 1) := dk_172 (dk_at dksX9_isStone_1 4 rfl rfl)
abbrev cX9_costOf : ByteArray := prog_20_method_65_code
def yX9_costOf : MethodName := ⟨RX9, "costOf", "([III)I"⟩
def dkwX9_costOf_0 : List UInt8 := [42, 180, 1, 161, 180, 1, 79, 29, 46, 16, 8, 104, 43, 3, 28, 96, 46, 4, 96, 104, 172]
abbrev dktX9_costOf_0 : List UInt8 := dkwX9_costOf_0 ++ []
theorem dksX9_costOf_0 : cX9_costOf.data.toList.drop 0 = dktX9_costOf_0 := by decide +kernel
theorem dX9_costOf_0 : decode cX9_costOf 0 = .ok (.aload_n 0, 1) := dk_42 (dk_at dksX9_costOf_0 0 rfl rfl)
theorem dX9_costOf_1 : decode cX9_costOf 1 = .ok (.getfield 417, 3) := dk_180 1 161 (dk_at dksX9_costOf_0 1 rfl rfl)
theorem dX9_costOf_4 : decode cX9_costOf 4 = .ok (.getfield 335, 3) := dk_180 1 79 (dk_at dksX9_costOf_0 4 rfl rfl)
theorem dX9_costOf_7 : decode cX9_costOf 7 = .ok (.iload_n 3, 1) := dk_29 (dk_at dksX9_costOf_0 7 rfl rfl)
theorem dX9_costOf_8 : decode cX9_costOf 8 = .ok (.iaload, 1) := dk_46 (dk_at dksX9_costOf_0 8 rfl rfl)
theorem dX9_costOf_9 : decode cX9_costOf 9 = .ok (.bipush 8, 2) := dk_16 8 (dk_at dksX9_costOf_0 9 rfl rfl)
theorem dX9_costOf_11 : decode cX9_costOf 11 = .ok (.imul, 1) := dk_104 (dk_at dksX9_costOf_0 11 rfl rfl)
theorem dX9_costOf_12 : decode cX9_costOf 12 = .ok (.aload_n 1, 1) := dk_43 (dk_at dksX9_costOf_0 12 rfl rfl)
theorem dX9_costOf_13 : decode cX9_costOf 13 = .ok (.iconst 0, 1) := dk_3 (dk_at dksX9_costOf_0 13 rfl rfl)
theorem dX9_costOf_14 : decode cX9_costOf 14 = .ok (.iload_n 2, 1) := dk_28 (dk_at dksX9_costOf_0 14 rfl rfl)
theorem dX9_costOf_15 : decode cX9_costOf 15 = .ok (.iadd, 1) := dk_96 (dk_at dksX9_costOf_0 15 rfl rfl)
theorem dX9_costOf_16 : decode cX9_costOf 16 = .ok (.iaload, 1) := dk_46 (dk_at dksX9_costOf_0 16 rfl rfl)
theorem dX9_costOf_17 : decode cX9_costOf 17 = .ok (.iconst 1, 1) := dk_4 (dk_at dksX9_costOf_0 17 rfl rfl)
theorem dX9_costOf_18 : decode cX9_costOf 18 = .ok (.iadd, 1) := dk_96 (dk_at dksX9_costOf_0 18 rfl rfl)
theorem dX9_costOf_19 : decode cX9_costOf 19 = .ok (.imul, 1) := dk_104 (dk_at dksX9_costOf_0 19 rfl rfl)
theorem dX9_costOf_20 : decode cX9_costOf 20 = .ok (.ireturn, 1) := dk_172 (dk_at dksX9_costOf_0 20 rfl rfl)
abbrev cX9_way : ByteArray := prog_20_method_95_code
def yX9_way : MethodName := ⟨RX9, "way", "(II)I"⟩
def dkwX9_way_1 : List UInt8 := [182, 0, 73, 167, 0, 8, 42, 4, 182, 0, 69, 172]
abbrev dktX9_way_1 : List UInt8 := dkwX9_way_1 ++ []
def dkwX9_way_0 : List UInt8 := [42, 3, 181, 0, 63, 42, 27, 28, 182, 2, 28, 153, 0, 19, 42, 42, 180, 0, 17, 27, 28, 184, 2, 40]
abbrev dktX9_way_0 : List UInt8 := dkwX9_way_0 ++ dktX9_way_1
theorem dksX9_way_0 : cX9_way.data.toList.drop 0 = dktX9_way_0 := by decide +kernel
theorem dksX9_way_1 : cX9_way.data.toList.drop 24 = dktX9_way_1 := dk_seg dksX9_way_0 24 rfl rfl
theorem dX9_way_0 : decode cX9_way 0 = .ok (.aload_n 0, 1) := dk_42 (dk_at dksX9_way_0 0 rfl rfl)
theorem dX9_way_1 : decode cX9_way 1 = .ok (.iconst 0, 1) := dk_3 (dk_at dksX9_way_0 1 rfl rfl)
theorem dX9_way_2 : decode cX9_way 2 = .ok (.putfield 63, 3) := dk_181 0 63 (dk_at dksX9_way_0 2 rfl rfl)
theorem dX9_way_5 : decode cX9_way 5 = .ok (.aload_n 0, 1) := dk_42 (dk_at dksX9_way_0 5 rfl rfl)
theorem dX9_way_6 : decode cX9_way 6 = .ok (.iload_n 1, 1) := dk_27 (dk_at dksX9_way_0 6 rfl rfl)
theorem dX9_way_7 : decode cX9_way 7 = .ok (.iload_n 2, 1) := dk_28 (dk_at dksX9_way_0 7 rfl rfl)
theorem dX9_way_8 : decode cX9_way 8 = .ok (.invokevirtual 540, 3) := dk_182 2 28 (dk_at dksX9_way_0 8 rfl rfl)
theorem dX9_way_11 : decode cX9_way 11 = .ok (.ifCond .eq 19, 3) := dk_153 0 19 (dk_at dksX9_way_0 11 rfl rfl)
theorem dX9_way_14 : decode cX9_way 14 = .ok (.aload_n 0, 1) := dk_42 (dk_at dksX9_way_0 14 rfl rfl)
theorem dX9_way_15 : decode cX9_way 15 = .ok (.aload_n 0, 1) := dk_42 (dk_at dksX9_way_0 15 rfl rfl)
theorem dX9_way_16 : decode cX9_way 16 = .ok (.getfield 17, 3) := dk_180 0 17 (dk_at dksX9_way_0 16 rfl rfl)
theorem dX9_way_19 : decode cX9_way 19 = .ok (.iload_n 1, 1) := dk_27 (dk_at dksX9_way_0 19 rfl rfl)
theorem dX9_way_20 : decode cX9_way 20 = .ok (.iload_n 2, 1) := dk_28 (dk_at dksX9_way_0 20 rfl rfl)
theorem dX9_way_21 : decode cX9_way 21 = .ok (.invokestatic 552, 3) := dk_184 2 40 (dk_at dksX9_way_0 21 rfl rfl)
theorem dX9_way_24 : decode cX9_way 24 = .ok (.invokevirtual 73, 3) := dk_182 0 73 (dk_at dksX9_way_1 0 rfl rfl)
theorem dX9_way_27 : decode cX9_way 27 = .ok (.goto 8, 3) := dk_167 0 8 (dk_at dksX9_way_1 3 rfl rfl)
theorem dX9_way_30 : decode cX9_way 30 = .ok (.aload_n 0, 1) := dk_42 (dk_at dksX9_way_1 6 rfl rfl)
theorem dX9_way_31 : decode cX9_way 31 = .ok (.iconst 1, 1) := dk_4 (dk_at dksX9_way_1 7 rfl rfl)
theorem dX9_way_32 : decode cX9_way 32 = .ok (.invokevirtual 69, 3) := dk_182 0 69 (dk_at dksX9_way_1 8 rfl rfl)
theorem dX9_way_35 : decode cX9_way 35 = .ok (.ireturn, 1) := dk_172 (dk_at dksX9_way_1 11 rfl rfl)
abbrev cX9_wayTo : ByteArray := prog_20_method_61_code
def yX9_wayTo : MethodName := ⟨RX9, "wayTo", "([III)I"⟩
def dkwX9_wayTo_2 : List UInt8 := [132, 3, 1, 167, 255, 216, 42, 27, 28, 184, 1, 212, 172]
abbrev dktX9_wayTo_2 : List UInt8 := dkwX9_wayTo_2 ++ []
def dkwX9_wayTo_1 : List UInt8 := [184, 1, 169, 46, 4, 159, 0, 16, 42, 27, 29, 16, 6, 184, 1, 169, 46, 4, 160, 0, 6, 16, 254, 172]
abbrev dktX9_wayTo_1 : List UInt8 := dkwX9_wayTo_1 ++ dktX9_wayTo_2
def dkwX9_wayTo_0 : List UInt8 := [28, 158, 0, 7, 28, 167, 0, 4, 4, 62, 29, 42, 3, 27, 96, 46, 163, 0, 37, 42, 27, 29, 8]
abbrev dktX9_wayTo_0 : List UInt8 := dkwX9_wayTo_0 ++ dktX9_wayTo_1
theorem dksX9_wayTo_0 : cX9_wayTo.data.toList.drop 0 = dktX9_wayTo_0 := by decide +kernel
theorem dksX9_wayTo_1 : cX9_wayTo.data.toList.drop 23 = dktX9_wayTo_1 := dk_seg dksX9_wayTo_0 23 rfl rfl
theorem dksX9_wayTo_2 : cX9_wayTo.data.toList.drop 47 = dktX9_wayTo_2 := dk_seg dksX9_wayTo_1 24 rfl rfl
theorem dX9_wayTo_0 : decode cX9_wayTo 0 = .ok (.iload_n 2, 1) := dk_28 (dk_at dksX9_wayTo_0 0 rfl rfl)
theorem dX9_wayTo_1 : decode cX9_wayTo 1 = .ok (.ifCond .le 7, 3) := dk_158 0 7 (dk_at dksX9_wayTo_0 1 rfl rfl)
theorem dX9_wayTo_4 : decode cX9_wayTo 4 = .ok (.iload_n 2, 1) := dk_28 (dk_at dksX9_wayTo_0 4 rfl rfl)
theorem dX9_wayTo_5 : decode cX9_wayTo 5 = .ok (.goto 4, 3) := dk_167 0 4 (dk_at dksX9_wayTo_0 5 rfl rfl)
theorem dX9_wayTo_8 : decode cX9_wayTo 8 = .ok (.iconst 1, 1) := dk_4 (dk_at dksX9_wayTo_0 8 rfl rfl)
theorem dX9_wayTo_9 : decode cX9_wayTo 9 = .ok (.istore_n 3, 1) := dk_62 (dk_at dksX9_wayTo_0 9 rfl rfl)
theorem dX9_wayTo_10 : decode cX9_wayTo 10 = .ok (.iload_n 3, 1) := dk_29 (dk_at dksX9_wayTo_0 10 rfl rfl)
theorem dX9_wayTo_11 : decode cX9_wayTo 11 = .ok (.aload_n 0, 1) := dk_42 (dk_at dksX9_wayTo_0 11 rfl rfl)
theorem dX9_wayTo_12 : decode cX9_wayTo 12 = .ok (.iconst 0, 1) := dk_3 (dk_at dksX9_wayTo_0 12 rfl rfl)
theorem dX9_wayTo_13 : decode cX9_wayTo 13 = .ok (.iload_n 1, 1) := dk_27 (dk_at dksX9_wayTo_0 13 rfl rfl)
theorem dX9_wayTo_14 : decode cX9_wayTo 14 = .ok (.iadd, 1) := dk_96 (dk_at dksX9_wayTo_0 14 rfl rfl)
theorem dX9_wayTo_15 : decode cX9_wayTo 15 = .ok (.iaload, 1) := dk_46 (dk_at dksX9_wayTo_0 15 rfl rfl)
theorem dX9_wayTo_16 : decode cX9_wayTo 16 = .ok (.if_icmp .gt 37, 3) := dk_163 0 37 (dk_at dksX9_wayTo_0 16 rfl rfl)
theorem dX9_wayTo_19 : decode cX9_wayTo 19 = .ok (.aload_n 0, 1) := dk_42 (dk_at dksX9_wayTo_0 19 rfl rfl)
theorem dX9_wayTo_20 : decode cX9_wayTo 20 = .ok (.iload_n 1, 1) := dk_27 (dk_at dksX9_wayTo_0 20 rfl rfl)
theorem dX9_wayTo_21 : decode cX9_wayTo 21 = .ok (.iload_n 3, 1) := dk_29 (dk_at dksX9_wayTo_0 21 rfl rfl)
theorem dX9_wayTo_22 : decode cX9_wayTo 22 = .ok (.iconst 5, 1) := dk_8 (dk_at dksX9_wayTo_0 22 rfl rfl)
theorem dX9_wayTo_23 : decode cX9_wayTo 23 = .ok (.invokestatic 425, 3) := dk_184 1 169 (dk_at dksX9_wayTo_1 0 rfl rfl)
theorem dX9_wayTo_26 : decode cX9_wayTo 26 = .ok (.iaload, 1) := dk_46 (dk_at dksX9_wayTo_1 3 rfl rfl)
theorem dX9_wayTo_27 : decode cX9_wayTo 27 = .ok (.iconst 1, 1) := dk_4 (dk_at dksX9_wayTo_1 4 rfl rfl)
theorem dX9_wayTo_28 : decode cX9_wayTo 28 = .ok (.if_icmp .eq 16, 3) := dk_159 0 16 (dk_at dksX9_wayTo_1 5 rfl rfl)
theorem dX9_wayTo_31 : decode cX9_wayTo 31 = .ok (.aload_n 0, 1) := dk_42 (dk_at dksX9_wayTo_1 8 rfl rfl)
theorem dX9_wayTo_32 : decode cX9_wayTo 32 = .ok (.iload_n 1, 1) := dk_27 (dk_at dksX9_wayTo_1 9 rfl rfl)
theorem dX9_wayTo_33 : decode cX9_wayTo 33 = .ok (.iload_n 3, 1) := dk_29 (dk_at dksX9_wayTo_1 10 rfl rfl)
theorem dX9_wayTo_34 : decode cX9_wayTo 34 = .ok (.bipush 6, 2) := dk_16 6 (dk_at dksX9_wayTo_1 11 rfl rfl)
theorem dX9_wayTo_36 : decode cX9_wayTo 36 = .ok (.invokestatic 425, 3) := dk_184 1 169 (dk_at dksX9_wayTo_1 13 rfl rfl)
theorem dX9_wayTo_39 : decode cX9_wayTo 39 = .ok (.iaload, 1) := dk_46 (dk_at dksX9_wayTo_1 16 rfl rfl)
theorem dX9_wayTo_40 : decode cX9_wayTo 40 = .ok (.iconst 1, 1) := dk_4 (dk_at dksX9_wayTo_1 17 rfl rfl)
theorem dX9_wayTo_41 : decode cX9_wayTo 41 = .ok (.if_icmp .ne 6, 3) := dk_160 0 6 (dk_at dksX9_wayTo_1 18 rfl rfl)
theorem dX9_wayTo_44 : decode cX9_wayTo 44 = .ok (.bipush (-2), 2) := dk_16 254 (dk_at dksX9_wayTo_1 21 rfl rfl)
theorem dX9_wayTo_46 : decode cX9_wayTo 46 = .ok (.ireturn, 1) := dk_172 (dk_at dksX9_wayTo_1 23 rfl rfl)
theorem dX9_wayTo_47 : decode cX9_wayTo 47 = .ok (.iinc 3 1, 3) := dk_132 3 1 (dk_at dksX9_wayTo_2 0 rfl rfl)
theorem dX9_wayTo_50 : decode cX9_wayTo 50 = .ok (.goto (-40), 3) := dk_167 255 216 (dk_at dksX9_wayTo_2 3 rfl rfl)
theorem dX9_wayTo_53 : decode cX9_wayTo 53 = .ok (.aload_n 0, 1) := dk_42 (dk_at dksX9_wayTo_2 6 rfl rfl)
theorem dX9_wayTo_54 : decode cX9_wayTo 54 = .ok (.iload_n 1, 1) := dk_27 (dk_at dksX9_wayTo_2 7 rfl rfl)
theorem dX9_wayTo_55 : decode cX9_wayTo 55 = .ok (.iload_n 2, 1) := dk_28 (dk_at dksX9_wayTo_2 8 rfl rfl)
theorem dX9_wayTo_56 : decode cX9_wayTo 56 = .ok (.invokestatic 468, 3) := dk_184 1 212 (dk_at dksX9_wayTo_2 9 rfl rfl)
theorem dX9_wayTo_59 : decode cX9_wayTo 59 = .ok (.ireturn, 1) := dk_172 (dk_at dksX9_wayTo_2 12 rfl rfl)
abbrev cX9_plainWay : ByteArray := prog_20_method_60_code
def yX9_plainWay : MethodName := ⟨RX9, "plainWay", "([III)I"⟩
def dkwX9_plainWay_3 : List UInt8 := [29, 172]
abbrev dktX9_plainWay_3 : List UInt8 := dkwX9_plainWay_3 ++ []
def dkwX9_plainWay_2 : List UInt8 := [132, 4, 255, 167, 255, 214, 28, 154, 0, 17, 42, 3, 27, 96, 46, 158, 0, 9, 29, 4, 96, 167, 0, 4]
abbrev dktX9_plainWay_2 : List UInt8 := dkwX9_plainWay_2 ++ dktX9_plainWay_3
def dkwX9_plainWay_1 : List UInt8 := [4, 164, 0, 19, 21, 4, 28, 164, 0, 13, 42, 27, 21, 4, 184, 1, 208, 167, 0, 4, 3, 96, 96, 62]
abbrev dktX9_plainWay_1 : List UInt8 := dkwX9_plainWay_1 ++ dktX9_plainWay_2
def dkwX9_plainWay_0 : List UInt8 := [3, 62, 42, 3, 27, 96, 46, 54, 4, 21, 4, 158, 0, 43, 21, 4, 28, 161, 0, 37, 29, 4, 21, 4]
abbrev dktX9_plainWay_0 : List UInt8 := dkwX9_plainWay_0 ++ dktX9_plainWay_1
theorem dksX9_plainWay_0 : cX9_plainWay.data.toList.drop 0 = dktX9_plainWay_0 := by decide +kernel
theorem dksX9_plainWay_1 : cX9_plainWay.data.toList.drop 24 = dktX9_plainWay_1 := dk_seg dksX9_plainWay_0 24 rfl rfl
theorem dksX9_plainWay_2 : cX9_plainWay.data.toList.drop 48 = dktX9_plainWay_2 := dk_seg dksX9_plainWay_1 24 rfl rfl
theorem dksX9_plainWay_3 : cX9_plainWay.data.toList.drop 72 = dktX9_plainWay_3 := dk_seg dksX9_plainWay_2 24 rfl rfl
theorem dX9_plainWay_0 : decode cX9_plainWay 0 = .ok (.iconst 0, 1) := dk_3 (dk_at dksX9_plainWay_0 0 rfl rfl)
theorem dX9_plainWay_1 : decode cX9_plainWay 1 = .ok (.istore_n 3, 1) := dk_62 (dk_at dksX9_plainWay_0 1 rfl rfl)
theorem dX9_plainWay_2 : decode cX9_plainWay 2 = .ok (.aload_n 0, 1) := dk_42 (dk_at dksX9_plainWay_0 2 rfl rfl)
theorem dX9_plainWay_3 : decode cX9_plainWay 3 = .ok (.iconst 0, 1) := dk_3 (dk_at dksX9_plainWay_0 3 rfl rfl)
theorem dX9_plainWay_4 : decode cX9_plainWay 4 = .ok (.iload_n 1, 1) := dk_27 (dk_at dksX9_plainWay_0 4 rfl rfl)
theorem dX9_plainWay_5 : decode cX9_plainWay 5 = .ok (.iadd, 1) := dk_96 (dk_at dksX9_plainWay_0 5 rfl rfl)
theorem dX9_plainWay_6 : decode cX9_plainWay 6 = .ok (.iaload, 1) := dk_46 (dk_at dksX9_plainWay_0 6 rfl rfl)
theorem dX9_plainWay_7 : decode cX9_plainWay 7 = .ok (.istore 4, 2) := dk_54 4 (dk_at dksX9_plainWay_0 7 rfl rfl)
theorem dX9_plainWay_9 : decode cX9_plainWay 9 = .ok (.iload 4, 2) := dk_21 4 (dk_at dksX9_plainWay_0 9 rfl rfl)
theorem dX9_plainWay_11 : decode cX9_plainWay 11 = .ok (.ifCond .le 43, 3) := dk_158 0 43 (dk_at dksX9_plainWay_0 11 rfl rfl)
theorem dX9_plainWay_14 : decode cX9_plainWay 14 = .ok (.iload 4, 2) := dk_21 4 (dk_at dksX9_plainWay_0 14 rfl rfl)
theorem dX9_plainWay_16 : decode cX9_plainWay 16 = .ok (.iload_n 2, 1) := dk_28 (dk_at dksX9_plainWay_0 16 rfl rfl)
theorem dX9_plainWay_17 : decode cX9_plainWay 17 = .ok (.if_icmp .lt 37, 3) := dk_161 0 37 (dk_at dksX9_plainWay_0 17 rfl rfl)
theorem dX9_plainWay_20 : decode cX9_plainWay 20 = .ok (.iload_n 3, 1) := dk_29 (dk_at dksX9_plainWay_0 20 rfl rfl)
theorem dX9_plainWay_21 : decode cX9_plainWay 21 = .ok (.iconst 1, 1) := dk_4 (dk_at dksX9_plainWay_0 21 rfl rfl)
theorem dX9_plainWay_22 : decode cX9_plainWay 22 = .ok (.iload 4, 2) := dk_21 4 (dk_at dksX9_plainWay_0 22 rfl rfl)
theorem dX9_plainWay_24 : decode cX9_plainWay 24 = .ok (.iconst 1, 1) := dk_4 (dk_at dksX9_plainWay_1 0 rfl rfl)
theorem dX9_plainWay_25 : decode cX9_plainWay 25 = .ok (.if_icmp .le 19, 3) := dk_164 0 19 (dk_at dksX9_plainWay_1 1 rfl rfl)
theorem dX9_plainWay_28 : decode cX9_plainWay 28 = .ok (.iload 4, 2) := dk_21 4 (dk_at dksX9_plainWay_1 4 rfl rfl)
theorem dX9_plainWay_30 : decode cX9_plainWay 30 = .ok (.iload_n 2, 1) := dk_28 (dk_at dksX9_plainWay_1 6 rfl rfl)
theorem dX9_plainWay_31 : decode cX9_plainWay 31 = .ok (.if_icmp .le 13, 3) := dk_164 0 13 (dk_at dksX9_plainWay_1 7 rfl rfl)
theorem dX9_plainWay_34 : decode cX9_plainWay 34 = .ok (.aload_n 0, 1) := dk_42 (dk_at dksX9_plainWay_1 10 rfl rfl)
theorem dX9_plainWay_35 : decode cX9_plainWay 35 = .ok (.iload_n 1, 1) := dk_27 (dk_at dksX9_plainWay_1 11 rfl rfl)
theorem dX9_plainWay_36 : decode cX9_plainWay 36 = .ok (.iload 4, 2) := dk_21 4 (dk_at dksX9_plainWay_1 12 rfl rfl)
theorem dX9_plainWay_38 : decode cX9_plainWay 38 = .ok (.invokestatic 464, 3) := dk_184 1 208 (dk_at dksX9_plainWay_1 14 rfl rfl)
theorem dX9_plainWay_41 : decode cX9_plainWay 41 = .ok (.goto 4, 3) := dk_167 0 4 (dk_at dksX9_plainWay_1 17 rfl rfl)
theorem dX9_plainWay_44 : decode cX9_plainWay 44 = .ok (.iconst 0, 1) := dk_3 (dk_at dksX9_plainWay_1 20 rfl rfl)
theorem dX9_plainWay_45 : decode cX9_plainWay 45 = .ok (.iadd, 1) := dk_96 (dk_at dksX9_plainWay_1 21 rfl rfl)
theorem dX9_plainWay_46 : decode cX9_plainWay 46 = .ok (.iadd, 1) := dk_96 (dk_at dksX9_plainWay_1 22 rfl rfl)
theorem dX9_plainWay_47 : decode cX9_plainWay 47 = .ok (.istore_n 3, 1) := dk_62 (dk_at dksX9_plainWay_1 23 rfl rfl)
theorem dX9_plainWay_48 : decode cX9_plainWay 48 = .ok (.iinc 4 (-1), 3) := dk_132 4 255 (dk_at dksX9_plainWay_2 0 rfl rfl)
theorem dX9_plainWay_51 : decode cX9_plainWay 51 = .ok (.goto (-42), 3) := dk_167 255 214 (dk_at dksX9_plainWay_2 3 rfl rfl)
theorem dX9_plainWay_54 : decode cX9_plainWay 54 = .ok (.iload_n 2, 1) := dk_28 (dk_at dksX9_plainWay_2 6 rfl rfl)
theorem dX9_plainWay_55 : decode cX9_plainWay 55 = .ok (.ifCond .ne 17, 3) := dk_154 0 17 (dk_at dksX9_plainWay_2 7 rfl rfl)
theorem dX9_plainWay_58 : decode cX9_plainWay 58 = .ok (.aload_n 0, 1) := dk_42 (dk_at dksX9_plainWay_2 10 rfl rfl)
theorem dX9_plainWay_59 : decode cX9_plainWay 59 = .ok (.iconst 0, 1) := dk_3 (dk_at dksX9_plainWay_2 11 rfl rfl)
theorem dX9_plainWay_60 : decode cX9_plainWay 60 = .ok (.iload_n 1, 1) := dk_27 (dk_at dksX9_plainWay_2 12 rfl rfl)
theorem dX9_plainWay_61 : decode cX9_plainWay 61 = .ok (.iadd, 1) := dk_96 (dk_at dksX9_plainWay_2 13 rfl rfl)
theorem dX9_plainWay_62 : decode cX9_plainWay 62 = .ok (.iaload, 1) := dk_46 (dk_at dksX9_plainWay_2 14 rfl rfl)
theorem dX9_plainWay_63 : decode cX9_plainWay 63 = .ok (.ifCond .le 9, 3) := dk_158 0 9 (dk_at dksX9_plainWay_2 15 rfl rfl)
theorem dX9_plainWay_66 : decode cX9_plainWay 66 = .ok (.iload_n 3, 1) := dk_29 (dk_at dksX9_plainWay_2 18 rfl rfl)
theorem dX9_plainWay_67 : decode cX9_plainWay 67 = .ok (.iconst 1, 1) := dk_4 (dk_at dksX9_plainWay_2 19 rfl rfl)
theorem dX9_plainWay_68 : decode cX9_plainWay 68 = .ok (.iadd, 1) := dk_96 (dk_at dksX9_plainWay_2 20 rfl rfl)
theorem dX9_plainWay_69 : decode cX9_plainWay 69 = .ok (.goto 4, 3) := dk_167 0 4 (dk_at dksX9_plainWay_2 21 rfl rfl)
theorem dX9_plainWay_72 : decode cX9_plainWay 72 = .ok (.iload_n 3, 1) := dk_29 (dk_at dksX9_plainWay_3 0 rfl rfl)
theorem dX9_plainWay_73 : decode cX9_plainWay 73 = .ok (.ireturn, 1) := dk_172 (dk_at dksX9_plainWay_3 1 rfl rfl)
abbrev cX9_roundIn : ByteArray := prog_20_method_59_code
def yX9_roundIn : MethodName := ⟨RX9, "roundIn", "([III)I"⟩
def dkwX9_roundIn_2 : List UInt8 := [184, 1, 205, 172]
abbrev dktX9_roundIn_2 : List UInt8 := dkwX9_roundIn_2 ++ []
def dkwX9_roundIn_1 : List UInt8 := [42, 27, 28, 4, 100, 4, 184, 1, 169, 46, 42, 27, 28, 4, 100, 5, 184, 1, 169, 46, 184, 1, 202]
abbrev dktX9_roundIn_1 : List UInt8 := dkwX9_roundIn_1 ++ dktX9_roundIn_2
def dkwX9_roundIn_0 : List UInt8 := [28, 28, 42, 27, 28, 4, 184, 1, 169, 46, 42, 27, 28, 5, 184, 1, 169, 46, 184, 1, 199, 28, 4, 100]
abbrev dktX9_roundIn_0 : List UInt8 := dkwX9_roundIn_0 ++ dktX9_roundIn_1
theorem dksX9_roundIn_0 : cX9_roundIn.data.toList.drop 0 = dktX9_roundIn_0 := by decide +kernel
theorem dksX9_roundIn_1 : cX9_roundIn.data.toList.drop 24 = dktX9_roundIn_1 := dk_seg dksX9_roundIn_0 24 rfl rfl
theorem dksX9_roundIn_2 : cX9_roundIn.data.toList.drop 47 = dktX9_roundIn_2 := dk_seg dksX9_roundIn_1 23 rfl rfl
theorem dX9_roundIn_0 : decode cX9_roundIn 0 = .ok (.iload_n 2, 1) := dk_28 (dk_at dksX9_roundIn_0 0 rfl rfl)
theorem dX9_roundIn_1 : decode cX9_roundIn 1 = .ok (.iload_n 2, 1) := dk_28 (dk_at dksX9_roundIn_0 1 rfl rfl)
theorem dX9_roundIn_2 : decode cX9_roundIn 2 = .ok (.aload_n 0, 1) := dk_42 (dk_at dksX9_roundIn_0 2 rfl rfl)
theorem dX9_roundIn_3 : decode cX9_roundIn 3 = .ok (.iload_n 1, 1) := dk_27 (dk_at dksX9_roundIn_0 3 rfl rfl)
theorem dX9_roundIn_4 : decode cX9_roundIn 4 = .ok (.iload_n 2, 1) := dk_28 (dk_at dksX9_roundIn_0 4 rfl rfl)
theorem dX9_roundIn_5 : decode cX9_roundIn 5 = .ok (.iconst 1, 1) := dk_4 (dk_at dksX9_roundIn_0 5 rfl rfl)
theorem dX9_roundIn_6 : decode cX9_roundIn 6 = .ok (.invokestatic 425, 3) := dk_184 1 169 (dk_at dksX9_roundIn_0 6 rfl rfl)
theorem dX9_roundIn_9 : decode cX9_roundIn 9 = .ok (.iaload, 1) := dk_46 (dk_at dksX9_roundIn_0 9 rfl rfl)
theorem dX9_roundIn_10 : decode cX9_roundIn 10 = .ok (.aload_n 0, 1) := dk_42 (dk_at dksX9_roundIn_0 10 rfl rfl)
theorem dX9_roundIn_11 : decode cX9_roundIn 11 = .ok (.iload_n 1, 1) := dk_27 (dk_at dksX9_roundIn_0 11 rfl rfl)
theorem dX9_roundIn_12 : decode cX9_roundIn 12 = .ok (.iload_n 2, 1) := dk_28 (dk_at dksX9_roundIn_0 12 rfl rfl)
theorem dX9_roundIn_13 : decode cX9_roundIn 13 = .ok (.iconst 2, 1) := dk_5 (dk_at dksX9_roundIn_0 13 rfl rfl)
theorem dX9_roundIn_14 : decode cX9_roundIn 14 = .ok (.invokestatic 425, 3) := dk_184 1 169 (dk_at dksX9_roundIn_0 14 rfl rfl)
theorem dX9_roundIn_17 : decode cX9_roundIn 17 = .ok (.iaload, 1) := dk_46 (dk_at dksX9_roundIn_0 17 rfl rfl)
theorem dX9_roundIn_18 : decode cX9_roundIn 18 = .ok (.invokestatic 455, 3) := dk_184 1 199 (dk_at dksX9_roundIn_0 18 rfl rfl)
theorem dX9_roundIn_21 : decode cX9_roundIn 21 = .ok (.iload_n 2, 1) := dk_28 (dk_at dksX9_roundIn_0 21 rfl rfl)
theorem dX9_roundIn_22 : decode cX9_roundIn 22 = .ok (.iconst 1, 1) := dk_4 (dk_at dksX9_roundIn_0 22 rfl rfl)
theorem dX9_roundIn_23 : decode cX9_roundIn 23 = .ok (.isub, 1) := dk_100 (dk_at dksX9_roundIn_0 23 rfl rfl)
theorem dX9_roundIn_24 : decode cX9_roundIn 24 = .ok (.aload_n 0, 1) := dk_42 (dk_at dksX9_roundIn_1 0 rfl rfl)
theorem dX9_roundIn_25 : decode cX9_roundIn 25 = .ok (.iload_n 1, 1) := dk_27 (dk_at dksX9_roundIn_1 1 rfl rfl)
theorem dX9_roundIn_26 : decode cX9_roundIn 26 = .ok (.iload_n 2, 1) := dk_28 (dk_at dksX9_roundIn_1 2 rfl rfl)
theorem dX9_roundIn_27 : decode cX9_roundIn 27 = .ok (.iconst 1, 1) := dk_4 (dk_at dksX9_roundIn_1 3 rfl rfl)
theorem dX9_roundIn_28 : decode cX9_roundIn 28 = .ok (.isub, 1) := dk_100 (dk_at dksX9_roundIn_1 4 rfl rfl)
theorem dX9_roundIn_29 : decode cX9_roundIn 29 = .ok (.iconst 1, 1) := dk_4 (dk_at dksX9_roundIn_1 5 rfl rfl)
theorem dX9_roundIn_30 : decode cX9_roundIn 30 = .ok (.invokestatic 425, 3) := dk_184 1 169 (dk_at dksX9_roundIn_1 6 rfl rfl)
theorem dX9_roundIn_33 : decode cX9_roundIn 33 = .ok (.iaload, 1) := dk_46 (dk_at dksX9_roundIn_1 9 rfl rfl)
theorem dX9_roundIn_34 : decode cX9_roundIn 34 = .ok (.aload_n 0, 1) := dk_42 (dk_at dksX9_roundIn_1 10 rfl rfl)
theorem dX9_roundIn_35 : decode cX9_roundIn 35 = .ok (.iload_n 1, 1) := dk_27 (dk_at dksX9_roundIn_1 11 rfl rfl)
theorem dX9_roundIn_36 : decode cX9_roundIn 36 = .ok (.iload_n 2, 1) := dk_28 (dk_at dksX9_roundIn_1 12 rfl rfl)
theorem dX9_roundIn_37 : decode cX9_roundIn 37 = .ok (.iconst 1, 1) := dk_4 (dk_at dksX9_roundIn_1 13 rfl rfl)
theorem dX9_roundIn_38 : decode cX9_roundIn 38 = .ok (.isub, 1) := dk_100 (dk_at dksX9_roundIn_1 14 rfl rfl)
theorem dX9_roundIn_39 : decode cX9_roundIn 39 = .ok (.iconst 2, 1) := dk_5 (dk_at dksX9_roundIn_1 15 rfl rfl)
theorem dX9_roundIn_40 : decode cX9_roundIn 40 = .ok (.invokestatic 425, 3) := dk_184 1 169 (dk_at dksX9_roundIn_1 16 rfl rfl)
theorem dX9_roundIn_43 : decode cX9_roundIn 43 = .ok (.iaload, 1) := dk_46 (dk_at dksX9_roundIn_1 19 rfl rfl)
theorem dX9_roundIn_44 : decode cX9_roundIn 44 = .ok (.invokestatic 458, 3) := dk_184 1 202 (dk_at dksX9_roundIn_1 20 rfl rfl)
theorem dX9_roundIn_47 : decode cX9_roundIn 47 = .ok (.invokestatic 461, 3) := dk_184 1 205 (dk_at dksX9_roundIn_2 0 rfl rfl)
theorem dX9_roundIn_50 : decode cX9_roundIn 50 = .ok (.ireturn, 1) := dk_172 (dk_at dksX9_roundIn_2 3 rfl rfl)
abbrev cX9_through : ByteArray := prog_20_method_99_code
def yX9_through : MethodName := ⟨RX9, "through", "(II)I"⟩
def dkwX9_through_1 : List UInt8 := [182, 0, 73, 167, 0, 8, 42, 4, 182, 0, 69, 172]
abbrev dktX9_through_1 : List UInt8 := dkwX9_through_1 ++ []
def dkwX9_through_0 : List UInt8 := [42, 3, 181, 0, 63, 42, 27, 28, 182, 2, 28, 153, 0, 19, 42, 42, 27, 28, 182, 2, 50, 16, 100, 108]
abbrev dktX9_through_0 : List UInt8 := dkwX9_through_0 ++ dktX9_through_1
theorem dksX9_through_0 : cX9_through.data.toList.drop 0 = dktX9_through_0 := by decide +kernel
theorem dksX9_through_1 : cX9_through.data.toList.drop 24 = dktX9_through_1 := dk_seg dksX9_through_0 24 rfl rfl
theorem dX9_through_0 : decode cX9_through 0 = .ok (.aload_n 0, 1) := dk_42 (dk_at dksX9_through_0 0 rfl rfl)
theorem dX9_through_1 : decode cX9_through 1 = .ok (.iconst 0, 1) := dk_3 (dk_at dksX9_through_0 1 rfl rfl)
theorem dX9_through_2 : decode cX9_through 2 = .ok (.putfield 63, 3) := dk_181 0 63 (dk_at dksX9_through_0 2 rfl rfl)
theorem dX9_through_5 : decode cX9_through 5 = .ok (.aload_n 0, 1) := dk_42 (dk_at dksX9_through_0 5 rfl rfl)
theorem dX9_through_6 : decode cX9_through 6 = .ok (.iload_n 1, 1) := dk_27 (dk_at dksX9_through_0 6 rfl rfl)
theorem dX9_through_7 : decode cX9_through 7 = .ok (.iload_n 2, 1) := dk_28 (dk_at dksX9_through_0 7 rfl rfl)
theorem dX9_through_8 : decode cX9_through 8 = .ok (.invokevirtual 540, 3) := dk_182 2 28 (dk_at dksX9_through_0 8 rfl rfl)
theorem dX9_through_11 : decode cX9_through 11 = .ok (.ifCond .eq 19, 3) := dk_153 0 19 (dk_at dksX9_through_0 11 rfl rfl)
theorem dX9_through_14 : decode cX9_through 14 = .ok (.aload_n 0, 1) := dk_42 (dk_at dksX9_through_0 14 rfl rfl)
theorem dX9_through_15 : decode cX9_through 15 = .ok (.aload_n 0, 1) := dk_42 (dk_at dksX9_through_0 15 rfl rfl)
theorem dX9_through_16 : decode cX9_through 16 = .ok (.iload_n 1, 1) := dk_27 (dk_at dksX9_through_0 16 rfl rfl)
theorem dX9_through_17 : decode cX9_through 17 = .ok (.iload_n 2, 1) := dk_28 (dk_at dksX9_through_0 17 rfl rfl)
theorem dX9_through_18 : decode cX9_through 18 = .ok (.invokevirtual 562, 3) := dk_182 2 50 (dk_at dksX9_through_0 18 rfl rfl)
theorem dX9_through_21 : decode cX9_through 21 = .ok (.bipush 100, 2) := dk_16 100 (dk_at dksX9_through_0 21 rfl rfl)
theorem dX9_through_23 : decode cX9_through 23 = .ok (.idiv, 1) := dk_108 (dk_at dksX9_through_0 23 rfl rfl)
theorem dX9_through_24 : decode cX9_through 24 = .ok (.invokevirtual 73, 3) := dk_182 0 73 (dk_at dksX9_through_1 0 rfl rfl)
theorem dX9_through_27 : decode cX9_through 27 = .ok (.goto 8, 3) := dk_167 0 8 (dk_at dksX9_through_1 3 rfl rfl)
theorem dX9_through_30 : decode cX9_through 30 = .ok (.aload_n 0, 1) := dk_42 (dk_at dksX9_through_1 6 rfl rfl)
theorem dX9_through_31 : decode cX9_through 31 = .ok (.iconst 1, 1) := dk_4 (dk_at dksX9_through_1 7 rfl rfl)
theorem dX9_through_32 : decode cX9_through 32 = .ok (.invokevirtual 69, 3) := dk_182 0 69 (dk_at dksX9_through_1 8 rfl rfl)
theorem dX9_through_35 : decode cX9_through 35 = .ok (.ireturn, 1) := dk_172 (dk_at dksX9_through_1 11 rfl rfl)
abbrev cX9_throughTo : ByteArray := prog_20_method_97_code
def yX9_throughTo : MethodName := ⟨RX9, "throughTo", "(II)I"⟩
def dkwX9_throughTo_13 : List UInt8 := [167, 0, 8, 21, 5, 16, 100, 96, 172]
abbrev dktX9_throughTo_13 : List UInt8 := dkwX9_throughTo_13 ++ []
def dkwX9_throughTo_12 : List UInt8 := [180, 0, 36, 21, 6, 46, 184, 1, 231, 54, 5, 132, 6, 1, 167, 255, 229, 28, 158, 0, 8, 21, 5]
abbrev dktX9_throughTo_12 : List UInt8 := dkwX9_throughTo_12 ++ dktX9_throughTo_13
def dkwX9_throughTo_11 : List UInt8 := [167, 255, 26, 19, 2, 43, 54, 5, 3, 54, 6, 21, 6, 16, 8, 21, 4, 104, 162, 0, 23, 21, 5, 42]
abbrev dktX9_throughTo_11 : List UInt8 := dkwX9_throughTo_11 ++ dktX9_throughTo_12
def dkwX9_throughTo_10 : List UInt8 := [184, 1, 205, 104, 96, 184, 1, 231, 79, 132, 8, 1, 167, 255, 206, 132, 7, 1, 167, 255, 177, 132, 5, 255]
abbrev dktX9_throughTo_10 : List UInt8 := dkwX9_throughTo_10 ++ dktX9_throughTo_11
def dkwX9_throughTo_9 : List UInt8 := [21, 7, 42, 180, 0, 36, 21, 7, 46, 42, 180, 0, 39, 21, 8, 46, 16, 100, 21, 5, 21, 7, 21, 8]
abbrev dktX9_throughTo_9 : List UInt8 := dkwX9_throughTo_9 ++ dktX9_throughTo_10
def dkwX9_throughTo_8 : List UInt8 := [21, 7, 19, 2, 43, 79, 3, 54, 8, 21, 8, 16, 8, 21, 5, 104, 162, 0, 46, 42, 180, 0, 36]
abbrev dktX9_throughTo_8 : List UInt8 := dkwX9_throughTo_8 ++ dktX9_throughTo_9
def dkwX9_throughTo_7 : List UInt8 := [132, 7, 1, 167, 255, 158, 3, 54, 7, 21, 7, 16, 8, 21, 5, 104, 162, 0, 75, 42, 180, 0, 36]
abbrev dktX9_throughTo_7 : List UInt8 := dkwX9_throughTo_7 ++ dktX9_throughTo_8
def dkwX9_throughTo_6 : List UInt8 := [21, 5, 29, 160, 0, 7, 3, 167, 0, 15, 42, 180, 0, 36, 21, 5, 21, 7, 184, 2, 47, 46, 96, 79]
abbrev dktX9_throughTo_6 : List UInt8 := dkwX9_throughTo_6 ++ dktX9_throughTo_7
def dkwX9_throughTo_5 : List UInt8 := [180, 0, 39, 21, 7, 42, 27, 21, 5, 21, 7, 21, 6, 160, 0, 7, 4, 167, 0, 4, 3, 182, 2, 44]
abbrev dktX9_throughTo_5 : List UInt8 := dkwX9_throughTo_5 ++ dktX9_throughTo_6
def dkwX9_throughTo_4 : List UInt8 := [21, 5, 104, 112, 153, 0, 68, 21, 5, 29, 160, 0, 13, 21, 7, 21, 6, 159, 0, 6, 167, 0, 52, 42]
abbrev dktX9_throughTo_4 : List UInt8 := dkwX9_throughTo_4 ++ dktX9_throughTo_5
def dkwX9_throughTo_3 : List UInt8 := [21, 7, 16, 8, 21, 5, 104, 162, 0, 94, 42, 180, 0, 39, 21, 7, 19, 2, 43, 79, 21, 7, 5]
abbrev dktX9_throughTo_3 : List UInt8 := dkwX9_throughTo_3 ++ dktX9_throughTo_4
def dkwX9_throughTo_2 : List UInt8 := [184, 1, 169, 46, 42, 180, 0, 17, 27, 21, 5, 5, 184, 1, 169, 46, 184, 1, 199, 54, 6, 3, 54, 7]
abbrev dktX9_throughTo_2 : List UInt8 := dkwX9_throughTo_2 ++ dktX9_throughTo_3
def dkwX9_throughTo_1 : List UInt8 := [54, 4, 29, 54, 5, 21, 5, 21, 4, 161, 0, 229, 21, 5, 42, 180, 0, 17, 27, 21, 5, 4]
abbrev dktX9_throughTo_1 : List UInt8 := dkwX9_throughTo_1 ++ dktX9_throughTo_2
def dkwX9_throughTo_0 : List UInt8 := [42, 180, 0, 17, 3, 27, 96, 46, 62, 29, 154, 0, 5, 3, 172, 28, 158, 0, 7, 28, 167, 0, 4, 4]
abbrev dktX9_throughTo_0 : List UInt8 := dkwX9_throughTo_0 ++ dktX9_throughTo_1
theorem dksX9_throughTo_0 : cX9_throughTo.data.toList.drop 0 = dktX9_throughTo_0 := by decide +kernel
theorem dksX9_throughTo_1 : cX9_throughTo.data.toList.drop 24 = dktX9_throughTo_1 := dk_seg dksX9_throughTo_0 24 rfl rfl
theorem dksX9_throughTo_2 : cX9_throughTo.data.toList.drop 46 = dktX9_throughTo_2 := dk_seg dksX9_throughTo_1 22 rfl rfl
theorem dksX9_throughTo_3 : cX9_throughTo.data.toList.drop 70 = dktX9_throughTo_3 := dk_seg dksX9_throughTo_2 24 rfl rfl
theorem dksX9_throughTo_4 : cX9_throughTo.data.toList.drop 93 = dktX9_throughTo_4 := dk_seg dksX9_throughTo_3 23 rfl rfl
theorem dksX9_throughTo_5 : cX9_throughTo.data.toList.drop 117 = dktX9_throughTo_5 := dk_seg dksX9_throughTo_4 24 rfl rfl
theorem dksX9_throughTo_6 : cX9_throughTo.data.toList.drop 141 = dktX9_throughTo_6 := dk_seg dksX9_throughTo_5 24 rfl rfl
theorem dksX9_throughTo_7 : cX9_throughTo.data.toList.drop 165 = dktX9_throughTo_7 := dk_seg dksX9_throughTo_6 24 rfl rfl
theorem dksX9_throughTo_8 : cX9_throughTo.data.toList.drop 188 = dktX9_throughTo_8 := dk_seg dksX9_throughTo_7 23 rfl rfl
theorem dksX9_throughTo_9 : cX9_throughTo.data.toList.drop 211 = dktX9_throughTo_9 := dk_seg dksX9_throughTo_8 23 rfl rfl
theorem dksX9_throughTo_10 : cX9_throughTo.data.toList.drop 235 = dktX9_throughTo_10 := dk_seg dksX9_throughTo_9 24 rfl rfl
theorem dksX9_throughTo_11 : cX9_throughTo.data.toList.drop 259 = dktX9_throughTo_11 := dk_seg dksX9_throughTo_10 24 rfl rfl
theorem dksX9_throughTo_12 : cX9_throughTo.data.toList.drop 283 = dktX9_throughTo_12 := dk_seg dksX9_throughTo_11 24 rfl rfl
theorem dksX9_throughTo_13 : cX9_throughTo.data.toList.drop 306 = dktX9_throughTo_13 := dk_seg dksX9_throughTo_12 23 rfl rfl
theorem dX9_throughTo_0 : decode cX9_throughTo 0 = .ok (.aload_n 0, 1) := dk_42 (dk_at dksX9_throughTo_0 0 rfl rfl)
theorem dX9_throughTo_1 : decode cX9_throughTo 1 = .ok (.getfield 17, 3) := dk_180 0 17 (dk_at dksX9_throughTo_0 1 rfl rfl)
theorem dX9_throughTo_4 : decode cX9_throughTo 4 = .ok (.iconst 0, 1) := dk_3 (dk_at dksX9_throughTo_0 4 rfl rfl)
theorem dX9_throughTo_5 : decode cX9_throughTo 5 = .ok (.iload_n 1, 1) := dk_27 (dk_at dksX9_throughTo_0 5 rfl rfl)
theorem dX9_throughTo_6 : decode cX9_throughTo 6 = .ok (.iadd, 1) := dk_96 (dk_at dksX9_throughTo_0 6 rfl rfl)
theorem dX9_throughTo_7 : decode cX9_throughTo 7 = .ok (.iaload, 1) := dk_46 (dk_at dksX9_throughTo_0 7 rfl rfl)
theorem dX9_throughTo_8 : decode cX9_throughTo 8 = .ok (.istore_n 3, 1) := dk_62 (dk_at dksX9_throughTo_0 8 rfl rfl)
theorem dX9_throughTo_9 : decode cX9_throughTo 9 = .ok (.iload_n 3, 1) := dk_29 (dk_at dksX9_throughTo_0 9 rfl rfl)
theorem dX9_throughTo_10 : decode cX9_throughTo 10 = .ok (.ifCond .ne 5, 3) := dk_154 0 5 (dk_at dksX9_throughTo_0 10 rfl rfl)
theorem dX9_throughTo_13 : decode cX9_throughTo 13 = .ok (.iconst 0, 1) := dk_3 (dk_at dksX9_throughTo_0 13 rfl rfl)
theorem dX9_throughTo_14 : decode cX9_throughTo 14 = .ok (.ireturn, 1) := dk_172 (dk_at dksX9_throughTo_0 14 rfl rfl)
theorem dX9_throughTo_15 : decode cX9_throughTo 15 = .ok (.iload_n 2, 1) := dk_28 (dk_at dksX9_throughTo_0 15 rfl rfl)
theorem dX9_throughTo_16 : decode cX9_throughTo 16 = .ok (.ifCond .le 7, 3) := dk_158 0 7 (dk_at dksX9_throughTo_0 16 rfl rfl)
theorem dX9_throughTo_19 : decode cX9_throughTo 19 = .ok (.iload_n 2, 1) := dk_28 (dk_at dksX9_throughTo_0 19 rfl rfl)
theorem dX9_throughTo_20 : decode cX9_throughTo 20 = .ok (.goto 4, 3) := dk_167 0 4 (dk_at dksX9_throughTo_0 20 rfl rfl)
theorem dX9_throughTo_23 : decode cX9_throughTo 23 = .ok (.iconst 1, 1) := dk_4 (dk_at dksX9_throughTo_0 23 rfl rfl)
theorem dX9_throughTo_24 : decode cX9_throughTo 24 = .ok (.istore 4, 2) := dk_54 4 (dk_at dksX9_throughTo_1 0 rfl rfl)
theorem dX9_throughTo_26 : decode cX9_throughTo 26 = .ok (.iload_n 3, 1) := dk_29 (dk_at dksX9_throughTo_1 2 rfl rfl)
theorem dX9_throughTo_27 : decode cX9_throughTo 27 = .ok (.istore 5, 2) := dk_54 5 (dk_at dksX9_throughTo_1 3 rfl rfl)
theorem dX9_throughTo_29 : decode cX9_throughTo 29 = .ok (.iload 5, 2) := dk_21 5 (dk_at dksX9_throughTo_1 5 rfl rfl)
theorem dX9_throughTo_31 : decode cX9_throughTo 31 = .ok (.iload 4, 2) := dk_21 4 (dk_at dksX9_throughTo_1 7 rfl rfl)
theorem dX9_throughTo_33 : decode cX9_throughTo 33 = .ok (.if_icmp .lt 229, 3) := dk_161 0 229 (dk_at dksX9_throughTo_1 9 rfl rfl)
theorem dX9_throughTo_36 : decode cX9_throughTo 36 = .ok (.iload 5, 2) := dk_21 5 (dk_at dksX9_throughTo_1 12 rfl rfl)
theorem dX9_throughTo_38 : decode cX9_throughTo 38 = .ok (.aload_n 0, 1) := dk_42 (dk_at dksX9_throughTo_1 14 rfl rfl)
theorem dX9_throughTo_39 : decode cX9_throughTo 39 = .ok (.getfield 17, 3) := dk_180 0 17 (dk_at dksX9_throughTo_1 15 rfl rfl)
theorem dX9_throughTo_42 : decode cX9_throughTo 42 = .ok (.iload_n 1, 1) := dk_27 (dk_at dksX9_throughTo_1 18 rfl rfl)
theorem dX9_throughTo_43 : decode cX9_throughTo 43 = .ok (.iload 5, 2) := dk_21 5 (dk_at dksX9_throughTo_1 19 rfl rfl)
theorem dX9_throughTo_45 : decode cX9_throughTo 45 = .ok (.iconst 1, 1) := dk_4 (dk_at dksX9_throughTo_1 21 rfl rfl)
theorem dX9_throughTo_46 : decode cX9_throughTo 46 = .ok (.invokestatic 425, 3) := dk_184 1 169 (dk_at dksX9_throughTo_2 0 rfl rfl)
theorem dX9_throughTo_49 : decode cX9_throughTo 49 = .ok (.iaload, 1) := dk_46 (dk_at dksX9_throughTo_2 3 rfl rfl)
theorem dX9_throughTo_50 : decode cX9_throughTo 50 = .ok (.aload_n 0, 1) := dk_42 (dk_at dksX9_throughTo_2 4 rfl rfl)
theorem dX9_throughTo_51 : decode cX9_throughTo 51 = .ok (.getfield 17, 3) := dk_180 0 17 (dk_at dksX9_throughTo_2 5 rfl rfl)
theorem dX9_throughTo_54 : decode cX9_throughTo 54 = .ok (.iload_n 1, 1) := dk_27 (dk_at dksX9_throughTo_2 8 rfl rfl)
theorem dX9_throughTo_55 : decode cX9_throughTo 55 = .ok (.iload 5, 2) := dk_21 5 (dk_at dksX9_throughTo_2 9 rfl rfl)
theorem dX9_throughTo_57 : decode cX9_throughTo 57 = .ok (.iconst 2, 1) := dk_5 (dk_at dksX9_throughTo_2 11 rfl rfl)
theorem dX9_throughTo_58 : decode cX9_throughTo 58 = .ok (.invokestatic 425, 3) := dk_184 1 169 (dk_at dksX9_throughTo_2 12 rfl rfl)
theorem dX9_throughTo_61 : decode cX9_throughTo 61 = .ok (.iaload, 1) := dk_46 (dk_at dksX9_throughTo_2 15 rfl rfl)
theorem dX9_throughTo_62 : decode cX9_throughTo 62 = .ok (.invokestatic 455, 3) := dk_184 1 199 (dk_at dksX9_throughTo_2 16 rfl rfl)
theorem dX9_throughTo_65 : decode cX9_throughTo 65 = .ok (.istore 6, 2) := dk_54 6 (dk_at dksX9_throughTo_2 19 rfl rfl)
theorem dX9_throughTo_67 : decode cX9_throughTo 67 = .ok (.iconst 0, 1) := dk_3 (dk_at dksX9_throughTo_2 21 rfl rfl)
theorem dX9_throughTo_68 : decode cX9_throughTo 68 = .ok (.istore 7, 2) := dk_54 7 (dk_at dksX9_throughTo_2 22 rfl rfl)
theorem dX9_throughTo_70 : decode cX9_throughTo 70 = .ok (.iload 7, 2) := dk_21 7 (dk_at dksX9_throughTo_3 0 rfl rfl)
theorem dX9_throughTo_72 : decode cX9_throughTo 72 = .ok (.bipush 8, 2) := dk_16 8 (dk_at dksX9_throughTo_3 2 rfl rfl)
theorem dX9_throughTo_74 : decode cX9_throughTo 74 = .ok (.iload 5, 2) := dk_21 5 (dk_at dksX9_throughTo_3 4 rfl rfl)
theorem dX9_throughTo_76 : decode cX9_throughTo 76 = .ok (.imul, 1) := dk_104 (dk_at dksX9_throughTo_3 6 rfl rfl)
theorem dX9_throughTo_77 : decode cX9_throughTo 77 = .ok (.if_icmp .ge 94, 3) := dk_162 0 94 (dk_at dksX9_throughTo_3 7 rfl rfl)
theorem dX9_throughTo_80 : decode cX9_throughTo 80 = .ok (.aload_n 0, 1) := dk_42 (dk_at dksX9_throughTo_3 10 rfl rfl)
theorem dX9_throughTo_81 : decode cX9_throughTo 81 = .ok (.getfield 39, 3) := dk_180 0 39 (dk_at dksX9_throughTo_3 11 rfl rfl)
theorem dX9_throughTo_84 : decode cX9_throughTo 84 = .ok (.iload 7, 2) := dk_21 7 (dk_at dksX9_throughTo_3 14 rfl rfl)
theorem dX9_throughTo_86 : decode cX9_throughTo 86 = .ok (.ldc_w 555, 3) := dk_19 2 43 (dk_at dksX9_throughTo_3 16 rfl rfl)
theorem dX9_throughTo_89 : decode cX9_throughTo 89 = .ok (.iastore, 1) := dk_79 (dk_at dksX9_throughTo_3 19 rfl rfl)
theorem dX9_throughTo_90 : decode cX9_throughTo 90 = .ok (.iload 7, 2) := dk_21 7 (dk_at dksX9_throughTo_3 20 rfl rfl)
theorem dX9_throughTo_92 : decode cX9_throughTo 92 = .ok (.iconst 2, 1) := dk_5 (dk_at dksX9_throughTo_3 22 rfl rfl)
theorem dX9_throughTo_93 : decode cX9_throughTo 93 = .ok (.iload 5, 2) := dk_21 5 (dk_at dksX9_throughTo_4 0 rfl rfl)
theorem dX9_throughTo_95 : decode cX9_throughTo 95 = .ok (.imul, 1) := dk_104 (dk_at dksX9_throughTo_4 2 rfl rfl)
theorem dX9_throughTo_96 : decode cX9_throughTo 96 = .ok (.irem, 1) := dk_112 (dk_at dksX9_throughTo_4 3 rfl rfl)
theorem dX9_throughTo_97 : decode cX9_throughTo 97 = .ok (.ifCond .eq 68, 3) := dk_153 0 68 (dk_at dksX9_throughTo_4 4 rfl rfl)
theorem dX9_throughTo_100 : decode cX9_throughTo 100 = .ok (.iload 5, 2) := dk_21 5 (dk_at dksX9_throughTo_4 7 rfl rfl)
theorem dX9_throughTo_102 : decode cX9_throughTo 102 = .ok (.iload_n 3, 1) := dk_29 (dk_at dksX9_throughTo_4 9 rfl rfl)
theorem dX9_throughTo_103 : decode cX9_throughTo 103 = .ok (.if_icmp .ne 13, 3) := dk_160 0 13 (dk_at dksX9_throughTo_4 10 rfl rfl)
theorem dX9_throughTo_106 : decode cX9_throughTo 106 = .ok (.iload 7, 2) := dk_21 7 (dk_at dksX9_throughTo_4 13 rfl rfl)
theorem dX9_throughTo_108 : decode cX9_throughTo 108 = .ok (.iload 6, 2) := dk_21 6 (dk_at dksX9_throughTo_4 15 rfl rfl)
theorem dX9_throughTo_110 : decode cX9_throughTo 110 = .ok (.if_icmp .eq 6, 3) := dk_159 0 6 (dk_at dksX9_throughTo_4 17 rfl rfl)
theorem dX9_throughTo_113 : decode cX9_throughTo 113 = .ok (.goto 52, 3) := dk_167 0 52 (dk_at dksX9_throughTo_4 20 rfl rfl)
theorem dX9_throughTo_116 : decode cX9_throughTo 116 = .ok (.aload_n 0, 1) := dk_42 (dk_at dksX9_throughTo_4 23 rfl rfl)
theorem dX9_throughTo_117 : decode cX9_throughTo 117 = .ok (.getfield 39, 3) := dk_180 0 39 (dk_at dksX9_throughTo_5 0 rfl rfl)
theorem dX9_throughTo_120 : decode cX9_throughTo 120 = .ok (.iload 7, 2) := dk_21 7 (dk_at dksX9_throughTo_5 3 rfl rfl)
theorem dX9_throughTo_122 : decode cX9_throughTo 122 = .ok (.aload_n 0, 1) := dk_42 (dk_at dksX9_throughTo_5 5 rfl rfl)
theorem dX9_throughTo_123 : decode cX9_throughTo 123 = .ok (.iload_n 1, 1) := dk_27 (dk_at dksX9_throughTo_5 6 rfl rfl)
theorem dX9_throughTo_124 : decode cX9_throughTo 124 = .ok (.iload 5, 2) := dk_21 5 (dk_at dksX9_throughTo_5 7 rfl rfl)
theorem dX9_throughTo_126 : decode cX9_throughTo 126 = .ok (.iload 7, 2) := dk_21 7 (dk_at dksX9_throughTo_5 9 rfl rfl)
theorem dX9_throughTo_128 : decode cX9_throughTo 128 = .ok (.iload 6, 2) := dk_21 6 (dk_at dksX9_throughTo_5 11 rfl rfl)
theorem dX9_throughTo_130 : decode cX9_throughTo 130 = .ok (.if_icmp .ne 7, 3) := dk_160 0 7 (dk_at dksX9_throughTo_5 13 rfl rfl)
theorem dX9_throughTo_133 : decode cX9_throughTo 133 = .ok (.iconst 1, 1) := dk_4 (dk_at dksX9_throughTo_5 16 rfl rfl)
theorem dX9_throughTo_134 : decode cX9_throughTo 134 = .ok (.goto 4, 3) := dk_167 0 4 (dk_at dksX9_throughTo_5 17 rfl rfl)
theorem dX9_throughTo_137 : decode cX9_throughTo 137 = .ok (.iconst 0, 1) := dk_3 (dk_at dksX9_throughTo_5 20 rfl rfl)
theorem dX9_throughTo_138 : decode cX9_throughTo 138 = .ok (.invokevirtual 556, 3) := dk_182 2 44 (dk_at dksX9_throughTo_5 21 rfl rfl)
theorem dX9_throughTo_141 : decode cX9_throughTo 141 = .ok (.iload 5, 2) := dk_21 5 (dk_at dksX9_throughTo_6 0 rfl rfl)
theorem dX9_throughTo_143 : decode cX9_throughTo 143 = .ok (.iload_n 3, 1) := dk_29 (dk_at dksX9_throughTo_6 2 rfl rfl)
theorem dX9_throughTo_144 : decode cX9_throughTo 144 = .ok (.if_icmp .ne 7, 3) := dk_160 0 7 (dk_at dksX9_throughTo_6 3 rfl rfl)
theorem dX9_throughTo_147 : decode cX9_throughTo 147 = .ok (.iconst 0, 1) := dk_3 (dk_at dksX9_throughTo_6 6 rfl rfl)
theorem dX9_throughTo_148 : decode cX9_throughTo 148 = .ok (.goto 15, 3) := dk_167 0 15 (dk_at dksX9_throughTo_6 7 rfl rfl)
theorem dX9_throughTo_151 : decode cX9_throughTo 151 = .ok (.aload_n 0, 1) := dk_42 (dk_at dksX9_throughTo_6 10 rfl rfl)
theorem dX9_throughTo_152 : decode cX9_throughTo 152 = .ok (.getfield 36, 3) := dk_180 0 36 (dk_at dksX9_throughTo_6 11 rfl rfl)
theorem dX9_throughTo_155 : decode cX9_throughTo 155 = .ok (.iload 5, 2) := dk_21 5 (dk_at dksX9_throughTo_6 14 rfl rfl)
theorem dX9_throughTo_157 : decode cX9_throughTo 157 = .ok (.iload 7, 2) := dk_21 7 (dk_at dksX9_throughTo_6 16 rfl rfl)
theorem dX9_throughTo_159 : decode cX9_throughTo 159 = .ok (.invokestatic 559, 3) := dk_184 2 47 (dk_at dksX9_throughTo_6 18 rfl rfl)
theorem dX9_throughTo_162 : decode cX9_throughTo 162 = .ok (.iaload, 1) := dk_46 (dk_at dksX9_throughTo_6 21 rfl rfl)
theorem dX9_throughTo_163 : decode cX9_throughTo 163 = .ok (.iadd, 1) := dk_96 (dk_at dksX9_throughTo_6 22 rfl rfl)
theorem dX9_throughTo_164 : decode cX9_throughTo 164 = .ok (.iastore, 1) := dk_79 (dk_at dksX9_throughTo_6 23 rfl rfl)
theorem dX9_throughTo_165 : decode cX9_throughTo 165 = .ok (.iinc 7 1, 3) := dk_132 7 1 (dk_at dksX9_throughTo_7 0 rfl rfl)
theorem dX9_throughTo_168 : decode cX9_throughTo 168 = .ok (.goto (-98), 3) := dk_167 255 158 (dk_at dksX9_throughTo_7 3 rfl rfl)
theorem dX9_throughTo_171 : decode cX9_throughTo 171 = .ok (.iconst 0, 1) := dk_3 (dk_at dksX9_throughTo_7 6 rfl rfl)
theorem dX9_throughTo_172 : decode cX9_throughTo 172 = .ok (.istore 7, 2) := dk_54 7 (dk_at dksX9_throughTo_7 7 rfl rfl)
theorem dX9_throughTo_174 : decode cX9_throughTo 174 = .ok (.iload 7, 2) := dk_21 7 (dk_at dksX9_throughTo_7 9 rfl rfl)
theorem dX9_throughTo_176 : decode cX9_throughTo 176 = .ok (.bipush 8, 2) := dk_16 8 (dk_at dksX9_throughTo_7 11 rfl rfl)
theorem dX9_throughTo_178 : decode cX9_throughTo 178 = .ok (.iload 5, 2) := dk_21 5 (dk_at dksX9_throughTo_7 13 rfl rfl)
theorem dX9_throughTo_180 : decode cX9_throughTo 180 = .ok (.imul, 1) := dk_104 (dk_at dksX9_throughTo_7 15 rfl rfl)
theorem dX9_throughTo_181 : decode cX9_throughTo 181 = .ok (.if_icmp .ge 75, 3) := dk_162 0 75 (dk_at dksX9_throughTo_7 16 rfl rfl)
theorem dX9_throughTo_184 : decode cX9_throughTo 184 = .ok (.aload_n 0, 1) := dk_42 (dk_at dksX9_throughTo_7 19 rfl rfl)
theorem dX9_throughTo_185 : decode cX9_throughTo 185 = .ok (.getfield 36, 3) := dk_180 0 36 (dk_at dksX9_throughTo_7 20 rfl rfl)
theorem dX9_throughTo_188 : decode cX9_throughTo 188 = .ok (.iload 7, 2) := dk_21 7 (dk_at dksX9_throughTo_8 0 rfl rfl)
theorem dX9_throughTo_190 : decode cX9_throughTo 190 = .ok (.ldc_w 555, 3) := dk_19 2 43 (dk_at dksX9_throughTo_8 2 rfl rfl)
theorem dX9_throughTo_193 : decode cX9_throughTo 193 = .ok (.iastore, 1) := dk_79 (dk_at dksX9_throughTo_8 5 rfl rfl)
theorem dX9_throughTo_194 : decode cX9_throughTo 194 = .ok (.iconst 0, 1) := dk_3 (dk_at dksX9_throughTo_8 6 rfl rfl)
theorem dX9_throughTo_195 : decode cX9_throughTo 195 = .ok (.istore 8, 2) := dk_54 8 (dk_at dksX9_throughTo_8 7 rfl rfl)
theorem dX9_throughTo_197 : decode cX9_throughTo 197 = .ok (.iload 8, 2) := dk_21 8 (dk_at dksX9_throughTo_8 9 rfl rfl)
theorem dX9_throughTo_199 : decode cX9_throughTo 199 = .ok (.bipush 8, 2) := dk_16 8 (dk_at dksX9_throughTo_8 11 rfl rfl)
theorem dX9_throughTo_201 : decode cX9_throughTo 201 = .ok (.iload 5, 2) := dk_21 5 (dk_at dksX9_throughTo_8 13 rfl rfl)
theorem dX9_throughTo_203 : decode cX9_throughTo 203 = .ok (.imul, 1) := dk_104 (dk_at dksX9_throughTo_8 15 rfl rfl)
theorem dX9_throughTo_204 : decode cX9_throughTo 204 = .ok (.if_icmp .ge 46, 3) := dk_162 0 46 (dk_at dksX9_throughTo_8 16 rfl rfl)
theorem dX9_throughTo_207 : decode cX9_throughTo 207 = .ok (.aload_n 0, 1) := dk_42 (dk_at dksX9_throughTo_8 19 rfl rfl)
theorem dX9_throughTo_208 : decode cX9_throughTo 208 = .ok (.getfield 36, 3) := dk_180 0 36 (dk_at dksX9_throughTo_8 20 rfl rfl)
theorem dX9_throughTo_211 : decode cX9_throughTo 211 = .ok (.iload 7, 2) := dk_21 7 (dk_at dksX9_throughTo_9 0 rfl rfl)
theorem dX9_throughTo_213 : decode cX9_throughTo 213 = .ok (.aload_n 0, 1) := dk_42 (dk_at dksX9_throughTo_9 2 rfl rfl)
theorem dX9_throughTo_214 : decode cX9_throughTo 214 = .ok (.getfield 36, 3) := dk_180 0 36 (dk_at dksX9_throughTo_9 3 rfl rfl)
theorem dX9_throughTo_217 : decode cX9_throughTo 217 = .ok (.iload 7, 2) := dk_21 7 (dk_at dksX9_throughTo_9 6 rfl rfl)
theorem dX9_throughTo_219 : decode cX9_throughTo 219 = .ok (.iaload, 1) := dk_46 (dk_at dksX9_throughTo_9 8 rfl rfl)
theorem dX9_throughTo_220 : decode cX9_throughTo 220 = .ok (.aload_n 0, 1) := dk_42 (dk_at dksX9_throughTo_9 9 rfl rfl)
theorem dX9_throughTo_221 : decode cX9_throughTo 221 = .ok (.getfield 39, 3) := dk_180 0 39 (dk_at dksX9_throughTo_9 10 rfl rfl)
theorem dX9_throughTo_224 : decode cX9_throughTo 224 = .ok (.iload 8, 2) := dk_21 8 (dk_at dksX9_throughTo_9 13 rfl rfl)
theorem dX9_throughTo_226 : decode cX9_throughTo 226 = .ok (.iaload, 1) := dk_46 (dk_at dksX9_throughTo_9 15 rfl rfl)
theorem dX9_throughTo_227 : decode cX9_throughTo 227 = .ok (.bipush 100, 2) := dk_16 100 (dk_at dksX9_throughTo_9 16 rfl rfl)
theorem dX9_throughTo_229 : decode cX9_throughTo 229 = .ok (.iload 5, 2) := dk_21 5 (dk_at dksX9_throughTo_9 18 rfl rfl)
theorem dX9_throughTo_231 : decode cX9_throughTo 231 = .ok (.iload 7, 2) := dk_21 7 (dk_at dksX9_throughTo_9 20 rfl rfl)
theorem dX9_throughTo_233 : decode cX9_throughTo 233 = .ok (.iload 8, 2) := dk_21 8 (dk_at dksX9_throughTo_9 22 rfl rfl)
theorem dX9_throughTo_235 : decode cX9_throughTo 235 = .ok (.invokestatic 461, 3) := dk_184 1 205 (dk_at dksX9_throughTo_10 0 rfl rfl)
theorem dX9_throughTo_238 : decode cX9_throughTo 238 = .ok (.imul, 1) := dk_104 (dk_at dksX9_throughTo_10 3 rfl rfl)
theorem dX9_throughTo_239 : decode cX9_throughTo 239 = .ok (.iadd, 1) := dk_96 (dk_at dksX9_throughTo_10 4 rfl rfl)
theorem dX9_throughTo_240 : decode cX9_throughTo 240 = .ok (.invokestatic 487, 3) := dk_184 1 231 (dk_at dksX9_throughTo_10 5 rfl rfl)
theorem dX9_throughTo_243 : decode cX9_throughTo 243 = .ok (.iastore, 1) := dk_79 (dk_at dksX9_throughTo_10 8 rfl rfl)
theorem dX9_throughTo_244 : decode cX9_throughTo 244 = .ok (.iinc 8 1, 3) := dk_132 8 1 (dk_at dksX9_throughTo_10 9 rfl rfl)
theorem dX9_throughTo_247 : decode cX9_throughTo 247 = .ok (.goto (-50), 3) := dk_167 255 206 (dk_at dksX9_throughTo_10 12 rfl rfl)
theorem dX9_throughTo_250 : decode cX9_throughTo 250 = .ok (.iinc 7 1, 3) := dk_132 7 1 (dk_at dksX9_throughTo_10 15 rfl rfl)
theorem dX9_throughTo_253 : decode cX9_throughTo 253 = .ok (.goto (-79), 3) := dk_167 255 177 (dk_at dksX9_throughTo_10 18 rfl rfl)
theorem dX9_throughTo_256 : decode cX9_throughTo 256 = .ok (.iinc 5 (-1), 3) := dk_132 5 255 (dk_at dksX9_throughTo_10 21 rfl rfl)
theorem dX9_throughTo_259 : decode cX9_throughTo 259 = .ok (.goto (-230), 3) := dk_167 255 26 (dk_at dksX9_throughTo_11 0 rfl rfl)
theorem dX9_throughTo_262 : decode cX9_throughTo 262 = .ok (.ldc_w 555, 3) := dk_19 2 43 (dk_at dksX9_throughTo_11 3 rfl rfl)
theorem dX9_throughTo_265 : decode cX9_throughTo 265 = .ok (.istore 5, 2) := dk_54 5 (dk_at dksX9_throughTo_11 6 rfl rfl)
theorem dX9_throughTo_267 : decode cX9_throughTo 267 = .ok (.iconst 0, 1) := dk_3 (dk_at dksX9_throughTo_11 8 rfl rfl)
theorem dX9_throughTo_268 : decode cX9_throughTo 268 = .ok (.istore 6, 2) := dk_54 6 (dk_at dksX9_throughTo_11 9 rfl rfl)
theorem dX9_throughTo_270 : decode cX9_throughTo 270 = .ok (.iload 6, 2) := dk_21 6 (dk_at dksX9_throughTo_11 11 rfl rfl)
theorem dX9_throughTo_272 : decode cX9_throughTo 272 = .ok (.bipush 8, 2) := dk_16 8 (dk_at dksX9_throughTo_11 13 rfl rfl)
theorem dX9_throughTo_274 : decode cX9_throughTo 274 = .ok (.iload 4, 2) := dk_21 4 (dk_at dksX9_throughTo_11 15 rfl rfl)
theorem dX9_throughTo_276 : decode cX9_throughTo 276 = .ok (.imul, 1) := dk_104 (dk_at dksX9_throughTo_11 17 rfl rfl)
theorem dX9_throughTo_277 : decode cX9_throughTo 277 = .ok (.if_icmp .ge 23, 3) := dk_162 0 23 (dk_at dksX9_throughTo_11 18 rfl rfl)
theorem dX9_throughTo_280 : decode cX9_throughTo 280 = .ok (.iload 5, 2) := dk_21 5 (dk_at dksX9_throughTo_11 21 rfl rfl)
theorem dX9_throughTo_282 : decode cX9_throughTo 282 = .ok (.aload_n 0, 1) := dk_42 (dk_at dksX9_throughTo_11 23 rfl rfl)
theorem dX9_throughTo_283 : decode cX9_throughTo 283 = .ok (.getfield 36, 3) := dk_180 0 36 (dk_at dksX9_throughTo_12 0 rfl rfl)
theorem dX9_throughTo_286 : decode cX9_throughTo 286 = .ok (.iload 6, 2) := dk_21 6 (dk_at dksX9_throughTo_12 3 rfl rfl)
theorem dX9_throughTo_288 : decode cX9_throughTo 288 = .ok (.iaload, 1) := dk_46 (dk_at dksX9_throughTo_12 5 rfl rfl)
theorem dX9_throughTo_289 : decode cX9_throughTo 289 = .ok (.invokestatic 487, 3) := dk_184 1 231 (dk_at dksX9_throughTo_12 6 rfl rfl)
theorem dX9_throughTo_292 : decode cX9_throughTo 292 = .ok (.istore 5, 2) := dk_54 5 (dk_at dksX9_throughTo_12 9 rfl rfl)
theorem dX9_throughTo_294 : decode cX9_throughTo 294 = .ok (.iinc 6 1, 3) := dk_132 6 1 (dk_at dksX9_throughTo_12 11 rfl rfl)
theorem dX9_throughTo_297 : decode cX9_throughTo 297 = .ok (.goto (-27), 3) := dk_167 255 229 (dk_at dksX9_throughTo_12 14 rfl rfl)
theorem dX9_throughTo_300 : decode cX9_throughTo 300 = .ok (.iload_n 2, 1) := dk_28 (dk_at dksX9_throughTo_12 17 rfl rfl)
theorem dX9_throughTo_301 : decode cX9_throughTo 301 = .ok (.ifCond .le 8, 3) := dk_158 0 8 (dk_at dksX9_throughTo_12 18 rfl rfl)
theorem dX9_throughTo_304 : decode cX9_throughTo 304 = .ok (.iload 5, 2) := dk_21 5 (dk_at dksX9_throughTo_12 21 rfl rfl)
theorem dX9_throughTo_306 : decode cX9_throughTo 306 = .ok (.goto 8, 3) := dk_167 0 8 (dk_at dksX9_throughTo_13 0 rfl rfl)
theorem dX9_throughTo_309 : decode cX9_throughTo 309 = .ok (.iload 5, 2) := dk_21 5 (dk_at dksX9_throughTo_13 3 rfl rfl)
theorem dX9_throughTo_311 : decode cX9_throughTo 311 = .ok (.bipush 100, 2) := dk_16 100 (dk_at dksX9_throughTo_13 5 rfl rfl)
theorem dX9_throughTo_313 : decode cX9_throughTo 313 = .ok (.iadd, 1) := dk_96 (dk_at dksX9_throughTo_13 7 rfl rfl)
theorem dX9_throughTo_314 : decode cX9_throughTo 314 = .ok (.ireturn, 1) := dk_172 (dk_at dksX9_throughTo_13 8 rfl rfl)
abbrev cX9_entry : ByteArray := prog_20_method_96_code
def yX9_entry : MethodName := ⟨RX9, "entry", "(IIZ)I"⟩
def dkwX9_entry_5 : List UInt8 := [180, 0, 17, 27, 28, 6, 184, 1, 169, 46, 4, 96, 104, 184, 1, 231, 167, 0, 5, 21, 5, 172]
abbrev dktX9_entry_5 : List UInt8 := dkwX9_entry_5 ++ []
def dkwX9_entry_4 : List UInt8 := [164, 0, 8, 21, 4, 167, 0, 4, 4, 104, 4, 96, 54, 5, 29, 153, 0, 27, 21, 5, 16, 100, 42]
abbrev dktX9_entry_4 : List UInt8 := dkwX9_entry_4 ++ dktX9_entry_5
def dkwX9_entry_3 : List UInt8 := [184, 1, 169, 46, 46, 42, 180, 0, 17, 27, 28, 7, 184, 1, 169, 46, 100, 54, 4, 16, 100, 21, 4, 4]
abbrev dktX9_entry_3 : List UInt8 := dkwX9_entry_3 ++ dktX9_entry_4
def dkwX9_entry_2 : List UInt8 := [17, 7, 208, 167, 0, 6, 17, 7, 209, 172, 42, 180, 1, 161, 180, 1, 85, 42, 180, 0, 17, 27, 28, 3]
abbrev dktX9_entry_2 : List UInt8 := dkwX9_entry_2 ++ dktX9_entry_3
def dkwX9_entry_1 : List UInt8 := [16, 101, 172, 42, 180, 0, 17, 27, 28, 16, 6, 184, 1, 169, 46, 4, 160, 0, 17, 29, 153, 0, 9]
abbrev dktX9_entry_1 : List UInt8 := dkwX9_entry_1 ++ dktX9_entry_2
def dkwX9_entry_0 : List UInt8 := [42, 180, 0, 17, 27, 28, 8, 184, 1, 169, 46, 4, 160, 0, 15, 29, 153, 0, 8, 16, 100, 167, 0, 5]
abbrev dktX9_entry_0 : List UInt8 := dkwX9_entry_0 ++ dktX9_entry_1
theorem dksX9_entry_0 : cX9_entry.data.toList.drop 0 = dktX9_entry_0 := by decide +kernel
theorem dksX9_entry_1 : cX9_entry.data.toList.drop 24 = dktX9_entry_1 := dk_seg dksX9_entry_0 24 rfl rfl
theorem dksX9_entry_2 : cX9_entry.data.toList.drop 47 = dktX9_entry_2 := dk_seg dksX9_entry_1 23 rfl rfl
theorem dksX9_entry_3 : cX9_entry.data.toList.drop 71 = dktX9_entry_3 := dk_seg dksX9_entry_2 24 rfl rfl
theorem dksX9_entry_4 : cX9_entry.data.toList.drop 95 = dktX9_entry_4 := dk_seg dksX9_entry_3 24 rfl rfl
theorem dksX9_entry_5 : cX9_entry.data.toList.drop 118 = dktX9_entry_5 := dk_seg dksX9_entry_4 23 rfl rfl
theorem dX9_entry_0 : decode cX9_entry 0 = .ok (.aload_n 0, 1) := dk_42 (dk_at dksX9_entry_0 0 rfl rfl)
theorem dX9_entry_1 : decode cX9_entry 1 = .ok (.getfield 17, 3) := dk_180 0 17 (dk_at dksX9_entry_0 1 rfl rfl)
theorem dX9_entry_4 : decode cX9_entry 4 = .ok (.iload_n 1, 1) := dk_27 (dk_at dksX9_entry_0 4 rfl rfl)
theorem dX9_entry_5 : decode cX9_entry 5 = .ok (.iload_n 2, 1) := dk_28 (dk_at dksX9_entry_0 5 rfl rfl)
theorem dX9_entry_6 : decode cX9_entry 6 = .ok (.iconst 5, 1) := dk_8 (dk_at dksX9_entry_0 6 rfl rfl)
theorem dX9_entry_7 : decode cX9_entry 7 = .ok (.invokestatic 425, 3) := dk_184 1 169 (dk_at dksX9_entry_0 7 rfl rfl)
theorem dX9_entry_10 : decode cX9_entry 10 = .ok (.iaload, 1) := dk_46 (dk_at dksX9_entry_0 10 rfl rfl)
theorem dX9_entry_11 : decode cX9_entry 11 = .ok (.iconst 1, 1) := dk_4 (dk_at dksX9_entry_0 11 rfl rfl)
theorem dX9_entry_12 : decode cX9_entry 12 = .ok (.if_icmp .ne 15, 3) := dk_160 0 15 (dk_at dksX9_entry_0 12 rfl rfl)
theorem dX9_entry_15 : decode cX9_entry 15 = .ok (.iload_n 3, 1) := dk_29 (dk_at dksX9_entry_0 15 rfl rfl)
theorem dX9_entry_16 : decode cX9_entry 16 = .ok (.ifCond .eq 8, 3) := dk_153 0 8 (dk_at dksX9_entry_0 16 rfl rfl)
theorem dX9_entry_19 : decode cX9_entry 19 = .ok (.bipush 100, 2) := dk_16 100 (dk_at dksX9_entry_0 19 rfl rfl)
theorem dX9_entry_21 : decode cX9_entry 21 = .ok (.goto 5, 3) := dk_167 0 5 (dk_at dksX9_entry_0 21 rfl rfl)
theorem dX9_entry_24 : decode cX9_entry 24 = .ok (.bipush 101, 2) := dk_16 101 (dk_at dksX9_entry_1 0 rfl rfl)
theorem dX9_entry_26 : decode cX9_entry 26 = .ok (.ireturn, 1) := dk_172 (dk_at dksX9_entry_1 2 rfl rfl)
theorem dX9_entry_27 : decode cX9_entry 27 = .ok (.aload_n 0, 1) := dk_42 (dk_at dksX9_entry_1 3 rfl rfl)
theorem dX9_entry_28 : decode cX9_entry 28 = .ok (.getfield 17, 3) := dk_180 0 17 (dk_at dksX9_entry_1 4 rfl rfl)
theorem dX9_entry_31 : decode cX9_entry 31 = .ok (.iload_n 1, 1) := dk_27 (dk_at dksX9_entry_1 7 rfl rfl)
theorem dX9_entry_32 : decode cX9_entry 32 = .ok (.iload_n 2, 1) := dk_28 (dk_at dksX9_entry_1 8 rfl rfl)
theorem dX9_entry_33 : decode cX9_entry 33 = .ok (.bipush 6, 2) := dk_16 6 (dk_at dksX9_entry_1 9 rfl rfl)
theorem dX9_entry_35 : decode cX9_entry 35 = .ok (.invokestatic 425, 3) := dk_184 1 169 (dk_at dksX9_entry_1 11 rfl rfl)
theorem dX9_entry_38 : decode cX9_entry 38 = .ok (.iaload, 1) := dk_46 (dk_at dksX9_entry_1 14 rfl rfl)
theorem dX9_entry_39 : decode cX9_entry 39 = .ok (.iconst 1, 1) := dk_4 (dk_at dksX9_entry_1 15 rfl rfl)
theorem dX9_entry_40 : decode cX9_entry 40 = .ok (.if_icmp .ne 17, 3) := dk_160 0 17 (dk_at dksX9_entry_1 16 rfl rfl)
theorem dX9_entry_43 : decode cX9_entry 43 = .ok (.iload_n 3, 1) := dk_29 (dk_at dksX9_entry_1 19 rfl rfl)
theorem dX9_entry_44 : decode cX9_entry 44 = .ok (.ifCond .eq 9, 3) := dk_153 0 9 (dk_at dksX9_entry_1 20 rfl rfl)
theorem dX9_entry_47 : decode cX9_entry 47 = .ok (.sipush 2000, 3) := dk_17 7 208 (dk_at dksX9_entry_2 0 rfl rfl)
theorem dX9_entry_50 : decode cX9_entry 50 = .ok (.goto 6, 3) := dk_167 0 6 (dk_at dksX9_entry_2 3 rfl rfl)
theorem dX9_entry_53 : decode cX9_entry 53 = .ok (.sipush 2001, 3) := dk_17 7 209 (dk_at dksX9_entry_2 6 rfl rfl)
theorem dX9_entry_56 : decode cX9_entry 56 = .ok (.ireturn, 1) := dk_172 (dk_at dksX9_entry_2 9 rfl rfl)
theorem dX9_entry_57 : decode cX9_entry 57 = .ok (.aload_n 0, 1) := dk_42 (dk_at dksX9_entry_2 10 rfl rfl)
theorem dX9_entry_58 : decode cX9_entry 58 = .ok (.getfield 417, 3) := dk_180 1 161 (dk_at dksX9_entry_2 11 rfl rfl)
theorem dX9_entry_61 : decode cX9_entry 61 = .ok (.getfield 341, 3) := dk_180 1 85 (dk_at dksX9_entry_2 14 rfl rfl)
theorem dX9_entry_64 : decode cX9_entry 64 = .ok (.aload_n 0, 1) := dk_42 (dk_at dksX9_entry_2 17 rfl rfl)
theorem dX9_entry_65 : decode cX9_entry 65 = .ok (.getfield 17, 3) := dk_180 0 17 (dk_at dksX9_entry_2 18 rfl rfl)
theorem dX9_entry_68 : decode cX9_entry 68 = .ok (.iload_n 1, 1) := dk_27 (dk_at dksX9_entry_2 21 rfl rfl)
theorem dX9_entry_69 : decode cX9_entry 69 = .ok (.iload_n 2, 1) := dk_28 (dk_at dksX9_entry_2 22 rfl rfl)
theorem dX9_entry_70 : decode cX9_entry 70 = .ok (.iconst 0, 1) := dk_3 (dk_at dksX9_entry_2 23 rfl rfl)
theorem dX9_entry_71 : decode cX9_entry 71 = .ok (.invokestatic 425, 3) := dk_184 1 169 (dk_at dksX9_entry_3 0 rfl rfl)
theorem dX9_entry_74 : decode cX9_entry 74 = .ok (.iaload, 1) := dk_46 (dk_at dksX9_entry_3 3 rfl rfl)
theorem dX9_entry_75 : decode cX9_entry 75 = .ok (.iaload, 1) := dk_46 (dk_at dksX9_entry_3 4 rfl rfl)
theorem dX9_entry_76 : decode cX9_entry 76 = .ok (.aload_n 0, 1) := dk_42 (dk_at dksX9_entry_3 5 rfl rfl)
theorem dX9_entry_77 : decode cX9_entry 77 = .ok (.getfield 17, 3) := dk_180 0 17 (dk_at dksX9_entry_3 6 rfl rfl)
theorem dX9_entry_80 : decode cX9_entry 80 = .ok (.iload_n 1, 1) := dk_27 (dk_at dksX9_entry_3 9 rfl rfl)
theorem dX9_entry_81 : decode cX9_entry 81 = .ok (.iload_n 2, 1) := dk_28 (dk_at dksX9_entry_3 10 rfl rfl)
theorem dX9_entry_82 : decode cX9_entry 82 = .ok (.iconst 4, 1) := dk_7 (dk_at dksX9_entry_3 11 rfl rfl)
theorem dX9_entry_83 : decode cX9_entry 83 = .ok (.invokestatic 425, 3) := dk_184 1 169 (dk_at dksX9_entry_3 12 rfl rfl)
theorem dX9_entry_86 : decode cX9_entry 86 = .ok (.iaload, 1) := dk_46 (dk_at dksX9_entry_3 15 rfl rfl)
theorem dX9_entry_87 : decode cX9_entry 87 = .ok (.isub, 1) := dk_100 (dk_at dksX9_entry_3 16 rfl rfl)
theorem dX9_entry_88 : decode cX9_entry 88 = .ok (.istore 4, 2) := dk_54 4 (dk_at dksX9_entry_3 17 rfl rfl)
theorem dX9_entry_90 : decode cX9_entry 90 = .ok (.bipush 100, 2) := dk_16 100 (dk_at dksX9_entry_3 19 rfl rfl)
theorem dX9_entry_92 : decode cX9_entry 92 = .ok (.iload 4, 2) := dk_21 4 (dk_at dksX9_entry_3 21 rfl rfl)
theorem dX9_entry_94 : decode cX9_entry 94 = .ok (.iconst 1, 1) := dk_4 (dk_at dksX9_entry_3 23 rfl rfl)
theorem dX9_entry_95 : decode cX9_entry 95 = .ok (.if_icmp .le 8, 3) := dk_164 0 8 (dk_at dksX9_entry_4 0 rfl rfl)
theorem dX9_entry_98 : decode cX9_entry 98 = .ok (.iload 4, 2) := dk_21 4 (dk_at dksX9_entry_4 3 rfl rfl)
theorem dX9_entry_100 : decode cX9_entry 100 = .ok (.goto 4, 3) := dk_167 0 4 (dk_at dksX9_entry_4 5 rfl rfl)
theorem dX9_entry_103 : decode cX9_entry 103 = .ok (.iconst 1, 1) := dk_4 (dk_at dksX9_entry_4 8 rfl rfl)
theorem dX9_entry_104 : decode cX9_entry 104 = .ok (.imul, 1) := dk_104 (dk_at dksX9_entry_4 9 rfl rfl)
theorem dX9_entry_105 : decode cX9_entry 105 = .ok (.iconst 1, 1) := dk_4 (dk_at dksX9_entry_4 10 rfl rfl)
theorem dX9_entry_106 : decode cX9_entry 106 = .ok (.iadd, 1) := dk_96 (dk_at dksX9_entry_4 11 rfl rfl)
theorem dX9_entry_107 : decode cX9_entry 107 = .ok (.istore 5, 2) := dk_54 5 (dk_at dksX9_entry_4 12 rfl rfl)
theorem dX9_entry_109 : decode cX9_entry 109 = .ok (.iload_n 3, 1) := dk_29 (dk_at dksX9_entry_4 14 rfl rfl)
theorem dX9_entry_110 : decode cX9_entry 110 = .ok (.ifCond .eq 27, 3) := dk_153 0 27 (dk_at dksX9_entry_4 15 rfl rfl)
theorem dX9_entry_113 : decode cX9_entry 113 = .ok (.iload 5, 2) := dk_21 5 (dk_at dksX9_entry_4 18 rfl rfl)
theorem dX9_entry_115 : decode cX9_entry 115 = .ok (.bipush 100, 2) := dk_16 100 (dk_at dksX9_entry_4 20 rfl rfl)
theorem dX9_entry_117 : decode cX9_entry 117 = .ok (.aload_n 0, 1) := dk_42 (dk_at dksX9_entry_4 22 rfl rfl)
theorem dX9_entry_118 : decode cX9_entry 118 = .ok (.getfield 17, 3) := dk_180 0 17 (dk_at dksX9_entry_5 0 rfl rfl)
theorem dX9_entry_121 : decode cX9_entry 121 = .ok (.iload_n 1, 1) := dk_27 (dk_at dksX9_entry_5 3 rfl rfl)
theorem dX9_entry_122 : decode cX9_entry 122 = .ok (.iload_n 2, 1) := dk_28 (dk_at dksX9_entry_5 4 rfl rfl)
theorem dX9_entry_123 : decode cX9_entry 123 = .ok (.iconst 3, 1) := dk_6 (dk_at dksX9_entry_5 5 rfl rfl)
theorem dX9_entry_124 : decode cX9_entry 124 = .ok (.invokestatic 425, 3) := dk_184 1 169 (dk_at dksX9_entry_5 6 rfl rfl)
theorem dX9_entry_127 : decode cX9_entry 127 = .ok (.iaload, 1) := dk_46 (dk_at dksX9_entry_5 9 rfl rfl)
theorem dX9_entry_128 : decode cX9_entry 128 = .ok (.iconst 1, 1) := dk_4 (dk_at dksX9_entry_5 10 rfl rfl)
theorem dX9_entry_129 : decode cX9_entry 129 = .ok (.iadd, 1) := dk_96 (dk_at dksX9_entry_5 11 rfl rfl)
theorem dX9_entry_130 : decode cX9_entry 130 = .ok (.imul, 1) := dk_104 (dk_at dksX9_entry_5 12 rfl rfl)
theorem dX9_entry_131 : decode cX9_entry 131 = .ok (.invokestatic 487, 3) := dk_184 1 231 (dk_at dksX9_entry_5 13 rfl rfl)
theorem dX9_entry_134 : decode cX9_entry 134 = .ok (.goto 5, 3) := dk_167 0 5 (dk_at dksX9_entry_5 16 rfl rfl)
theorem dX9_entry_137 : decode cX9_entry 137 = .ok (.iload 5, 2) := dk_21 5 (dk_at dksX9_entry_5 19 rfl rfl)
theorem dX9_entry_139 : decode cX9_entry 139 = .ok (.ireturn, 1) := dk_172 (dk_at dksX9_entry_5 21 rfl rfl)
abbrev cX9_least : ByteArray := prog_20_method_67_code
def yX9_least : MethodName := ⟨RX9, "least", "(II)I"⟩
def dkwX9_least_0 : List UInt8 := [26, 27, 162, 0, 7, 26, 167, 0, 4, 27, 172]
abbrev dktX9_least_0 : List UInt8 := dkwX9_least_0 ++ []
theorem dksX9_least_0 : cX9_least.data.toList.drop 0 = dktX9_least_0 := by decide +kernel
theorem dX9_least_0 : decode cX9_least 0 = .ok (.iload_n 0, 1) := dk_26 (dk_at dksX9_least_0 0 rfl rfl)
theorem dX9_least_1 : decode cX9_least 1 = .ok (.iload_n 1, 1) := dk_27 (dk_at dksX9_least_0 1 rfl rfl)
theorem dX9_least_2 : decode cX9_least 2 = .ok (.if_icmp .ge 7, 3) := dk_162 0 7 (dk_at dksX9_least_0 2 rfl rfl)
theorem dX9_least_5 : decode cX9_least 5 = .ok (.iload_n 0, 1) := dk_26 (dk_at dksX9_least_0 5 rfl rfl)
theorem dX9_least_6 : decode cX9_least 6 = .ok (.goto 4, 3) := dk_167 0 4 (dk_at dksX9_least_0 6 rfl rfl)
theorem dX9_least_9 : decode cX9_least 9 = .ok (.iload_n 1, 1) := dk_27 (dk_at dksX9_least_0 9 rfl rfl)
theorem dX9_least_10 : decode cX9_least 10 = .ok (.ireturn, 1) := dk_172 (dk_at dksX9_least_0 10 rfl rfl)
abbrev cX9_inFront : ByteArray := prog_20_method_98_code
def yX9_inFront : MethodName := ⟨RX9, "inFront", "(II)I"⟩
def dkwX9_inFront_0 : List UInt8 := [27, 4, 96, 5, 27, 5, 26, 104, 108, 104, 96, 172]
abbrev dktX9_inFront_0 : List UInt8 := dkwX9_inFront_0 ++ []
theorem dksX9_inFront_0 : cX9_inFront.data.toList.drop 0 = dktX9_inFront_0 := by decide +kernel
theorem dX9_inFront_0 : decode cX9_inFront 0 = .ok (.iload_n 1, 1) := dk_27 (dk_at dksX9_inFront_0 0 rfl rfl)
theorem dX9_inFront_1 : decode cX9_inFront 1 = .ok (.iconst 1, 1) := dk_4 (dk_at dksX9_inFront_0 1 rfl rfl)
theorem dX9_inFront_2 : decode cX9_inFront 2 = .ok (.iadd, 1) := dk_96 (dk_at dksX9_inFront_0 2 rfl rfl)
theorem dX9_inFront_3 : decode cX9_inFront 3 = .ok (.iconst 2, 1) := dk_5 (dk_at dksX9_inFront_0 3 rfl rfl)
theorem dX9_inFront_4 : decode cX9_inFront 4 = .ok (.iload_n 1, 1) := dk_27 (dk_at dksX9_inFront_0 4 rfl rfl)
theorem dX9_inFront_5 : decode cX9_inFront 5 = .ok (.iconst 2, 1) := dk_5 (dk_at dksX9_inFront_0 5 rfl rfl)
theorem dX9_inFront_6 : decode cX9_inFront 6 = .ok (.iload_n 0, 1) := dk_26 (dk_at dksX9_inFront_0 6 rfl rfl)
theorem dX9_inFront_7 : decode cX9_inFront 7 = .ok (.imul, 1) := dk_104 (dk_at dksX9_inFront_0 7 rfl rfl)
theorem dX9_inFront_8 : decode cX9_inFront 8 = .ok (.idiv, 1) := dk_108 (dk_at dksX9_inFront_0 8 rfl rfl)
theorem dX9_inFront_9 : decode cX9_inFront 9 = .ok (.imul, 1) := dk_104 (dk_at dksX9_inFront_0 9 rfl rfl)
theorem dX9_inFront_10 : decode cX9_inFront 10 = .ok (.iadd, 1) := dk_96 (dk_at dksX9_inFront_0 10 rfl rfl)
theorem dX9_inFront_11 : decode cX9_inFront 11 = .ok (.ireturn, 1) := dk_172 (dk_at dksX9_inFront_0 11 rfl rfl)
abbrev cX9_breaks : ByteArray := prog_20_method_100_code
def yX9_breaks : MethodName := ⟨RX9, "breaks", "(II)I"⟩
def dkwX9_breaks_1 : List UInt8 := [182, 0, 73, 167, 0, 8, 42, 4, 182, 0, 69, 172]
abbrev dktX9_breaks_1 : List UInt8 := dkwX9_breaks_1 ++ []
def dkwX9_breaks_0 : List UInt8 := [42, 3, 181, 0, 63, 42, 27, 28, 182, 2, 28, 153, 0, 19, 42, 42, 27, 28, 182, 2, 50, 16, 100, 112]
abbrev dktX9_breaks_0 : List UInt8 := dkwX9_breaks_0 ++ dktX9_breaks_1
theorem dksX9_breaks_0 : cX9_breaks.data.toList.drop 0 = dktX9_breaks_0 := by decide +kernel
theorem dksX9_breaks_1 : cX9_breaks.data.toList.drop 24 = dktX9_breaks_1 := dk_seg dksX9_breaks_0 24 rfl rfl
theorem dX9_breaks_0 : decode cX9_breaks 0 = .ok (.aload_n 0, 1) := dk_42 (dk_at dksX9_breaks_0 0 rfl rfl)
theorem dX9_breaks_1 : decode cX9_breaks 1 = .ok (.iconst 0, 1) := dk_3 (dk_at dksX9_breaks_0 1 rfl rfl)
theorem dX9_breaks_2 : decode cX9_breaks 2 = .ok (.putfield 63, 3) := dk_181 0 63 (dk_at dksX9_breaks_0 2 rfl rfl)
theorem dX9_breaks_5 : decode cX9_breaks 5 = .ok (.aload_n 0, 1) := dk_42 (dk_at dksX9_breaks_0 5 rfl rfl)
theorem dX9_breaks_6 : decode cX9_breaks 6 = .ok (.iload_n 1, 1) := dk_27 (dk_at dksX9_breaks_0 6 rfl rfl)
theorem dX9_breaks_7 : decode cX9_breaks 7 = .ok (.iload_n 2, 1) := dk_28 (dk_at dksX9_breaks_0 7 rfl rfl)
theorem dX9_breaks_8 : decode cX9_breaks 8 = .ok (.invokevirtual 540, 3) := dk_182 2 28 (dk_at dksX9_breaks_0 8 rfl rfl)
theorem dX9_breaks_11 : decode cX9_breaks 11 = .ok (.ifCond .eq 19, 3) := dk_153 0 19 (dk_at dksX9_breaks_0 11 rfl rfl)
theorem dX9_breaks_14 : decode cX9_breaks 14 = .ok (.aload_n 0, 1) := dk_42 (dk_at dksX9_breaks_0 14 rfl rfl)
theorem dX9_breaks_15 : decode cX9_breaks 15 = .ok (.aload_n 0, 1) := dk_42 (dk_at dksX9_breaks_0 15 rfl rfl)
theorem dX9_breaks_16 : decode cX9_breaks 16 = .ok (.iload_n 1, 1) := dk_27 (dk_at dksX9_breaks_0 16 rfl rfl)
theorem dX9_breaks_17 : decode cX9_breaks 17 = .ok (.iload_n 2, 1) := dk_28 (dk_at dksX9_breaks_0 17 rfl rfl)
theorem dX9_breaks_18 : decode cX9_breaks 18 = .ok (.invokevirtual 562, 3) := dk_182 2 50 (dk_at dksX9_breaks_0 18 rfl rfl)
theorem dX9_breaks_21 : decode cX9_breaks 21 = .ok (.bipush 100, 2) := dk_16 100 (dk_at dksX9_breaks_0 21 rfl rfl)
theorem dX9_breaks_23 : decode cX9_breaks 23 = .ok (.irem, 1) := dk_112 (dk_at dksX9_breaks_0 23 rfl rfl)
theorem dX9_breaks_24 : decode cX9_breaks 24 = .ok (.invokevirtual 73, 3) := dk_182 0 73 (dk_at dksX9_breaks_1 0 rfl rfl)
theorem dX9_breaks_27 : decode cX9_breaks 27 = .ok (.goto 8, 3) := dk_167 0 8 (dk_at dksX9_breaks_1 3 rfl rfl)
theorem dX9_breaks_30 : decode cX9_breaks 30 = .ok (.aload_n 0, 1) := dk_42 (dk_at dksX9_breaks_1 6 rfl rfl)
theorem dX9_breaks_31 : decode cX9_breaks 31 = .ok (.iconst 1, 1) := dk_4 (dk_at dksX9_breaks_1 7 rfl rfl)
theorem dX9_breaks_32 : decode cX9_breaks 32 = .ok (.invokevirtual 69, 3) := dk_182 0 69 (dk_at dksX9_breaks_1 8 rfl rfl)
theorem dX9_breaks_35 : decode cX9_breaks 35 = .ok (.ireturn, 1) := dk_172 (dk_at dksX9_breaks_1 11 rfl rfl)
abbrev cX9_round : ByteArray := prog_20_method_101_code
def yX9_round : MethodName := ⟨RX9, "round", "(II)I"⟩
def dkwX9_round_1 : List UInt8 := [27, 28, 184, 1, 208, 182, 0, 73, 167, 0, 8, 42, 4, 182, 0, 69, 172]
abbrev dktX9_round_1 : List UInt8 := dkwX9_round_1 ++ []
def dkwX9_round_0 : List UInt8 := [42, 3, 181, 0, 63, 42, 27, 28, 182, 2, 25, 153, 0, 24, 28, 4, 164, 0, 19, 42, 42, 180, 0, 17]
abbrev dktX9_round_0 : List UInt8 := dkwX9_round_0 ++ dktX9_round_1
theorem dksX9_round_0 : cX9_round.data.toList.drop 0 = dktX9_round_0 := by decide +kernel
theorem dksX9_round_1 : cX9_round.data.toList.drop 24 = dktX9_round_1 := dk_seg dksX9_round_0 24 rfl rfl
theorem dX9_round_0 : decode cX9_round 0 = .ok (.aload_n 0, 1) := dk_42 (dk_at dksX9_round_0 0 rfl rfl)
theorem dX9_round_1 : decode cX9_round 1 = .ok (.iconst 0, 1) := dk_3 (dk_at dksX9_round_0 1 rfl rfl)
theorem dX9_round_2 : decode cX9_round 2 = .ok (.putfield 63, 3) := dk_181 0 63 (dk_at dksX9_round_0 2 rfl rfl)
theorem dX9_round_5 : decode cX9_round 5 = .ok (.aload_n 0, 1) := dk_42 (dk_at dksX9_round_0 5 rfl rfl)
theorem dX9_round_6 : decode cX9_round 6 = .ok (.iload_n 1, 1) := dk_27 (dk_at dksX9_round_0 6 rfl rfl)
theorem dX9_round_7 : decode cX9_round 7 = .ok (.iload_n 2, 1) := dk_28 (dk_at dksX9_round_0 7 rfl rfl)
theorem dX9_round_8 : decode cX9_round 8 = .ok (.invokevirtual 537, 3) := dk_182 2 25 (dk_at dksX9_round_0 8 rfl rfl)
theorem dX9_round_11 : decode cX9_round 11 = .ok (.ifCond .eq 24, 3) := dk_153 0 24 (dk_at dksX9_round_0 11 rfl rfl)
theorem dX9_round_14 : decode cX9_round 14 = .ok (.iload_n 2, 1) := dk_28 (dk_at dksX9_round_0 14 rfl rfl)
theorem dX9_round_15 : decode cX9_round 15 = .ok (.iconst 1, 1) := dk_4 (dk_at dksX9_round_0 15 rfl rfl)
theorem dX9_round_16 : decode cX9_round 16 = .ok (.if_icmp .le 19, 3) := dk_164 0 19 (dk_at dksX9_round_0 16 rfl rfl)
theorem dX9_round_19 : decode cX9_round 19 = .ok (.aload_n 0, 1) := dk_42 (dk_at dksX9_round_0 19 rfl rfl)
theorem dX9_round_20 : decode cX9_round 20 = .ok (.aload_n 0, 1) := dk_42 (dk_at dksX9_round_0 20 rfl rfl)
theorem dX9_round_21 : decode cX9_round 21 = .ok (.getfield 17, 3) := dk_180 0 17 (dk_at dksX9_round_0 21 rfl rfl)
theorem dX9_round_24 : decode cX9_round 24 = .ok (.iload_n 1, 1) := dk_27 (dk_at dksX9_round_1 0 rfl rfl)
theorem dX9_round_25 : decode cX9_round 25 = .ok (.iload_n 2, 1) := dk_28 (dk_at dksX9_round_1 1 rfl rfl)
theorem dX9_round_26 : decode cX9_round 26 = .ok (.invokestatic 464, 3) := dk_184 1 208 (dk_at dksX9_round_1 2 rfl rfl)
theorem dX9_round_29 : decode cX9_round 29 = .ok (.invokevirtual 73, 3) := dk_182 0 73 (dk_at dksX9_round_1 5 rfl rfl)
theorem dX9_round_32 : decode cX9_round 32 = .ok (.goto 8, 3) := dk_167 0 8 (dk_at dksX9_round_1 8 rfl rfl)
theorem dX9_round_35 : decode cX9_round 35 = .ok (.aload_n 0, 1) := dk_42 (dk_at dksX9_round_1 11 rfl rfl)
theorem dX9_round_36 : decode cX9_round 36 = .ok (.iconst 1, 1) := dk_4 (dk_at dksX9_round_1 12 rfl rfl)
theorem dX9_round_37 : decode cX9_round 37 = .ok (.invokevirtual 69, 3) := dk_182 0 69 (dk_at dksX9_round_1 13 rfl rfl)
theorem dX9_round_40 : decode cX9_round 40 = .ok (.ireturn, 1) := dk_172 (dk_at dksX9_round_1 16 rfl rfl)
abbrev cX9_in : ByteArray := prog_20_method_103_code
def yX9_in : MethodName := ⟨RX9, "in", "(III)I"⟩
def dkwX9_in_7 : List UInt8 := [172, 42, 42, 42, 180, 0, 21, 27, 182, 2, 22, 153, 0, 7, 4, 167, 0, 4, 3, 182, 0, 73, 172]
abbrev dktX9_in_7 : List UInt8 := dkwX9_in_7 ++ []
def dkwX9_in_6 : List UInt8 := [182, 0, 73, 172, 42, 42, 180, 0, 21, 16, 8, 27, 96, 46, 182, 0, 73, 172, 42, 21, 5, 182, 0, 73]
abbrev dktX9_in_6 : List UInt8 := dkwX9_in_6 ++ dktX9_in_7
def dkwX9_in_5 : List UInt8 := [42, 42, 180, 0, 21, 3, 27, 96, 46, 182, 0, 73, 172, 42, 42, 180, 0, 21, 7, 27, 96, 46]
abbrev dktX9_in_5 : List UInt8 := dkwX9_in_5 ++ dktX9_in_6
def dkwX9_in_4 : List UInt8 := [170, 0, 0, 0, 0, 0, 0, 79, 0, 0, 0, 0, 0, 0, 0, 3, 0, 0, 0, 32, 0, 0, 0, 45, 0, 0, 0, 58, 0, 0, 0, 72]
abbrev dktX9_in_4 : List UInt8 := dkwX9_in_4 ++ dktX9_in_5
def dkwX9_in_3 : List UInt8 := [21, 5, 42, 180, 0, 21, 27, 21, 6, 8, 184, 1, 169, 46, 96, 54, 5, 132, 6, 1, 167, 255, 223, 29]
abbrev dktX9_in_3 : List UInt8 := dkwX9_in_3 ++ dktX9_in_4
def dkwX9_in_2 : List UInt8 := [42, 28, 182, 2, 57, 3, 54, 5, 4, 54, 6, 21, 6, 42, 180, 0, 21, 3, 27, 96, 46, 163, 0, 26]
abbrev dktX9_in_2 : List UInt8 := dkwX9_in_2 ++ dktX9_in_3
def dkwX9_in_1 : List UInt8 := [167, 0, 4, 3, 28, 16, 60, 182, 2, 53, 54, 4, 21, 4, 158, 0, 10, 42, 21, 4, 182, 0, 69, 172]
abbrev dktX9_in_1 : List UInt8 := dkwX9_in_1 ++ dktX9_in_2
def dkwX9_in_0 : List UInt8 := [42, 3, 181, 0, 63, 42, 42, 27, 182, 2, 6, 153, 0, 16, 29, 3, 7, 184, 0, 141, 153, 0, 7, 4]
abbrev dktX9_in_0 : List UInt8 := dkwX9_in_0 ++ dktX9_in_1
theorem dksX9_in_0 : cX9_in.data.toList.drop 0 = dktX9_in_0 := by decide +kernel
theorem dksX9_in_1 : cX9_in.data.toList.drop 24 = dktX9_in_1 := dk_seg dksX9_in_0 24 rfl rfl
theorem dksX9_in_2 : cX9_in.data.toList.drop 48 = dktX9_in_2 := dk_seg dksX9_in_1 24 rfl rfl
theorem dksX9_in_3 : cX9_in.data.toList.drop 72 = dktX9_in_3 := dk_seg dksX9_in_2 24 rfl rfl
theorem dksX9_in_4 : cX9_in.data.toList.drop 96 = dktX9_in_4 := dk_seg dksX9_in_3 24 rfl rfl
theorem dksX9_in_5 : cX9_in.data.toList.drop 128 = dktX9_in_5 := dk_seg dksX9_in_4 32 rfl rfl
theorem dksX9_in_6 : cX9_in.data.toList.drop 150 = dktX9_in_6 := dk_seg dksX9_in_5 22 rfl rfl
theorem dksX9_in_7 : cX9_in.data.toList.drop 174 = dktX9_in_7 := dk_seg dksX9_in_6 24 rfl rfl
theorem dX9_in_0 : decode cX9_in 0 = .ok (.aload_n 0, 1) := dk_42 (dk_at dksX9_in_0 0 rfl rfl)
theorem dX9_in_1 : decode cX9_in 1 = .ok (.iconst 0, 1) := dk_3 (dk_at dksX9_in_0 1 rfl rfl)
theorem dX9_in_2 : decode cX9_in 2 = .ok (.putfield 63, 3) := dk_181 0 63 (dk_at dksX9_in_0 2 rfl rfl)
theorem dX9_in_5 : decode cX9_in 5 = .ok (.aload_n 0, 1) := dk_42 (dk_at dksX9_in_0 5 rfl rfl)
theorem dX9_in_6 : decode cX9_in 6 = .ok (.aload_n 0, 1) := dk_42 (dk_at dksX9_in_0 6 rfl rfl)
theorem dX9_in_7 : decode cX9_in 7 = .ok (.iload_n 1, 1) := dk_27 (dk_at dksX9_in_0 7 rfl rfl)
theorem dX9_in_8 : decode cX9_in 8 = .ok (.invokevirtual 518, 3) := dk_182 2 6 (dk_at dksX9_in_0 8 rfl rfl)
theorem dX9_in_11 : decode cX9_in 11 = .ok (.ifCond .eq 16, 3) := dk_153 0 16 (dk_at dksX9_in_0 11 rfl rfl)
theorem dX9_in_14 : decode cX9_in 14 = .ok (.iload_n 3, 1) := dk_29 (dk_at dksX9_in_0 14 rfl rfl)
theorem dX9_in_15 : decode cX9_in 15 = .ok (.iconst 0, 1) := dk_3 (dk_at dksX9_in_0 15 rfl rfl)
theorem dX9_in_16 : decode cX9_in 16 = .ok (.iconst 4, 1) := dk_7 (dk_at dksX9_in_0 16 rfl rfl)
theorem dX9_in_17 : decode cX9_in 17 = .ok (.invokestatic 141, 3) := dk_184 0 141 (dk_at dksX9_in_0 17 rfl rfl)
theorem dX9_in_20 : decode cX9_in 20 = .ok (.ifCond .eq 7, 3) := dk_153 0 7 (dk_at dksX9_in_0 20 rfl rfl)
theorem dX9_in_23 : decode cX9_in 23 = .ok (.iconst 1, 1) := dk_4 (dk_at dksX9_in_0 23 rfl rfl)
theorem dX9_in_24 : decode cX9_in 24 = .ok (.goto 4, 3) := dk_167 0 4 (dk_at dksX9_in_1 0 rfl rfl)
theorem dX9_in_27 : decode cX9_in 27 = .ok (.iconst 0, 1) := dk_3 (dk_at dksX9_in_1 3 rfl rfl)
theorem dX9_in_28 : decode cX9_in 28 = .ok (.iload_n 2, 1) := dk_28 (dk_at dksX9_in_1 4 rfl rfl)
theorem dX9_in_29 : decode cX9_in 29 = .ok (.bipush 60, 2) := dk_16 60 (dk_at dksX9_in_1 5 rfl rfl)
theorem dX9_in_31 : decode cX9_in 31 = .ok (.invokevirtual 565, 3) := dk_182 2 53 (dk_at dksX9_in_1 7 rfl rfl)
theorem dX9_in_34 : decode cX9_in 34 = .ok (.istore 4, 2) := dk_54 4 (dk_at dksX9_in_1 10 rfl rfl)
theorem dX9_in_36 : decode cX9_in 36 = .ok (.iload 4, 2) := dk_21 4 (dk_at dksX9_in_1 12 rfl rfl)
theorem dX9_in_38 : decode cX9_in 38 = .ok (.ifCond .le 10, 3) := dk_158 0 10 (dk_at dksX9_in_1 14 rfl rfl)
theorem dX9_in_41 : decode cX9_in 41 = .ok (.aload_n 0, 1) := dk_42 (dk_at dksX9_in_1 17 rfl rfl)
theorem dX9_in_42 : decode cX9_in 42 = .ok (.iload 4, 2) := dk_21 4 (dk_at dksX9_in_1 18 rfl rfl)
theorem dX9_in_44 : decode cX9_in 44 = .ok (.invokevirtual 69, 3) := dk_182 0 69 (dk_at dksX9_in_1 20 rfl rfl)
theorem dX9_in_47 : decode cX9_in 47 = .ok (.ireturn, 1) := dk_172 (dk_at dksX9_in_1 23 rfl rfl)
theorem dX9_in_48 : decode cX9_in 48 = .ok (.aload_n 0, 1) := dk_42 (dk_at dksX9_in_2 0 rfl rfl)
theorem dX9_in_49 : decode cX9_in 49 = .ok (.iload_n 2, 1) := dk_28 (dk_at dksX9_in_2 1 rfl rfl)
theorem dX9_in_50 : decode cX9_in 50 = .ok (.invokevirtual 569, 3) := dk_182 2 57 (dk_at dksX9_in_2 2 rfl rfl)
theorem dX9_in_53 : decode cX9_in 53 = .ok (.iconst 0, 1) := dk_3 (dk_at dksX9_in_2 5 rfl rfl)
theorem dX9_in_54 : decode cX9_in 54 = .ok (.istore 5, 2) := dk_54 5 (dk_at dksX9_in_2 6 rfl rfl)
theorem dX9_in_56 : decode cX9_in 56 = .ok (.iconst 1, 1) := dk_4 (dk_at dksX9_in_2 8 rfl rfl)
theorem dX9_in_57 : decode cX9_in 57 = .ok (.istore 6, 2) := dk_54 6 (dk_at dksX9_in_2 9 rfl rfl)
theorem dX9_in_59 : decode cX9_in 59 = .ok (.iload 6, 2) := dk_21 6 (dk_at dksX9_in_2 11 rfl rfl)
theorem dX9_in_61 : decode cX9_in 61 = .ok (.aload_n 0, 1) := dk_42 (dk_at dksX9_in_2 13 rfl rfl)
theorem dX9_in_62 : decode cX9_in 62 = .ok (.getfield 21, 3) := dk_180 0 21 (dk_at dksX9_in_2 14 rfl rfl)
theorem dX9_in_65 : decode cX9_in 65 = .ok (.iconst 0, 1) := dk_3 (dk_at dksX9_in_2 17 rfl rfl)
theorem dX9_in_66 : decode cX9_in 66 = .ok (.iload_n 1, 1) := dk_27 (dk_at dksX9_in_2 18 rfl rfl)
theorem dX9_in_67 : decode cX9_in 67 = .ok (.iadd, 1) := dk_96 (dk_at dksX9_in_2 19 rfl rfl)
theorem dX9_in_68 : decode cX9_in 68 = .ok (.iaload, 1) := dk_46 (dk_at dksX9_in_2 20 rfl rfl)
theorem dX9_in_69 : decode cX9_in 69 = .ok (.if_icmp .gt 26, 3) := dk_163 0 26 (dk_at dksX9_in_2 21 rfl rfl)
theorem dX9_in_72 : decode cX9_in 72 = .ok (.iload 5, 2) := dk_21 5 (dk_at dksX9_in_3 0 rfl rfl)
theorem dX9_in_74 : decode cX9_in 74 = .ok (.aload_n 0, 1) := dk_42 (dk_at dksX9_in_3 2 rfl rfl)
theorem dX9_in_75 : decode cX9_in 75 = .ok (.getfield 21, 3) := dk_180 0 21 (dk_at dksX9_in_3 3 rfl rfl)
theorem dX9_in_78 : decode cX9_in 78 = .ok (.iload_n 1, 1) := dk_27 (dk_at dksX9_in_3 6 rfl rfl)
theorem dX9_in_79 : decode cX9_in 79 = .ok (.iload 6, 2) := dk_21 6 (dk_at dksX9_in_3 7 rfl rfl)
theorem dX9_in_81 : decode cX9_in 81 = .ok (.iconst 5, 1) := dk_8 (dk_at dksX9_in_3 9 rfl rfl)
theorem dX9_in_82 : decode cX9_in 82 = .ok (.invokestatic 425, 3) := dk_184 1 169 (dk_at dksX9_in_3 10 rfl rfl)
theorem dX9_in_85 : decode cX9_in 85 = .ok (.iaload, 1) := dk_46 (dk_at dksX9_in_3 13 rfl rfl)
theorem dX9_in_86 : decode cX9_in 86 = .ok (.iadd, 1) := dk_96 (dk_at dksX9_in_3 14 rfl rfl)
theorem dX9_in_87 : decode cX9_in 87 = .ok (.istore 5, 2) := dk_54 5 (dk_at dksX9_in_3 15 rfl rfl)
theorem dX9_in_89 : decode cX9_in 89 = .ok (.iinc 6 1, 3) := dk_132 6 1 (dk_at dksX9_in_3 17 rfl rfl)
theorem dX9_in_92 : decode cX9_in 92 = .ok (.goto (-33), 3) := dk_167 255 223 (dk_at dksX9_in_3 20 rfl rfl)
theorem dX9_in_95 : decode cX9_in 95 = .ok (.iload_n 3, 1) := dk_29 (dk_at dksX9_in_3 23 rfl rfl)
theorem dX9_in_96 : decode cX9_in 96 = .ok (.tableswitch 79 0 3 #[32, 45, 58, 72], 32) := by decide +kernel
theorem dX9_in_128 : decode cX9_in 128 = .ok (.aload_n 0, 1) := dk_42 (dk_at dksX9_in_5 0 rfl rfl)
theorem dX9_in_129 : decode cX9_in 129 = .ok (.aload_n 0, 1) := dk_42 (dk_at dksX9_in_5 1 rfl rfl)
theorem dX9_in_130 : decode cX9_in 130 = .ok (.getfield 21, 3) := dk_180 0 21 (dk_at dksX9_in_5 2 rfl rfl)
theorem dX9_in_133 : decode cX9_in 133 = .ok (.iconst 0, 1) := dk_3 (dk_at dksX9_in_5 5 rfl rfl)
theorem dX9_in_134 : decode cX9_in 134 = .ok (.iload_n 1, 1) := dk_27 (dk_at dksX9_in_5 6 rfl rfl)
theorem dX9_in_135 : decode cX9_in 135 = .ok (.iadd, 1) := dk_96 (dk_at dksX9_in_5 7 rfl rfl)
theorem dX9_in_136 : decode cX9_in 136 = .ok (.iaload, 1) := dk_46 (dk_at dksX9_in_5 8 rfl rfl)
theorem dX9_in_137 : decode cX9_in 137 = .ok (.invokevirtual 73, 3) := dk_182 0 73 (dk_at dksX9_in_5 9 rfl rfl)
theorem dX9_in_140 : decode cX9_in 140 = .ok (.ireturn, 1) := dk_172 (dk_at dksX9_in_5 12 rfl rfl)
theorem dX9_in_141 : decode cX9_in 141 = .ok (.aload_n 0, 1) := dk_42 (dk_at dksX9_in_5 13 rfl rfl)
theorem dX9_in_142 : decode cX9_in 142 = .ok (.aload_n 0, 1) := dk_42 (dk_at dksX9_in_5 14 rfl rfl)
theorem dX9_in_143 : decode cX9_in 143 = .ok (.getfield 21, 3) := dk_180 0 21 (dk_at dksX9_in_5 15 rfl rfl)
theorem dX9_in_146 : decode cX9_in 146 = .ok (.iconst 4, 1) := dk_7 (dk_at dksX9_in_5 18 rfl rfl)
theorem dX9_in_147 : decode cX9_in 147 = .ok (.iload_n 1, 1) := dk_27 (dk_at dksX9_in_5 19 rfl rfl)
theorem dX9_in_148 : decode cX9_in 148 = .ok (.iadd, 1) := dk_96 (dk_at dksX9_in_5 20 rfl rfl)
theorem dX9_in_149 : decode cX9_in 149 = .ok (.iaload, 1) := dk_46 (dk_at dksX9_in_5 21 rfl rfl)
theorem dX9_in_150 : decode cX9_in 150 = .ok (.invokevirtual 73, 3) := dk_182 0 73 (dk_at dksX9_in_6 0 rfl rfl)
theorem dX9_in_153 : decode cX9_in 153 = .ok (.ireturn, 1) := dk_172 (dk_at dksX9_in_6 3 rfl rfl)
theorem dX9_in_154 : decode cX9_in 154 = .ok (.aload_n 0, 1) := dk_42 (dk_at dksX9_in_6 4 rfl rfl)
theorem dX9_in_155 : decode cX9_in 155 = .ok (.aload_n 0, 1) := dk_42 (dk_at dksX9_in_6 5 rfl rfl)
theorem dX9_in_156 : decode cX9_in 156 = .ok (.getfield 21, 3) := dk_180 0 21 (dk_at dksX9_in_6 6 rfl rfl)
theorem dX9_in_159 : decode cX9_in 159 = .ok (.bipush 8, 2) := dk_16 8 (dk_at dksX9_in_6 9 rfl rfl)
theorem dX9_in_161 : decode cX9_in 161 = .ok (.iload_n 1, 1) := dk_27 (dk_at dksX9_in_6 11 rfl rfl)
theorem dX9_in_162 : decode cX9_in 162 = .ok (.iadd, 1) := dk_96 (dk_at dksX9_in_6 12 rfl rfl)
theorem dX9_in_163 : decode cX9_in 163 = .ok (.iaload, 1) := dk_46 (dk_at dksX9_in_6 13 rfl rfl)
theorem dX9_in_164 : decode cX9_in 164 = .ok (.invokevirtual 73, 3) := dk_182 0 73 (dk_at dksX9_in_6 14 rfl rfl)
theorem dX9_in_167 : decode cX9_in 167 = .ok (.ireturn, 1) := dk_172 (dk_at dksX9_in_6 17 rfl rfl)
theorem dX9_in_168 : decode cX9_in 168 = .ok (.aload_n 0, 1) := dk_42 (dk_at dksX9_in_6 18 rfl rfl)
theorem dX9_in_169 : decode cX9_in 169 = .ok (.iload 5, 2) := dk_21 5 (dk_at dksX9_in_6 19 rfl rfl)
theorem dX9_in_171 : decode cX9_in 171 = .ok (.invokevirtual 73, 3) := dk_182 0 73 (dk_at dksX9_in_6 21 rfl rfl)
theorem dX9_in_174 : decode cX9_in 174 = .ok (.ireturn, 1) := dk_172 (dk_at dksX9_in_7 0 rfl rfl)
theorem dX9_in_175 : decode cX9_in 175 = .ok (.aload_n 0, 1) := dk_42 (dk_at dksX9_in_7 1 rfl rfl)
theorem dX9_in_176 : decode cX9_in 176 = .ok (.aload_n 0, 1) := dk_42 (dk_at dksX9_in_7 2 rfl rfl)
theorem dX9_in_177 : decode cX9_in 177 = .ok (.aload_n 0, 1) := dk_42 (dk_at dksX9_in_7 3 rfl rfl)
theorem dX9_in_178 : decode cX9_in 178 = .ok (.getfield 21, 3) := dk_180 0 21 (dk_at dksX9_in_7 4 rfl rfl)
theorem dX9_in_181 : decode cX9_in 181 = .ok (.iload_n 1, 1) := dk_27 (dk_at dksX9_in_7 7 rfl rfl)
theorem dX9_in_182 : decode cX9_in 182 = .ok (.invokevirtual 534, 3) := dk_182 2 22 (dk_at dksX9_in_7 8 rfl rfl)
theorem dX9_in_185 : decode cX9_in 185 = .ok (.ifCond .eq 7, 3) := dk_153 0 7 (dk_at dksX9_in_7 11 rfl rfl)
theorem dX9_in_188 : decode cX9_in 188 = .ok (.iconst 1, 1) := dk_4 (dk_at dksX9_in_7 14 rfl rfl)
theorem dX9_in_189 : decode cX9_in 189 = .ok (.goto 4, 3) := dk_167 0 4 (dk_at dksX9_in_7 15 rfl rfl)
theorem dX9_in_192 : decode cX9_in 192 = .ok (.iconst 0, 1) := dk_3 (dk_at dksX9_in_7 18 rfl rfl)
theorem dX9_in_193 : decode cX9_in 193 = .ok (.invokevirtual 73, 3) := dk_182 0 73 (dk_at dksX9_in_7 19 rfl rfl)
theorem dX9_in_196 : decode cX9_in 196 = .ok (.ireturn, 1) := dk_172 (dk_at dksX9_in_7 22 rfl rfl)
abbrev cX9_refusesIn : ByteArray := prog_20_method_102_code
def yX9_refusesIn : MethodName := ⟨RX9, "refusesIn", "(ZII)I"⟩
def dkwX9_refusesIn_1 : List UInt8 := [3, 167, 0, 4, 5, 172]
abbrev dktX9_refusesIn_1 : List UInt8 := dkwX9_refusesIn_1 ++ []
def dkwX9_refusesIn_0 : List UInt8 := [42, 180, 1, 161, 198, 0, 7, 27, 154, 0, 7, 4, 167, 0, 17, 28, 3, 29, 184, 0, 141, 153, 0, 7]
abbrev dktX9_refusesIn_0 : List UInt8 := dkwX9_refusesIn_0 ++ dktX9_refusesIn_1
theorem dksX9_refusesIn_0 : cX9_refusesIn.data.toList.drop 0 = dktX9_refusesIn_0 := by decide +kernel
theorem dksX9_refusesIn_1 : cX9_refusesIn.data.toList.drop 24 = dktX9_refusesIn_1 := dk_seg dksX9_refusesIn_0 24 rfl rfl
theorem dX9_refusesIn_0 : decode cX9_refusesIn 0 = .ok (.aload_n 0, 1) := dk_42 (dk_at dksX9_refusesIn_0 0 rfl rfl)
theorem dX9_refusesIn_1 : decode cX9_refusesIn 1 = .ok (.getfield 417, 3) := dk_180 1 161 (dk_at dksX9_refusesIn_0 1 rfl rfl)
theorem dX9_refusesIn_4 : decode cX9_refusesIn 4 = .ok (.ifnull 7, 3) := dk_198 0 7 (dk_at dksX9_refusesIn_0 4 rfl rfl)
theorem dX9_refusesIn_7 : decode cX9_refusesIn 7 = .ok (.iload_n 1, 1) := dk_27 (dk_at dksX9_refusesIn_0 7 rfl rfl)
theorem dX9_refusesIn_8 : decode cX9_refusesIn 8 = .ok (.ifCond .ne 7, 3) := dk_154 0 7 (dk_at dksX9_refusesIn_0 8 rfl rfl)
theorem dX9_refusesIn_11 : decode cX9_refusesIn 11 = .ok (.iconst 1, 1) := dk_4 (dk_at dksX9_refusesIn_0 11 rfl rfl)
theorem dX9_refusesIn_12 : decode cX9_refusesIn 12 = .ok (.goto 17, 3) := dk_167 0 17 (dk_at dksX9_refusesIn_0 12 rfl rfl)
theorem dX9_refusesIn_15 : decode cX9_refusesIn 15 = .ok (.iload_n 2, 1) := dk_28 (dk_at dksX9_refusesIn_0 15 rfl rfl)
theorem dX9_refusesIn_16 : decode cX9_refusesIn 16 = .ok (.iconst 0, 1) := dk_3 (dk_at dksX9_refusesIn_0 16 rfl rfl)
theorem dX9_refusesIn_17 : decode cX9_refusesIn 17 = .ok (.iload_n 3, 1) := dk_29 (dk_at dksX9_refusesIn_0 17 rfl rfl)
theorem dX9_refusesIn_18 : decode cX9_refusesIn 18 = .ok (.invokestatic 141, 3) := dk_184 0 141 (dk_at dksX9_refusesIn_0 18 rfl rfl)
theorem dX9_refusesIn_21 : decode cX9_refusesIn 21 = .ok (.ifCond .eq 7, 3) := dk_153 0 7 (dk_at dksX9_refusesIn_0 21 rfl rfl)
theorem dX9_refusesIn_24 : decode cX9_refusesIn 24 = .ok (.iconst 0, 1) := dk_3 (dk_at dksX9_refusesIn_1 0 rfl rfl)
theorem dX9_refusesIn_25 : decode cX9_refusesIn 25 = .ok (.goto 4, 3) := dk_167 0 4 (dk_at dksX9_refusesIn_1 1 rfl rfl)
theorem dX9_refusesIn_28 : decode cX9_refusesIn 28 = .ok (.iconst 2, 1) := dk_5 (dk_at dksX9_refusesIn_1 4 rfl rfl)
theorem dX9_refusesIn_29 : decode cX9_refusesIn 29 = .ok (.ireturn, 1) := dk_172 (dk_at dksX9_refusesIn_1 5 rfl rfl)
abbrev cX9_inYears : ByteArray := prog_20_method_73_code
def yX9_inYears : MethodName := ⟨RX9, "inYears", "(I)V"⟩
def dkwX9_inYears_1 : List UInt8 := [132, 2, 1, 167, 255, 240, 177]
abbrev dktX9_inYears_1 : List UInt8 := dkwX9_inYears_1 ++ []
def dkwX9_inYears_0 : List UInt8 := [42, 182, 1, 252, 42, 182, 1, 255, 3, 61, 28, 27, 162, 0, 17, 42, 42, 180, 0, 21, 182, 2, 2]
abbrev dktX9_inYears_0 : List UInt8 := dkwX9_inYears_0 ++ dktX9_inYears_1
theorem dksX9_inYears_0 : cX9_inYears.data.toList.drop 0 = dktX9_inYears_0 := by decide +kernel
theorem dksX9_inYears_1 : cX9_inYears.data.toList.drop 23 = dktX9_inYears_1 := dk_seg dksX9_inYears_0 23 rfl rfl
theorem dX9_inYears_0 : decode cX9_inYears 0 = .ok (.aload_n 0, 1) := dk_42 (dk_at dksX9_inYears_0 0 rfl rfl)
theorem dX9_inYears_1 : decode cX9_inYears 1 = .ok (.invokevirtual 508, 3) := dk_182 1 252 (dk_at dksX9_inYears_0 1 rfl rfl)
theorem dX9_inYears_4 : decode cX9_inYears 4 = .ok (.aload_n 0, 1) := dk_42 (dk_at dksX9_inYears_0 4 rfl rfl)
theorem dX9_inYears_5 : decode cX9_inYears 5 = .ok (.invokevirtual 511, 3) := dk_182 1 255 (dk_at dksX9_inYears_0 5 rfl rfl)
theorem dX9_inYears_8 : decode cX9_inYears 8 = .ok (.iconst 0, 1) := dk_3 (dk_at dksX9_inYears_0 8 rfl rfl)
theorem dX9_inYears_9 : decode cX9_inYears 9 = .ok (.istore_n 2, 1) := dk_61 (dk_at dksX9_inYears_0 9 rfl rfl)
theorem dX9_inYears_10 : decode cX9_inYears 10 = .ok (.iload_n 2, 1) := dk_28 (dk_at dksX9_inYears_0 10 rfl rfl)
theorem dX9_inYears_11 : decode cX9_inYears 11 = .ok (.iload_n 1, 1) := dk_27 (dk_at dksX9_inYears_0 11 rfl rfl)
theorem dX9_inYears_12 : decode cX9_inYears 12 = .ok (.if_icmp .ge 17, 3) := dk_162 0 17 (dk_at dksX9_inYears_0 12 rfl rfl)
theorem dX9_inYears_15 : decode cX9_inYears 15 = .ok (.aload_n 0, 1) := dk_42 (dk_at dksX9_inYears_0 15 rfl rfl)
theorem dX9_inYears_16 : decode cX9_inYears 16 = .ok (.aload_n 0, 1) := dk_42 (dk_at dksX9_inYears_0 16 rfl rfl)
theorem dX9_inYears_17 : decode cX9_inYears 17 = .ok (.getfield 21, 3) := dk_180 0 21 (dk_at dksX9_inYears_0 17 rfl rfl)
theorem dX9_inYears_20 : decode cX9_inYears 20 = .ok (.invokevirtual 514, 3) := dk_182 2 2 (dk_at dksX9_inYears_0 20 rfl rfl)
theorem dX9_inYears_23 : decode cX9_inYears 23 = .ok (.iinc 2 1, 3) := dk_132 2 1 (dk_at dksX9_inYears_1 0 rfl rfl)
theorem dX9_inYears_26 : decode cX9_inYears 26 = .ok (.goto (-16), 3) := dk_167 255 240 (dk_at dksX9_inYears_1 3 rfl rfl)
theorem dX9_inYears_29 : decode cX9_inYears 29 = .ok (.return_, 1) := dk_177 (dk_at dksX9_inYears_1 6 rfl rfl)
abbrev cX9_copies : ByteArray := prog_20_method_72_code
def yX9_copies : MethodName := ⟨RX9, "copies", "()V"⟩
def dkwX9_copies_1 : List UInt8 := [167, 255, 234, 177]
abbrev dktX9_copies_1 : List UInt8 := dkwX9_copies_1 ++ []
def dkwX9_copies_0 : List UInt8 := [3, 60, 27, 17, 0, 212, 162, 0, 21, 42, 180, 0, 21, 27, 42, 180, 0, 17, 27, 46, 79, 132, 1, 1]
abbrev dktX9_copies_0 : List UInt8 := dkwX9_copies_0 ++ dktX9_copies_1
theorem dksX9_copies_0 : cX9_copies.data.toList.drop 0 = dktX9_copies_0 := by decide +kernel
theorem dksX9_copies_1 : cX9_copies.data.toList.drop 24 = dktX9_copies_1 := dk_seg dksX9_copies_0 24 rfl rfl
theorem dX9_copies_0 : decode cX9_copies 0 = .ok (.iconst 0, 1) := dk_3 (dk_at dksX9_copies_0 0 rfl rfl)
theorem dX9_copies_1 : decode cX9_copies 1 = .ok (.istore_n 1, 1) := dk_60 (dk_at dksX9_copies_0 1 rfl rfl)
theorem dX9_copies_2 : decode cX9_copies 2 = .ok (.iload_n 1, 1) := dk_27 (dk_at dksX9_copies_0 2 rfl rfl)
theorem dX9_copies_3 : decode cX9_copies 3 = .ok (.sipush 212, 3) := dk_17 0 212 (dk_at dksX9_copies_0 3 rfl rfl)
theorem dX9_copies_6 : decode cX9_copies 6 = .ok (.if_icmp .ge 21, 3) := dk_162 0 21 (dk_at dksX9_copies_0 6 rfl rfl)
theorem dX9_copies_9 : decode cX9_copies 9 = .ok (.aload_n 0, 1) := dk_42 (dk_at dksX9_copies_0 9 rfl rfl)
theorem dX9_copies_10 : decode cX9_copies 10 = .ok (.getfield 21, 3) := dk_180 0 21 (dk_at dksX9_copies_0 10 rfl rfl)
theorem dX9_copies_13 : decode cX9_copies 13 = .ok (.iload_n 1, 1) := dk_27 (dk_at dksX9_copies_0 13 rfl rfl)
theorem dX9_copies_14 : decode cX9_copies 14 = .ok (.aload_n 0, 1) := dk_42 (dk_at dksX9_copies_0 14 rfl rfl)
theorem dX9_copies_15 : decode cX9_copies 15 = .ok (.getfield 17, 3) := dk_180 0 17 (dk_at dksX9_copies_0 15 rfl rfl)
theorem dX9_copies_18 : decode cX9_copies 18 = .ok (.iload_n 1, 1) := dk_27 (dk_at dksX9_copies_0 18 rfl rfl)
theorem dX9_copies_19 : decode cX9_copies 19 = .ok (.iaload, 1) := dk_46 (dk_at dksX9_copies_0 19 rfl rfl)
theorem dX9_copies_20 : decode cX9_copies 20 = .ok (.iastore, 1) := dk_79 (dk_at dksX9_copies_0 20 rfl rfl)
theorem dX9_copies_21 : decode cX9_copies 21 = .ok (.iinc 1 1, 3) := dk_132 1 1 (dk_at dksX9_copies_0 21 rfl rfl)
theorem dX9_copies_24 : decode cX9_copies 24 = .ok (.goto (-22), 3) := dk_167 255 234 (dk_at dksX9_copies_1 0 rfl rfl)
theorem dX9_copies_27 : decode cX9_copies 27 = .ok (.return_, 1) := dk_177 (dk_at dksX9_copies_1 3 rfl rfl)
abbrev cX9_byNumbers : ByteArray := prog_20_method_70_code
def yX9_byNumbers : MethodName := ⟨RX9, "byNumbers", "()V"⟩
def dkwX9_byNumbers_0 : List UInt8 := [3, 60, 27, 7, 162, 0, 16, 42, 180, 0, 30, 27, 27, 79, 132, 1, 1, 167, 255, 241, 177]
abbrev dktX9_byNumbers_0 : List UInt8 := dkwX9_byNumbers_0 ++ []
theorem dksX9_byNumbers_0 : cX9_byNumbers.data.toList.drop 0 = dktX9_byNumbers_0 := by decide +kernel
theorem dX9_byNumbers_0 : decode cX9_byNumbers 0 = .ok (.iconst 0, 1) := dk_3 (dk_at dksX9_byNumbers_0 0 rfl rfl)
theorem dX9_byNumbers_1 : decode cX9_byNumbers 1 = .ok (.istore_n 1, 1) := dk_60 (dk_at dksX9_byNumbers_0 1 rfl rfl)
theorem dX9_byNumbers_2 : decode cX9_byNumbers 2 = .ok (.iload_n 1, 1) := dk_27 (dk_at dksX9_byNumbers_0 2 rfl rfl)
theorem dX9_byNumbers_3 : decode cX9_byNumbers 3 = .ok (.iconst 4, 1) := dk_7 (dk_at dksX9_byNumbers_0 3 rfl rfl)
theorem dX9_byNumbers_4 : decode cX9_byNumbers 4 = .ok (.if_icmp .ge 16, 3) := dk_162 0 16 (dk_at dksX9_byNumbers_0 4 rfl rfl)
theorem dX9_byNumbers_7 : decode cX9_byNumbers 7 = .ok (.aload_n 0, 1) := dk_42 (dk_at dksX9_byNumbers_0 7 rfl rfl)
theorem dX9_byNumbers_8 : decode cX9_byNumbers 8 = .ok (.getfield 30, 3) := dk_180 0 30 (dk_at dksX9_byNumbers_0 8 rfl rfl)
theorem dX9_byNumbers_11 : decode cX9_byNumbers 11 = .ok (.iload_n 1, 1) := dk_27 (dk_at dksX9_byNumbers_0 11 rfl rfl)
theorem dX9_byNumbers_12 : decode cX9_byNumbers 12 = .ok (.iload_n 1, 1) := dk_27 (dk_at dksX9_byNumbers_0 12 rfl rfl)
theorem dX9_byNumbers_13 : decode cX9_byNumbers 13 = .ok (.iastore, 1) := dk_79 (dk_at dksX9_byNumbers_0 13 rfl rfl)
theorem dX9_byNumbers_14 : decode cX9_byNumbers 14 = .ok (.iinc 1 1, 3) := dk_132 1 1 (dk_at dksX9_byNumbers_0 14 rfl rfl)
theorem dX9_byNumbers_17 : decode cX9_byNumbers 17 = .ok (.goto (-15), 3) := dk_167 255 241 (dk_at dksX9_byNumbers_0 17 rfl rfl)
theorem dX9_byNumbers_20 : decode cX9_byNumbers 20 = .ok (.return_, 1) := dk_177 (dk_at dksX9_byNumbers_0 20 rfl rfl)
abbrev cX9_goesBy : ByteArray := prog_20_method_71_code
def yX9_goesBy : MethodName := ⟨RX9, "goesBy", "([I)V"⟩
def dkwX9_goesBy_1 : List UInt8 := [132, 2, 1, 167, 255, 231, 43, 17, 0, 210, 92, 46, 4, 96, 79, 177]
abbrev dktX9_goesBy_1 : List UInt8 := dkwX9_goesBy_1 ++ []
def dkwX9_goesBy_0 : List UInt8 := [3, 61, 28, 42, 180, 1, 161, 180, 0, 229, 162, 0, 20, 42, 43, 42, 180, 0, 30, 28, 46, 182, 1, 248]
abbrev dktX9_goesBy_0 : List UInt8 := dkwX9_goesBy_0 ++ dktX9_goesBy_1
theorem dksX9_goesBy_0 : cX9_goesBy.data.toList.drop 0 = dktX9_goesBy_0 := by decide +kernel
theorem dksX9_goesBy_1 : cX9_goesBy.data.toList.drop 24 = dktX9_goesBy_1 := dk_seg dksX9_goesBy_0 24 rfl rfl
theorem dX9_goesBy_0 : decode cX9_goesBy 0 = .ok (.iconst 0, 1) := dk_3 (dk_at dksX9_goesBy_0 0 rfl rfl)
theorem dX9_goesBy_1 : decode cX9_goesBy 1 = .ok (.istore_n 2, 1) := dk_61 (dk_at dksX9_goesBy_0 1 rfl rfl)
theorem dX9_goesBy_2 : decode cX9_goesBy 2 = .ok (.iload_n 2, 1) := dk_28 (dk_at dksX9_goesBy_0 2 rfl rfl)
theorem dX9_goesBy_3 : decode cX9_goesBy 3 = .ok (.aload_n 0, 1) := dk_42 (dk_at dksX9_goesBy_0 3 rfl rfl)
theorem dX9_goesBy_4 : decode cX9_goesBy 4 = .ok (.getfield 417, 3) := dk_180 1 161 (dk_at dksX9_goesBy_0 4 rfl rfl)
theorem dX9_goesBy_7 : decode cX9_goesBy 7 = .ok (.getfield 229, 3) := dk_180 0 229 (dk_at dksX9_goesBy_0 7 rfl rfl)
theorem dX9_goesBy_10 : decode cX9_goesBy 10 = .ok (.if_icmp .ge 20, 3) := dk_162 0 20 (dk_at dksX9_goesBy_0 10 rfl rfl)
theorem dX9_goesBy_13 : decode cX9_goesBy 13 = .ok (.aload_n 0, 1) := dk_42 (dk_at dksX9_goesBy_0 13 rfl rfl)
theorem dX9_goesBy_14 : decode cX9_goesBy 14 = .ok (.aload_n 1, 1) := dk_43 (dk_at dksX9_goesBy_0 14 rfl rfl)
theorem dX9_goesBy_15 : decode cX9_goesBy 15 = .ok (.aload_n 0, 1) := dk_42 (dk_at dksX9_goesBy_0 15 rfl rfl)
theorem dX9_goesBy_16 : decode cX9_goesBy 16 = .ok (.getfield 30, 3) := dk_180 0 30 (dk_at dksX9_goesBy_0 16 rfl rfl)
theorem dX9_goesBy_19 : decode cX9_goesBy 19 = .ok (.iload_n 2, 1) := dk_28 (dk_at dksX9_goesBy_0 19 rfl rfl)
theorem dX9_goesBy_20 : decode cX9_goesBy 20 = .ok (.iaload, 1) := dk_46 (dk_at dksX9_goesBy_0 20 rfl rfl)
theorem dX9_goesBy_21 : decode cX9_goesBy 21 = .ok (.invokevirtual 504, 3) := dk_182 1 248 (dk_at dksX9_goesBy_0 21 rfl rfl)
theorem dX9_goesBy_24 : decode cX9_goesBy 24 = .ok (.iinc 2 1, 3) := dk_132 2 1 (dk_at dksX9_goesBy_1 0 rfl rfl)
theorem dX9_goesBy_27 : decode cX9_goesBy 27 = .ok (.goto (-25), 3) := dk_167 255 231 (dk_at dksX9_goesBy_1 3 rfl rfl)
theorem dX9_goesBy_30 : decode cX9_goesBy 30 = .ok (.aload_n 1, 1) := dk_43 (dk_at dksX9_goesBy_1 6 rfl rfl)
theorem dX9_goesBy_31 : decode cX9_goesBy 31 = .ok (.sipush 210, 3) := dk_17 0 210 (dk_at dksX9_goesBy_1 7 rfl rfl)
theorem dX9_goesBy_34 : decode cX9_goesBy 34 = .ok (.dup2, 1) := dk_92 (dk_at dksX9_goesBy_1 10 rfl rfl)
theorem dX9_goesBy_35 : decode cX9_goesBy 35 = .ok (.iaload, 1) := dk_46 (dk_at dksX9_goesBy_1 11 rfl rfl)
theorem dX9_goesBy_36 : decode cX9_goesBy 36 = .ok (.iconst 1, 1) := dk_4 (dk_at dksX9_goesBy_1 12 rfl rfl)
theorem dX9_goesBy_37 : decode cX9_goesBy 37 = .ok (.iadd, 1) := dk_96 (dk_at dksX9_goesBy_1 13 rfl rfl)
theorem dX9_goesBy_38 : decode cX9_goesBy 38 = .ok (.iastore, 1) := dk_79 (dk_at dksX9_goesBy_1 14 rfl rfl)
theorem dX9_goesBy_39 : decode cX9_goesBy 39 = .ok (.return_, 1) := dk_177 (dk_at dksX9_goesBy_1 15 rfl rfl)
abbrev cX9_yearOf : ByteArray := prog_20_method_68_code
def yX9_yearOf : MethodName := ⟨RX9, "yearOf", "([II)V"⟩
def dkwX9_yearOf_11 : List UInt8 := [17, 0, 210, 46, 184, 1, 128, 177]
abbrev dktX9_yearOf_11 : List UInt8 := dkwX9_yearOf_11 ++ []
def dkwX9_yearOf_10 : List UInt8 := [180, 1, 108, 28, 46, 42, 180, 1, 219, 42, 180, 1, 222, 43, 7, 28, 96, 46, 16, 10, 112, 43]
abbrev dktX9_yearOf_10 : List UInt8 := dkwX9_yearOf_10 ++ dktX9_yearOf_11
def dkwX9_yearOf_9 : List UInt8 := [43, 28, 42, 180, 1, 161, 180, 1, 108, 28, 46, 182, 1, 245, 100, 79, 43, 28, 42, 180, 1, 161]
abbrev dktX9_yearOf_9 : List UInt8 := dkwX9_yearOf_9 ++ dktX9_yearOf_10
def dkwX9_yearOf_8 : List UInt8 := [42, 180, 1, 161, 180, 1, 108, 28, 46, 182, 1, 245, 162, 0, 4, 177, 43, 16, 8, 28, 96, 92, 46, 42]
abbrev dktX9_yearOf_8 : List UInt8 := dkwX9_yearOf_8 ++ dktX9_yearOf_9
def dkwX9_yearOf_7 : List UInt8 := [132, 3, 1, 167, 255, 203, 42, 43, 28, 182, 1, 241, 153, 0, 27, 43, 16, 8, 28, 96, 46, 42, 43, 28]
abbrev dktX9_yearOf_7 : List UInt8 := dkwX9_yearOf_7 ++ dktX9_yearOf_8
def dkwX9_yearOf_6 : List UInt8 := [160, 0, 24, 43, 28, 29, 16, 6, 184, 1, 169, 46, 154, 0, 12, 43, 28, 29, 8, 184, 1, 169, 4, 79]
abbrev dktX9_yearOf_6 : List UInt8 := dkwX9_yearOf_6 ++ dktX9_yearOf_7
def dkwX9_yearOf_5 : List UInt8 := [3, 28, 96, 46, 163, 0, 50, 42, 180, 1, 161, 180, 1, 76, 43, 28, 29, 3, 184, 1, 169, 46, 46, 5]
abbrev dktX9_yearOf_5 : List UInt8 := dkwX9_yearOf_5 ++ dktX9_yearOf_6
def dkwX9_yearOf_4 : List UInt8 := [132, 3, 1, 167, 255, 237, 43, 184, 1, 234, 42, 180, 1, 161, 180, 1, 42, 162, 0, 61, 4, 62, 29, 43]
abbrev dktX9_yearOf_4 : List UInt8 := dkwX9_yearOf_4 ++ dktX9_yearOf_5
def dkwX9_yearOf_3 : List UInt8 := [184, 1, 231, 79, 4, 62, 29, 43, 3, 28, 96, 46, 163, 0, 16, 42, 43, 28, 29, 182, 1, 238]
abbrev dktX9_yearOf_3 : List UInt8 := dkwX9_yearOf_3 ++ dktX9_yearOf_4
def dkwX9_yearOf_2 : List UInt8 := [180, 1, 161, 180, 1, 40, 162, 0, 20, 43, 7, 28, 96, 16, 99, 43, 7, 28, 96, 46, 4, 96]
abbrev dktX9_yearOf_2 : List UInt8 := dkwX9_yearOf_2 ++ dktX9_yearOf_3
def dkwX9_yearOf_1 : List UInt8 := [7, 28, 96, 46, 42, 180, 1, 161, 180, 1, 44, 104, 96, 184, 1, 231, 79, 43, 184, 1, 234, 42]
abbrev dktX9_yearOf_1 : List UInt8 := dkwX9_yearOf_1 ++ dktX9_yearOf_2
def dkwX9_yearOf_0 : List UInt8 := [43, 7, 28, 96, 46, 154, 0, 4, 177, 43, 16, 8, 28, 96, 17, 3, 231, 43, 16, 8, 28, 96, 46, 43]
abbrev dktX9_yearOf_0 : List UInt8 := dkwX9_yearOf_0 ++ dktX9_yearOf_1
theorem dksX9_yearOf_0 : cX9_yearOf.data.toList.drop 0 = dktX9_yearOf_0 := by decide +kernel
theorem dksX9_yearOf_1 : cX9_yearOf.data.toList.drop 24 = dktX9_yearOf_1 := dk_seg dksX9_yearOf_0 24 rfl rfl
theorem dksX9_yearOf_2 : cX9_yearOf.data.toList.drop 46 = dktX9_yearOf_2 := dk_seg dksX9_yearOf_1 22 rfl rfl
theorem dksX9_yearOf_3 : cX9_yearOf.data.toList.drop 68 = dktX9_yearOf_3 := dk_seg dksX9_yearOf_2 22 rfl rfl
theorem dksX9_yearOf_4 : cX9_yearOf.data.toList.drop 90 = dktX9_yearOf_4 := dk_seg dksX9_yearOf_3 22 rfl rfl
theorem dksX9_yearOf_5 : cX9_yearOf.data.toList.drop 114 = dktX9_yearOf_5 := dk_seg dksX9_yearOf_4 24 rfl rfl
theorem dksX9_yearOf_6 : cX9_yearOf.data.toList.drop 138 = dktX9_yearOf_6 := dk_seg dksX9_yearOf_5 24 rfl rfl
theorem dksX9_yearOf_7 : cX9_yearOf.data.toList.drop 162 = dktX9_yearOf_7 := dk_seg dksX9_yearOf_6 24 rfl rfl
theorem dksX9_yearOf_8 : cX9_yearOf.data.toList.drop 186 = dktX9_yearOf_8 := dk_seg dksX9_yearOf_7 24 rfl rfl
theorem dksX9_yearOf_9 : cX9_yearOf.data.toList.drop 210 = dktX9_yearOf_9 := dk_seg dksX9_yearOf_8 24 rfl rfl
theorem dksX9_yearOf_10 : cX9_yearOf.data.toList.drop 232 = dktX9_yearOf_10 := dk_seg dksX9_yearOf_9 22 rfl rfl
theorem dksX9_yearOf_11 : cX9_yearOf.data.toList.drop 254 = dktX9_yearOf_11 := dk_seg dksX9_yearOf_10 22 rfl rfl
theorem dX9_yearOf_0 : decode cX9_yearOf 0 = .ok (.aload_n 1, 1) := dk_43 (dk_at dksX9_yearOf_0 0 rfl rfl)
theorem dX9_yearOf_1 : decode cX9_yearOf 1 = .ok (.iconst 4, 1) := dk_7 (dk_at dksX9_yearOf_0 1 rfl rfl)
theorem dX9_yearOf_2 : decode cX9_yearOf 2 = .ok (.iload_n 2, 1) := dk_28 (dk_at dksX9_yearOf_0 2 rfl rfl)
theorem dX9_yearOf_3 : decode cX9_yearOf 3 = .ok (.iadd, 1) := dk_96 (dk_at dksX9_yearOf_0 3 rfl rfl)
theorem dX9_yearOf_4 : decode cX9_yearOf 4 = .ok (.iaload, 1) := dk_46 (dk_at dksX9_yearOf_0 4 rfl rfl)
theorem dX9_yearOf_5 : decode cX9_yearOf 5 = .ok (.ifCond .ne 4, 3) := dk_154 0 4 (dk_at dksX9_yearOf_0 5 rfl rfl)
theorem dX9_yearOf_8 : decode cX9_yearOf 8 = .ok (.return_, 1) := dk_177 (dk_at dksX9_yearOf_0 8 rfl rfl)
theorem dX9_yearOf_9 : decode cX9_yearOf 9 = .ok (.aload_n 1, 1) := dk_43 (dk_at dksX9_yearOf_0 9 rfl rfl)
theorem dX9_yearOf_10 : decode cX9_yearOf 10 = .ok (.bipush 8, 2) := dk_16 8 (dk_at dksX9_yearOf_0 10 rfl rfl)
theorem dX9_yearOf_12 : decode cX9_yearOf 12 = .ok (.iload_n 2, 1) := dk_28 (dk_at dksX9_yearOf_0 12 rfl rfl)
theorem dX9_yearOf_13 : decode cX9_yearOf 13 = .ok (.iadd, 1) := dk_96 (dk_at dksX9_yearOf_0 13 rfl rfl)
theorem dX9_yearOf_14 : decode cX9_yearOf 14 = .ok (.sipush 999, 3) := dk_17 3 231 (dk_at dksX9_yearOf_0 14 rfl rfl)
theorem dX9_yearOf_17 : decode cX9_yearOf 17 = .ok (.aload_n 1, 1) := dk_43 (dk_at dksX9_yearOf_0 17 rfl rfl)
theorem dX9_yearOf_18 : decode cX9_yearOf 18 = .ok (.bipush 8, 2) := dk_16 8 (dk_at dksX9_yearOf_0 18 rfl rfl)
theorem dX9_yearOf_20 : decode cX9_yearOf 20 = .ok (.iload_n 2, 1) := dk_28 (dk_at dksX9_yearOf_0 20 rfl rfl)
theorem dX9_yearOf_21 : decode cX9_yearOf 21 = .ok (.iadd, 1) := dk_96 (dk_at dksX9_yearOf_0 21 rfl rfl)
theorem dX9_yearOf_22 : decode cX9_yearOf 22 = .ok (.iaload, 1) := dk_46 (dk_at dksX9_yearOf_0 22 rfl rfl)
theorem dX9_yearOf_23 : decode cX9_yearOf 23 = .ok (.aload_n 1, 1) := dk_43 (dk_at dksX9_yearOf_0 23 rfl rfl)
theorem dX9_yearOf_24 : decode cX9_yearOf 24 = .ok (.iconst 4, 1) := dk_7 (dk_at dksX9_yearOf_1 0 rfl rfl)
theorem dX9_yearOf_25 : decode cX9_yearOf 25 = .ok (.iload_n 2, 1) := dk_28 (dk_at dksX9_yearOf_1 1 rfl rfl)
theorem dX9_yearOf_26 : decode cX9_yearOf 26 = .ok (.iadd, 1) := dk_96 (dk_at dksX9_yearOf_1 2 rfl rfl)
theorem dX9_yearOf_27 : decode cX9_yearOf 27 = .ok (.iaload, 1) := dk_46 (dk_at dksX9_yearOf_1 3 rfl rfl)
theorem dX9_yearOf_28 : decode cX9_yearOf 28 = .ok (.aload_n 0, 1) := dk_42 (dk_at dksX9_yearOf_1 4 rfl rfl)
theorem dX9_yearOf_29 : decode cX9_yearOf 29 = .ok (.getfield 417, 3) := dk_180 1 161 (dk_at dksX9_yearOf_1 5 rfl rfl)
theorem dX9_yearOf_32 : decode cX9_yearOf 32 = .ok (.getfield 300, 3) := dk_180 1 44 (dk_at dksX9_yearOf_1 8 rfl rfl)
theorem dX9_yearOf_35 : decode cX9_yearOf 35 = .ok (.imul, 1) := dk_104 (dk_at dksX9_yearOf_1 11 rfl rfl)
theorem dX9_yearOf_36 : decode cX9_yearOf 36 = .ok (.iadd, 1) := dk_96 (dk_at dksX9_yearOf_1 12 rfl rfl)
theorem dX9_yearOf_37 : decode cX9_yearOf 37 = .ok (.invokestatic 487, 3) := dk_184 1 231 (dk_at dksX9_yearOf_1 13 rfl rfl)
theorem dX9_yearOf_40 : decode cX9_yearOf 40 = .ok (.iastore, 1) := dk_79 (dk_at dksX9_yearOf_1 16 rfl rfl)
theorem dX9_yearOf_41 : decode cX9_yearOf 41 = .ok (.aload_n 1, 1) := dk_43 (dk_at dksX9_yearOf_1 17 rfl rfl)
theorem dX9_yearOf_42 : decode cX9_yearOf 42 = .ok (.invokestatic 490, 3) := dk_184 1 234 (dk_at dksX9_yearOf_1 18 rfl rfl)
theorem dX9_yearOf_45 : decode cX9_yearOf 45 = .ok (.aload_n 0, 1) := dk_42 (dk_at dksX9_yearOf_1 21 rfl rfl)
theorem dX9_yearOf_46 : decode cX9_yearOf 46 = .ok (.getfield 417, 3) := dk_180 1 161 (dk_at dksX9_yearOf_2 0 rfl rfl)
theorem dX9_yearOf_49 : decode cX9_yearOf 49 = .ok (.getfield 296, 3) := dk_180 1 40 (dk_at dksX9_yearOf_2 3 rfl rfl)
theorem dX9_yearOf_52 : decode cX9_yearOf 52 = .ok (.if_icmp .ge 20, 3) := dk_162 0 20 (dk_at dksX9_yearOf_2 6 rfl rfl)
theorem dX9_yearOf_55 : decode cX9_yearOf 55 = .ok (.aload_n 1, 1) := dk_43 (dk_at dksX9_yearOf_2 9 rfl rfl)
theorem dX9_yearOf_56 : decode cX9_yearOf 56 = .ok (.iconst 4, 1) := dk_7 (dk_at dksX9_yearOf_2 10 rfl rfl)
theorem dX9_yearOf_57 : decode cX9_yearOf 57 = .ok (.iload_n 2, 1) := dk_28 (dk_at dksX9_yearOf_2 11 rfl rfl)
theorem dX9_yearOf_58 : decode cX9_yearOf 58 = .ok (.iadd, 1) := dk_96 (dk_at dksX9_yearOf_2 12 rfl rfl)
theorem dX9_yearOf_59 : decode cX9_yearOf 59 = .ok (.bipush 99, 2) := dk_16 99 (dk_at dksX9_yearOf_2 13 rfl rfl)
theorem dX9_yearOf_61 : decode cX9_yearOf 61 = .ok (.aload_n 1, 1) := dk_43 (dk_at dksX9_yearOf_2 15 rfl rfl)
theorem dX9_yearOf_62 : decode cX9_yearOf 62 = .ok (.iconst 4, 1) := dk_7 (dk_at dksX9_yearOf_2 16 rfl rfl)
theorem dX9_yearOf_63 : decode cX9_yearOf 63 = .ok (.iload_n 2, 1) := dk_28 (dk_at dksX9_yearOf_2 17 rfl rfl)
theorem dX9_yearOf_64 : decode cX9_yearOf 64 = .ok (.iadd, 1) := dk_96 (dk_at dksX9_yearOf_2 18 rfl rfl)
theorem dX9_yearOf_65 : decode cX9_yearOf 65 = .ok (.iaload, 1) := dk_46 (dk_at dksX9_yearOf_2 19 rfl rfl)
theorem dX9_yearOf_66 : decode cX9_yearOf 66 = .ok (.iconst 1, 1) := dk_4 (dk_at dksX9_yearOf_2 20 rfl rfl)
theorem dX9_yearOf_67 : decode cX9_yearOf 67 = .ok (.iadd, 1) := dk_96 (dk_at dksX9_yearOf_2 21 rfl rfl)
theorem dX9_yearOf_68 : decode cX9_yearOf 68 = .ok (.invokestatic 487, 3) := dk_184 1 231 (dk_at dksX9_yearOf_3 0 rfl rfl)
theorem dX9_yearOf_71 : decode cX9_yearOf 71 = .ok (.iastore, 1) := dk_79 (dk_at dksX9_yearOf_3 3 rfl rfl)
theorem dX9_yearOf_72 : decode cX9_yearOf 72 = .ok (.iconst 1, 1) := dk_4 (dk_at dksX9_yearOf_3 4 rfl rfl)
theorem dX9_yearOf_73 : decode cX9_yearOf 73 = .ok (.istore_n 3, 1) := dk_62 (dk_at dksX9_yearOf_3 5 rfl rfl)
theorem dX9_yearOf_74 : decode cX9_yearOf 74 = .ok (.iload_n 3, 1) := dk_29 (dk_at dksX9_yearOf_3 6 rfl rfl)
theorem dX9_yearOf_75 : decode cX9_yearOf 75 = .ok (.aload_n 1, 1) := dk_43 (dk_at dksX9_yearOf_3 7 rfl rfl)
theorem dX9_yearOf_76 : decode cX9_yearOf 76 = .ok (.iconst 0, 1) := dk_3 (dk_at dksX9_yearOf_3 8 rfl rfl)
theorem dX9_yearOf_77 : decode cX9_yearOf 77 = .ok (.iload_n 2, 1) := dk_28 (dk_at dksX9_yearOf_3 9 rfl rfl)
theorem dX9_yearOf_78 : decode cX9_yearOf 78 = .ok (.iadd, 1) := dk_96 (dk_at dksX9_yearOf_3 10 rfl rfl)
theorem dX9_yearOf_79 : decode cX9_yearOf 79 = .ok (.iaload, 1) := dk_46 (dk_at dksX9_yearOf_3 11 rfl rfl)
theorem dX9_yearOf_80 : decode cX9_yearOf 80 = .ok (.if_icmp .gt 16, 3) := dk_163 0 16 (dk_at dksX9_yearOf_3 12 rfl rfl)
theorem dX9_yearOf_83 : decode cX9_yearOf 83 = .ok (.aload_n 0, 1) := dk_42 (dk_at dksX9_yearOf_3 15 rfl rfl)
theorem dX9_yearOf_84 : decode cX9_yearOf 84 = .ok (.aload_n 1, 1) := dk_43 (dk_at dksX9_yearOf_3 16 rfl rfl)
theorem dX9_yearOf_85 : decode cX9_yearOf 85 = .ok (.iload_n 2, 1) := dk_28 (dk_at dksX9_yearOf_3 17 rfl rfl)
theorem dX9_yearOf_86 : decode cX9_yearOf 86 = .ok (.iload_n 3, 1) := dk_29 (dk_at dksX9_yearOf_3 18 rfl rfl)
theorem dX9_yearOf_87 : decode cX9_yearOf 87 = .ok (.invokevirtual 494, 3) := dk_182 1 238 (dk_at dksX9_yearOf_3 19 rfl rfl)
theorem dX9_yearOf_90 : decode cX9_yearOf 90 = .ok (.iinc 3 1, 3) := dk_132 3 1 (dk_at dksX9_yearOf_4 0 rfl rfl)
theorem dX9_yearOf_93 : decode cX9_yearOf 93 = .ok (.goto (-19), 3) := dk_167 255 237 (dk_at dksX9_yearOf_4 3 rfl rfl)
theorem dX9_yearOf_96 : decode cX9_yearOf 96 = .ok (.aload_n 1, 1) := dk_43 (dk_at dksX9_yearOf_4 6 rfl rfl)
theorem dX9_yearOf_97 : decode cX9_yearOf 97 = .ok (.invokestatic 490, 3) := dk_184 1 234 (dk_at dksX9_yearOf_4 7 rfl rfl)
theorem dX9_yearOf_100 : decode cX9_yearOf 100 = .ok (.aload_n 0, 1) := dk_42 (dk_at dksX9_yearOf_4 10 rfl rfl)
theorem dX9_yearOf_101 : decode cX9_yearOf 101 = .ok (.getfield 417, 3) := dk_180 1 161 (dk_at dksX9_yearOf_4 11 rfl rfl)
theorem dX9_yearOf_104 : decode cX9_yearOf 104 = .ok (.getfield 298, 3) := dk_180 1 42 (dk_at dksX9_yearOf_4 14 rfl rfl)
theorem dX9_yearOf_107 : decode cX9_yearOf 107 = .ok (.if_icmp .ge 61, 3) := dk_162 0 61 (dk_at dksX9_yearOf_4 17 rfl rfl)
theorem dX9_yearOf_110 : decode cX9_yearOf 110 = .ok (.iconst 1, 1) := dk_4 (dk_at dksX9_yearOf_4 20 rfl rfl)
theorem dX9_yearOf_111 : decode cX9_yearOf 111 = .ok (.istore_n 3, 1) := dk_62 (dk_at dksX9_yearOf_4 21 rfl rfl)
theorem dX9_yearOf_112 : decode cX9_yearOf 112 = .ok (.iload_n 3, 1) := dk_29 (dk_at dksX9_yearOf_4 22 rfl rfl)
theorem dX9_yearOf_113 : decode cX9_yearOf 113 = .ok (.aload_n 1, 1) := dk_43 (dk_at dksX9_yearOf_4 23 rfl rfl)
theorem dX9_yearOf_114 : decode cX9_yearOf 114 = .ok (.iconst 0, 1) := dk_3 (dk_at dksX9_yearOf_5 0 rfl rfl)
theorem dX9_yearOf_115 : decode cX9_yearOf 115 = .ok (.iload_n 2, 1) := dk_28 (dk_at dksX9_yearOf_5 1 rfl rfl)
theorem dX9_yearOf_116 : decode cX9_yearOf 116 = .ok (.iadd, 1) := dk_96 (dk_at dksX9_yearOf_5 2 rfl rfl)
theorem dX9_yearOf_117 : decode cX9_yearOf 117 = .ok (.iaload, 1) := dk_46 (dk_at dksX9_yearOf_5 3 rfl rfl)
theorem dX9_yearOf_118 : decode cX9_yearOf 118 = .ok (.if_icmp .gt 50, 3) := dk_163 0 50 (dk_at dksX9_yearOf_5 4 rfl rfl)
theorem dX9_yearOf_121 : decode cX9_yearOf 121 = .ok (.aload_n 0, 1) := dk_42 (dk_at dksX9_yearOf_5 7 rfl rfl)
theorem dX9_yearOf_122 : decode cX9_yearOf 122 = .ok (.getfield 417, 3) := dk_180 1 161 (dk_at dksX9_yearOf_5 8 rfl rfl)
theorem dX9_yearOf_125 : decode cX9_yearOf 125 = .ok (.getfield 332, 3) := dk_180 1 76 (dk_at dksX9_yearOf_5 11 rfl rfl)
theorem dX9_yearOf_128 : decode cX9_yearOf 128 = .ok (.aload_n 1, 1) := dk_43 (dk_at dksX9_yearOf_5 14 rfl rfl)
theorem dX9_yearOf_129 : decode cX9_yearOf 129 = .ok (.iload_n 2, 1) := dk_28 (dk_at dksX9_yearOf_5 15 rfl rfl)
theorem dX9_yearOf_130 : decode cX9_yearOf 130 = .ok (.iload_n 3, 1) := dk_29 (dk_at dksX9_yearOf_5 16 rfl rfl)
theorem dX9_yearOf_131 : decode cX9_yearOf 131 = .ok (.iconst 0, 1) := dk_3 (dk_at dksX9_yearOf_5 17 rfl rfl)
theorem dX9_yearOf_132 : decode cX9_yearOf 132 = .ok (.invokestatic 425, 3) := dk_184 1 169 (dk_at dksX9_yearOf_5 18 rfl rfl)
theorem dX9_yearOf_135 : decode cX9_yearOf 135 = .ok (.iaload, 1) := dk_46 (dk_at dksX9_yearOf_5 21 rfl rfl)
theorem dX9_yearOf_136 : decode cX9_yearOf 136 = .ok (.iaload, 1) := dk_46 (dk_at dksX9_yearOf_5 22 rfl rfl)
theorem dX9_yearOf_137 : decode cX9_yearOf 137 = .ok (.iconst 2, 1) := dk_5 (dk_at dksX9_yearOf_5 23 rfl rfl)
theorem dX9_yearOf_138 : decode cX9_yearOf 138 = .ok (.if_icmp .ne 24, 3) := dk_160 0 24 (dk_at dksX9_yearOf_6 0 rfl rfl)
theorem dX9_yearOf_141 : decode cX9_yearOf 141 = .ok (.aload_n 1, 1) := dk_43 (dk_at dksX9_yearOf_6 3 rfl rfl)
theorem dX9_yearOf_142 : decode cX9_yearOf 142 = .ok (.iload_n 2, 1) := dk_28 (dk_at dksX9_yearOf_6 4 rfl rfl)
theorem dX9_yearOf_143 : decode cX9_yearOf 143 = .ok (.iload_n 3, 1) := dk_29 (dk_at dksX9_yearOf_6 5 rfl rfl)
theorem dX9_yearOf_144 : decode cX9_yearOf 144 = .ok (.bipush 6, 2) := dk_16 6 (dk_at dksX9_yearOf_6 6 rfl rfl)
theorem dX9_yearOf_146 : decode cX9_yearOf 146 = .ok (.invokestatic 425, 3) := dk_184 1 169 (dk_at dksX9_yearOf_6 8 rfl rfl)
theorem dX9_yearOf_149 : decode cX9_yearOf 149 = .ok (.iaload, 1) := dk_46 (dk_at dksX9_yearOf_6 11 rfl rfl)
theorem dX9_yearOf_150 : decode cX9_yearOf 150 = .ok (.ifCond .ne 12, 3) := dk_154 0 12 (dk_at dksX9_yearOf_6 12 rfl rfl)
theorem dX9_yearOf_153 : decode cX9_yearOf 153 = .ok (.aload_n 1, 1) := dk_43 (dk_at dksX9_yearOf_6 15 rfl rfl)
theorem dX9_yearOf_154 : decode cX9_yearOf 154 = .ok (.iload_n 2, 1) := dk_28 (dk_at dksX9_yearOf_6 16 rfl rfl)
theorem dX9_yearOf_155 : decode cX9_yearOf 155 = .ok (.iload_n 3, 1) := dk_29 (dk_at dksX9_yearOf_6 17 rfl rfl)
theorem dX9_yearOf_156 : decode cX9_yearOf 156 = .ok (.iconst 5, 1) := dk_8 (dk_at dksX9_yearOf_6 18 rfl rfl)
theorem dX9_yearOf_157 : decode cX9_yearOf 157 = .ok (.invokestatic 425, 3) := dk_184 1 169 (dk_at dksX9_yearOf_6 19 rfl rfl)
theorem dX9_yearOf_160 : decode cX9_yearOf 160 = .ok (.iconst 1, 1) := dk_4 (dk_at dksX9_yearOf_6 22 rfl rfl)
theorem dX9_yearOf_161 : decode cX9_yearOf 161 = .ok (.iastore, 1) := dk_79 (dk_at dksX9_yearOf_6 23 rfl rfl)
theorem dX9_yearOf_162 : decode cX9_yearOf 162 = .ok (.iinc 3 1, 3) := dk_132 3 1 (dk_at dksX9_yearOf_7 0 rfl rfl)
theorem dX9_yearOf_165 : decode cX9_yearOf 165 = .ok (.goto (-53), 3) := dk_167 255 203 (dk_at dksX9_yearOf_7 3 rfl rfl)
theorem dX9_yearOf_168 : decode cX9_yearOf 168 = .ok (.aload_n 0, 1) := dk_42 (dk_at dksX9_yearOf_7 6 rfl rfl)
theorem dX9_yearOf_169 : decode cX9_yearOf 169 = .ok (.aload_n 1, 1) := dk_43 (dk_at dksX9_yearOf_7 7 rfl rfl)
theorem dX9_yearOf_170 : decode cX9_yearOf 170 = .ok (.iload_n 2, 1) := dk_28 (dk_at dksX9_yearOf_7 8 rfl rfl)
theorem dX9_yearOf_171 : decode cX9_yearOf 171 = .ok (.invokevirtual 497, 3) := dk_182 1 241 (dk_at dksX9_yearOf_7 9 rfl rfl)
theorem dX9_yearOf_174 : decode cX9_yearOf 174 = .ok (.ifCond .eq 27, 3) := dk_153 0 27 (dk_at dksX9_yearOf_7 12 rfl rfl)
theorem dX9_yearOf_177 : decode cX9_yearOf 177 = .ok (.aload_n 1, 1) := dk_43 (dk_at dksX9_yearOf_7 15 rfl rfl)
theorem dX9_yearOf_178 : decode cX9_yearOf 178 = .ok (.bipush 8, 2) := dk_16 8 (dk_at dksX9_yearOf_7 16 rfl rfl)
theorem dX9_yearOf_180 : decode cX9_yearOf 180 = .ok (.iload_n 2, 1) := dk_28 (dk_at dksX9_yearOf_7 18 rfl rfl)
theorem dX9_yearOf_181 : decode cX9_yearOf 181 = .ok (.iadd, 1) := dk_96 (dk_at dksX9_yearOf_7 19 rfl rfl)
theorem dX9_yearOf_182 : decode cX9_yearOf 182 = .ok (.iaload, 1) := dk_46 (dk_at dksX9_yearOf_7 20 rfl rfl)
theorem dX9_yearOf_183 : decode cX9_yearOf 183 = .ok (.aload_n 0, 1) := dk_42 (dk_at dksX9_yearOf_7 21 rfl rfl)
theorem dX9_yearOf_184 : decode cX9_yearOf 184 = .ok (.aload_n 1, 1) := dk_43 (dk_at dksX9_yearOf_7 22 rfl rfl)
theorem dX9_yearOf_185 : decode cX9_yearOf 185 = .ok (.iload_n 2, 1) := dk_28 (dk_at dksX9_yearOf_7 23 rfl rfl)
theorem dX9_yearOf_186 : decode cX9_yearOf 186 = .ok (.aload_n 0, 1) := dk_42 (dk_at dksX9_yearOf_8 0 rfl rfl)
theorem dX9_yearOf_187 : decode cX9_yearOf 187 = .ok (.getfield 417, 3) := dk_180 1 161 (dk_at dksX9_yearOf_8 1 rfl rfl)
theorem dX9_yearOf_190 : decode cX9_yearOf 190 = .ok (.getfield 364, 3) := dk_180 1 108 (dk_at dksX9_yearOf_8 4 rfl rfl)
theorem dX9_yearOf_193 : decode cX9_yearOf 193 = .ok (.iload_n 2, 1) := dk_28 (dk_at dksX9_yearOf_8 7 rfl rfl)
theorem dX9_yearOf_194 : decode cX9_yearOf 194 = .ok (.iaload, 1) := dk_46 (dk_at dksX9_yearOf_8 8 rfl rfl)
theorem dX9_yearOf_195 : decode cX9_yearOf 195 = .ok (.invokevirtual 501, 3) := dk_182 1 245 (dk_at dksX9_yearOf_8 9 rfl rfl)
theorem dX9_yearOf_198 : decode cX9_yearOf 198 = .ok (.if_icmp .ge 4, 3) := dk_162 0 4 (dk_at dksX9_yearOf_8 12 rfl rfl)
theorem dX9_yearOf_201 : decode cX9_yearOf 201 = .ok (.return_, 1) := dk_177 (dk_at dksX9_yearOf_8 15 rfl rfl)
theorem dX9_yearOf_202 : decode cX9_yearOf 202 = .ok (.aload_n 1, 1) := dk_43 (dk_at dksX9_yearOf_8 16 rfl rfl)
theorem dX9_yearOf_203 : decode cX9_yearOf 203 = .ok (.bipush 8, 2) := dk_16 8 (dk_at dksX9_yearOf_8 17 rfl rfl)
theorem dX9_yearOf_205 : decode cX9_yearOf 205 = .ok (.iload_n 2, 1) := dk_28 (dk_at dksX9_yearOf_8 19 rfl rfl)
theorem dX9_yearOf_206 : decode cX9_yearOf 206 = .ok (.iadd, 1) := dk_96 (dk_at dksX9_yearOf_8 20 rfl rfl)
theorem dX9_yearOf_207 : decode cX9_yearOf 207 = .ok (.dup2, 1) := dk_92 (dk_at dksX9_yearOf_8 21 rfl rfl)
theorem dX9_yearOf_208 : decode cX9_yearOf 208 = .ok (.iaload, 1) := dk_46 (dk_at dksX9_yearOf_8 22 rfl rfl)
theorem dX9_yearOf_209 : decode cX9_yearOf 209 = .ok (.aload_n 0, 1) := dk_42 (dk_at dksX9_yearOf_8 23 rfl rfl)
theorem dX9_yearOf_210 : decode cX9_yearOf 210 = .ok (.aload_n 1, 1) := dk_43 (dk_at dksX9_yearOf_9 0 rfl rfl)
theorem dX9_yearOf_211 : decode cX9_yearOf 211 = .ok (.iload_n 2, 1) := dk_28 (dk_at dksX9_yearOf_9 1 rfl rfl)
theorem dX9_yearOf_212 : decode cX9_yearOf 212 = .ok (.aload_n 0, 1) := dk_42 (dk_at dksX9_yearOf_9 2 rfl rfl)
theorem dX9_yearOf_213 : decode cX9_yearOf 213 = .ok (.getfield 417, 3) := dk_180 1 161 (dk_at dksX9_yearOf_9 3 rfl rfl)
theorem dX9_yearOf_216 : decode cX9_yearOf 216 = .ok (.getfield 364, 3) := dk_180 1 108 (dk_at dksX9_yearOf_9 6 rfl rfl)
theorem dX9_yearOf_219 : decode cX9_yearOf 219 = .ok (.iload_n 2, 1) := dk_28 (dk_at dksX9_yearOf_9 9 rfl rfl)
theorem dX9_yearOf_220 : decode cX9_yearOf 220 = .ok (.iaload, 1) := dk_46 (dk_at dksX9_yearOf_9 10 rfl rfl)
theorem dX9_yearOf_221 : decode cX9_yearOf 221 = .ok (.invokevirtual 501, 3) := dk_182 1 245 (dk_at dksX9_yearOf_9 11 rfl rfl)
theorem dX9_yearOf_224 : decode cX9_yearOf 224 = .ok (.isub, 1) := dk_100 (dk_at dksX9_yearOf_9 14 rfl rfl)
theorem dX9_yearOf_225 : decode cX9_yearOf 225 = .ok (.iastore, 1) := dk_79 (dk_at dksX9_yearOf_9 15 rfl rfl)
theorem dX9_yearOf_226 : decode cX9_yearOf 226 = .ok (.aload_n 1, 1) := dk_43 (dk_at dksX9_yearOf_9 16 rfl rfl)
theorem dX9_yearOf_227 : decode cX9_yearOf 227 = .ok (.iload_n 2, 1) := dk_28 (dk_at dksX9_yearOf_9 17 rfl rfl)
theorem dX9_yearOf_228 : decode cX9_yearOf 228 = .ok (.aload_n 0, 1) := dk_42 (dk_at dksX9_yearOf_9 18 rfl rfl)
theorem dX9_yearOf_229 : decode cX9_yearOf 229 = .ok (.getfield 417, 3) := dk_180 1 161 (dk_at dksX9_yearOf_9 19 rfl rfl)
theorem dX9_yearOf_232 : decode cX9_yearOf 232 = .ok (.getfield 364, 3) := dk_180 1 108 (dk_at dksX9_yearOf_10 0 rfl rfl)
theorem dX9_yearOf_235 : decode cX9_yearOf 235 = .ok (.iload_n 2, 1) := dk_28 (dk_at dksX9_yearOf_10 3 rfl rfl)
theorem dX9_yearOf_236 : decode cX9_yearOf 236 = .ok (.iaload, 1) := dk_46 (dk_at dksX9_yearOf_10 4 rfl rfl)
theorem dX9_yearOf_237 : decode cX9_yearOf 237 = .ok (.aload_n 0, 1) := dk_42 (dk_at dksX9_yearOf_10 5 rfl rfl)
theorem dX9_yearOf_238 : decode cX9_yearOf 238 = .ok (.getfield 475, 3) := dk_180 1 219 (dk_at dksX9_yearOf_10 6 rfl rfl)
theorem dX9_yearOf_241 : decode cX9_yearOf 241 = .ok (.aload_n 0, 1) := dk_42 (dk_at dksX9_yearOf_10 9 rfl rfl)
theorem dX9_yearOf_242 : decode cX9_yearOf 242 = .ok (.getfield 478, 3) := dk_180 1 222 (dk_at dksX9_yearOf_10 10 rfl rfl)
theorem dX9_yearOf_245 : decode cX9_yearOf 245 = .ok (.aload_n 1, 1) := dk_43 (dk_at dksX9_yearOf_10 13 rfl rfl)
theorem dX9_yearOf_246 : decode cX9_yearOf 246 = .ok (.iconst 4, 1) := dk_7 (dk_at dksX9_yearOf_10 14 rfl rfl)
theorem dX9_yearOf_247 : decode cX9_yearOf 247 = .ok (.iload_n 2, 1) := dk_28 (dk_at dksX9_yearOf_10 15 rfl rfl)
theorem dX9_yearOf_248 : decode cX9_yearOf 248 = .ok (.iadd, 1) := dk_96 (dk_at dksX9_yearOf_10 16 rfl rfl)
theorem dX9_yearOf_249 : decode cX9_yearOf 249 = .ok (.iaload, 1) := dk_46 (dk_at dksX9_yearOf_10 17 rfl rfl)
theorem dX9_yearOf_250 : decode cX9_yearOf 250 = .ok (.bipush 10, 2) := dk_16 10 (dk_at dksX9_yearOf_10 18 rfl rfl)
theorem dX9_yearOf_252 : decode cX9_yearOf 252 = .ok (.irem, 1) := dk_112 (dk_at dksX9_yearOf_10 20 rfl rfl)
theorem dX9_yearOf_253 : decode cX9_yearOf 253 = .ok (.aload_n 1, 1) := dk_43 (dk_at dksX9_yearOf_10 21 rfl rfl)
theorem dX9_yearOf_254 : decode cX9_yearOf 254 = .ok (.sipush 210, 3) := dk_17 0 210 (dk_at dksX9_yearOf_11 0 rfl rfl)
theorem dX9_yearOf_257 : decode cX9_yearOf 257 = .ok (.iaload, 1) := dk_46 (dk_at dksX9_yearOf_11 3 rfl rfl)
theorem dX9_yearOf_258 : decode cX9_yearOf 258 = .ok (.invokestatic 384, 3) := dk_184 1 128 (dk_at dksX9_yearOf_11 4 rfl rfl)
theorem dX9_yearOf_261 : decode cX9_yearOf 261 = .ok (.return_, 1) := dk_177 (dk_at dksX9_yearOf_11 7 rfl rfl)
abbrev cX9_drawn : ByteArray := prog_20_method_66_code
def yX9_drawn : MethodName := ⟨RX9, "drawn", "([I)I"⟩
def dkwX9_drawn_1 : List UInt8 := [42, 17, 0, 211, 46, 16, 100, 112, 172]
abbrev dktX9_drawn_1 : List UInt8 := dkwX9_drawn_1 ++ []
def dkwX9_drawn_0 : List UInt8 := [42, 17, 0, 211, 20, 1, 225, 42, 17, 0, 211, 46, 133, 105, 20, 1, 227, 97, 20, 1, 229, 113, 136, 79]
abbrev dktX9_drawn_0 : List UInt8 := dkwX9_drawn_0 ++ dktX9_drawn_1
theorem dksX9_drawn_0 : cX9_drawn.data.toList.drop 0 = dktX9_drawn_0 := by decide +kernel
theorem dksX9_drawn_1 : cX9_drawn.data.toList.drop 24 = dktX9_drawn_1 := dk_seg dksX9_drawn_0 24 rfl rfl
theorem dX9_drawn_0 : decode cX9_drawn 0 = .ok (.aload_n 0, 1) := dk_42 (dk_at dksX9_drawn_0 0 rfl rfl)
theorem dX9_drawn_1 : decode cX9_drawn 1 = .ok (.sipush 211, 3) := dk_17 0 211 (dk_at dksX9_drawn_0 1 rfl rfl)
theorem dX9_drawn_4 : decode cX9_drawn 4 = .ok (.ldc2_w 481, 3) := dk_20 1 225 (dk_at dksX9_drawn_0 4 rfl rfl)
theorem dX9_drawn_7 : decode cX9_drawn 7 = .ok (.aload_n 0, 1) := dk_42 (dk_at dksX9_drawn_0 7 rfl rfl)
theorem dX9_drawn_8 : decode cX9_drawn 8 = .ok (.sipush 211, 3) := dk_17 0 211 (dk_at dksX9_drawn_0 8 rfl rfl)
theorem dX9_drawn_11 : decode cX9_drawn 11 = .ok (.iaload, 1) := dk_46 (dk_at dksX9_drawn_0 11 rfl rfl)
theorem dX9_drawn_12 : decode cX9_drawn 12 = .ok (.i2l, 1) := dk_133 (dk_at dksX9_drawn_0 12 rfl rfl)
theorem dX9_drawn_13 : decode cX9_drawn 13 = .ok (.lmul, 1) := dk_105 (dk_at dksX9_drawn_0 13 rfl rfl)
theorem dX9_drawn_14 : decode cX9_drawn 14 = .ok (.ldc2_w 483, 3) := dk_20 1 227 (dk_at dksX9_drawn_0 14 rfl rfl)
theorem dX9_drawn_17 : decode cX9_drawn 17 = .ok (.ladd, 1) := dk_97 (dk_at dksX9_drawn_0 17 rfl rfl)
theorem dX9_drawn_18 : decode cX9_drawn 18 = .ok (.ldc2_w 485, 3) := dk_20 1 229 (dk_at dksX9_drawn_0 18 rfl rfl)
theorem dX9_drawn_21 : decode cX9_drawn 21 = .ok (.lrem, 1) := dk_113 (dk_at dksX9_drawn_0 21 rfl rfl)
theorem dX9_drawn_22 : decode cX9_drawn 22 = .ok (.l2i, 1) := dk_136 (dk_at dksX9_drawn_0 22 rfl rfl)
theorem dX9_drawn_23 : decode cX9_drawn 23 = .ok (.iastore, 1) := dk_79 (dk_at dksX9_drawn_0 23 rfl rfl)
theorem dX9_drawn_24 : decode cX9_drawn 24 = .ok (.aload_n 0, 1) := dk_42 (dk_at dksX9_drawn_1 0 rfl rfl)
theorem dX9_drawn_25 : decode cX9_drawn 25 = .ok (.sipush 211, 3) := dk_17 0 211 (dk_at dksX9_drawn_1 1 rfl rfl)
theorem dX9_drawn_28 : decode cX9_drawn 28 = .ok (.iaload, 1) := dk_46 (dk_at dksX9_drawn_1 4 rfl rfl)
theorem dX9_drawn_29 : decode cX9_drawn 29 = .ok (.bipush 100, 2) := dk_16 100 (dk_at dksX9_drawn_1 5 rfl rfl)
theorem dX9_drawn_31 : decode cX9_drawn 31 = .ok (.irem, 1) := dk_112 (dk_at dksX9_drawn_1 7 rfl rfl)
theorem dX9_drawn_32 : decode cX9_drawn 32 = .ok (.ireturn, 1) := dk_172 (dk_at dksX9_drawn_1 8 rfl rfl)
abbrev cX9_rots : ByteArray := prog_20_method_69_code
def yX9_rots : MethodName := ⟨RX9, "rots", "([III)V"⟩
def dkwX9_rots_5 : List UInt8 := [180, 1, 161, 180, 1, 85, 21, 4, 46, 161, 0, 12, 43, 28, 29, 8, 184, 1, 169, 4, 79, 177]
abbrev dktX9_rots_5 : List UInt8 := dkwX9_rots_5 ++ []
def dkwX9_rots_4 : List UInt8 := [21, 4, 46, 4, 160, 0, 7, 5, 167, 0, 4, 4, 96, 79, 43, 28, 29, 7, 184, 1, 169, 46, 42]
abbrev dktX9_rots_4 : List UInt8 := dkwX9_rots_4 ++ dktX9_rots_5
def dkwX9_rots_3 : List UInt8 := [184, 1, 169, 46, 4, 160, 0, 33, 43, 28, 29, 7, 184, 1, 169, 92, 46, 42, 180, 1, 161, 180, 1, 76]
abbrev dktX9_rots_3 : List UInt8 := dkwX9_rots_3 ++ dktX9_rots_4
def dkwX9_rots_2 : List UInt8 := [180, 1, 161, 180, 1, 83, 21, 4, 46, 96, 79, 29, 4, 164, 0, 47, 43, 28, 29, 4, 100, 8]
abbrev dktX9_rots_2 : List UInt8 := dkwX9_rots_2 ++ dktX9_rots_3
def dkwX9_rots_1 : List UInt8 := [160, 0, 4, 177, 43, 28, 29, 3, 184, 1, 169, 46, 54, 4, 43, 28, 29, 7, 184, 1, 169, 92, 46, 42]
abbrev dktX9_rots_1 : List UInt8 := dkwX9_rots_1 ++ dktX9_rots_2
def dkwX9_rots_0 : List UInt8 := [43, 28, 29, 8, 184, 1, 169, 46, 4, 159, 0, 16, 43, 28, 29, 16, 6, 184, 1, 169, 46, 4]
abbrev dktX9_rots_0 : List UInt8 := dkwX9_rots_0 ++ dktX9_rots_1
theorem dksX9_rots_0 : cX9_rots.data.toList.drop 0 = dktX9_rots_0 := by decide +kernel
theorem dksX9_rots_1 : cX9_rots.data.toList.drop 22 = dktX9_rots_1 := dk_seg dksX9_rots_0 22 rfl rfl
theorem dksX9_rots_2 : cX9_rots.data.toList.drop 46 = dktX9_rots_2 := dk_seg dksX9_rots_1 24 rfl rfl
theorem dksX9_rots_3 : cX9_rots.data.toList.drop 68 = dktX9_rots_3 := dk_seg dksX9_rots_2 22 rfl rfl
theorem dksX9_rots_4 : cX9_rots.data.toList.drop 92 = dktX9_rots_4 := dk_seg dksX9_rots_3 24 rfl rfl
theorem dksX9_rots_5 : cX9_rots.data.toList.drop 115 = dktX9_rots_5 := dk_seg dksX9_rots_4 23 rfl rfl
theorem dX9_rots_0 : decode cX9_rots 0 = .ok (.aload_n 1, 1) := dk_43 (dk_at dksX9_rots_0 0 rfl rfl)
theorem dX9_rots_1 : decode cX9_rots 1 = .ok (.iload_n 2, 1) := dk_28 (dk_at dksX9_rots_0 1 rfl rfl)
theorem dX9_rots_2 : decode cX9_rots 2 = .ok (.iload_n 3, 1) := dk_29 (dk_at dksX9_rots_0 2 rfl rfl)
theorem dX9_rots_3 : decode cX9_rots 3 = .ok (.iconst 5, 1) := dk_8 (dk_at dksX9_rots_0 3 rfl rfl)
theorem dX9_rots_4 : decode cX9_rots 4 = .ok (.invokestatic 425, 3) := dk_184 1 169 (dk_at dksX9_rots_0 4 rfl rfl)
theorem dX9_rots_7 : decode cX9_rots 7 = .ok (.iaload, 1) := dk_46 (dk_at dksX9_rots_0 7 rfl rfl)
theorem dX9_rots_8 : decode cX9_rots 8 = .ok (.iconst 1, 1) := dk_4 (dk_at dksX9_rots_0 8 rfl rfl)
theorem dX9_rots_9 : decode cX9_rots 9 = .ok (.if_icmp .eq 16, 3) := dk_159 0 16 (dk_at dksX9_rots_0 9 rfl rfl)
theorem dX9_rots_12 : decode cX9_rots 12 = .ok (.aload_n 1, 1) := dk_43 (dk_at dksX9_rots_0 12 rfl rfl)
theorem dX9_rots_13 : decode cX9_rots 13 = .ok (.iload_n 2, 1) := dk_28 (dk_at dksX9_rots_0 13 rfl rfl)
theorem dX9_rots_14 : decode cX9_rots 14 = .ok (.iload_n 3, 1) := dk_29 (dk_at dksX9_rots_0 14 rfl rfl)
theorem dX9_rots_15 : decode cX9_rots 15 = .ok (.bipush 6, 2) := dk_16 6 (dk_at dksX9_rots_0 15 rfl rfl)
theorem dX9_rots_17 : decode cX9_rots 17 = .ok (.invokestatic 425, 3) := dk_184 1 169 (dk_at dksX9_rots_0 17 rfl rfl)
theorem dX9_rots_20 : decode cX9_rots 20 = .ok (.iaload, 1) := dk_46 (dk_at dksX9_rots_0 20 rfl rfl)
theorem dX9_rots_21 : decode cX9_rots 21 = .ok (.iconst 1, 1) := dk_4 (dk_at dksX9_rots_0 21 rfl rfl)
theorem dX9_rots_22 : decode cX9_rots 22 = .ok (.if_icmp .ne 4, 3) := dk_160 0 4 (dk_at dksX9_rots_1 0 rfl rfl)
theorem dX9_rots_25 : decode cX9_rots 25 = .ok (.return_, 1) := dk_177 (dk_at dksX9_rots_1 3 rfl rfl)
theorem dX9_rots_26 : decode cX9_rots 26 = .ok (.aload_n 1, 1) := dk_43 (dk_at dksX9_rots_1 4 rfl rfl)
theorem dX9_rots_27 : decode cX9_rots 27 = .ok (.iload_n 2, 1) := dk_28 (dk_at dksX9_rots_1 5 rfl rfl)
theorem dX9_rots_28 : decode cX9_rots 28 = .ok (.iload_n 3, 1) := dk_29 (dk_at dksX9_rots_1 6 rfl rfl)
theorem dX9_rots_29 : decode cX9_rots 29 = .ok (.iconst 0, 1) := dk_3 (dk_at dksX9_rots_1 7 rfl rfl)
theorem dX9_rots_30 : decode cX9_rots 30 = .ok (.invokestatic 425, 3) := dk_184 1 169 (dk_at dksX9_rots_1 8 rfl rfl)
theorem dX9_rots_33 : decode cX9_rots 33 = .ok (.iaload, 1) := dk_46 (dk_at dksX9_rots_1 11 rfl rfl)
theorem dX9_rots_34 : decode cX9_rots 34 = .ok (.istore 4, 2) := dk_54 4 (dk_at dksX9_rots_1 12 rfl rfl)
theorem dX9_rots_36 : decode cX9_rots 36 = .ok (.aload_n 1, 1) := dk_43 (dk_at dksX9_rots_1 14 rfl rfl)
theorem dX9_rots_37 : decode cX9_rots 37 = .ok (.iload_n 2, 1) := dk_28 (dk_at dksX9_rots_1 15 rfl rfl)
theorem dX9_rots_38 : decode cX9_rots 38 = .ok (.iload_n 3, 1) := dk_29 (dk_at dksX9_rots_1 16 rfl rfl)
theorem dX9_rots_39 : decode cX9_rots 39 = .ok (.iconst 4, 1) := dk_7 (dk_at dksX9_rots_1 17 rfl rfl)
theorem dX9_rots_40 : decode cX9_rots 40 = .ok (.invokestatic 425, 3) := dk_184 1 169 (dk_at dksX9_rots_1 18 rfl rfl)
theorem dX9_rots_43 : decode cX9_rots 43 = .ok (.dup2, 1) := dk_92 (dk_at dksX9_rots_1 21 rfl rfl)
theorem dX9_rots_44 : decode cX9_rots 44 = .ok (.iaload, 1) := dk_46 (dk_at dksX9_rots_1 22 rfl rfl)
theorem dX9_rots_45 : decode cX9_rots 45 = .ok (.aload_n 0, 1) := dk_42 (dk_at dksX9_rots_1 23 rfl rfl)
theorem dX9_rots_46 : decode cX9_rots 46 = .ok (.getfield 417, 3) := dk_180 1 161 (dk_at dksX9_rots_2 0 rfl rfl)
theorem dX9_rots_49 : decode cX9_rots 49 = .ok (.getfield 339, 3) := dk_180 1 83 (dk_at dksX9_rots_2 3 rfl rfl)
theorem dX9_rots_52 : decode cX9_rots 52 = .ok (.iload 4, 2) := dk_21 4 (dk_at dksX9_rots_2 6 rfl rfl)
theorem dX9_rots_54 : decode cX9_rots 54 = .ok (.iaload, 1) := dk_46 (dk_at dksX9_rots_2 8 rfl rfl)
theorem dX9_rots_55 : decode cX9_rots 55 = .ok (.iadd, 1) := dk_96 (dk_at dksX9_rots_2 9 rfl rfl)
theorem dX9_rots_56 : decode cX9_rots 56 = .ok (.iastore, 1) := dk_79 (dk_at dksX9_rots_2 10 rfl rfl)
theorem dX9_rots_57 : decode cX9_rots 57 = .ok (.iload_n 3, 1) := dk_29 (dk_at dksX9_rots_2 11 rfl rfl)
theorem dX9_rots_58 : decode cX9_rots 58 = .ok (.iconst 1, 1) := dk_4 (dk_at dksX9_rots_2 12 rfl rfl)
theorem dX9_rots_59 : decode cX9_rots 59 = .ok (.if_icmp .le 47, 3) := dk_164 0 47 (dk_at dksX9_rots_2 13 rfl rfl)
theorem dX9_rots_62 : decode cX9_rots 62 = .ok (.aload_n 1, 1) := dk_43 (dk_at dksX9_rots_2 16 rfl rfl)
theorem dX9_rots_63 : decode cX9_rots 63 = .ok (.iload_n 2, 1) := dk_28 (dk_at dksX9_rots_2 17 rfl rfl)
theorem dX9_rots_64 : decode cX9_rots 64 = .ok (.iload_n 3, 1) := dk_29 (dk_at dksX9_rots_2 18 rfl rfl)
theorem dX9_rots_65 : decode cX9_rots 65 = .ok (.iconst 1, 1) := dk_4 (dk_at dksX9_rots_2 19 rfl rfl)
theorem dX9_rots_66 : decode cX9_rots 66 = .ok (.isub, 1) := dk_100 (dk_at dksX9_rots_2 20 rfl rfl)
theorem dX9_rots_67 : decode cX9_rots 67 = .ok (.iconst 5, 1) := dk_8 (dk_at dksX9_rots_2 21 rfl rfl)
theorem dX9_rots_68 : decode cX9_rots 68 = .ok (.invokestatic 425, 3) := dk_184 1 169 (dk_at dksX9_rots_3 0 rfl rfl)
theorem dX9_rots_71 : decode cX9_rots 71 = .ok (.iaload, 1) := dk_46 (dk_at dksX9_rots_3 3 rfl rfl)
theorem dX9_rots_72 : decode cX9_rots 72 = .ok (.iconst 1, 1) := dk_4 (dk_at dksX9_rots_3 4 rfl rfl)
theorem dX9_rots_73 : decode cX9_rots 73 = .ok (.if_icmp .ne 33, 3) := dk_160 0 33 (dk_at dksX9_rots_3 5 rfl rfl)
theorem dX9_rots_76 : decode cX9_rots 76 = .ok (.aload_n 1, 1) := dk_43 (dk_at dksX9_rots_3 8 rfl rfl)
theorem dX9_rots_77 : decode cX9_rots 77 = .ok (.iload_n 2, 1) := dk_28 (dk_at dksX9_rots_3 9 rfl rfl)
theorem dX9_rots_78 : decode cX9_rots 78 = .ok (.iload_n 3, 1) := dk_29 (dk_at dksX9_rots_3 10 rfl rfl)
theorem dX9_rots_79 : decode cX9_rots 79 = .ok (.iconst 4, 1) := dk_7 (dk_at dksX9_rots_3 11 rfl rfl)
theorem dX9_rots_80 : decode cX9_rots 80 = .ok (.invokestatic 425, 3) := dk_184 1 169 (dk_at dksX9_rots_3 12 rfl rfl)
theorem dX9_rots_83 : decode cX9_rots 83 = .ok (.dup2, 1) := dk_92 (dk_at dksX9_rots_3 15 rfl rfl)
theorem dX9_rots_84 : decode cX9_rots 84 = .ok (.iaload, 1) := dk_46 (dk_at dksX9_rots_3 16 rfl rfl)
theorem dX9_rots_85 : decode cX9_rots 85 = .ok (.aload_n 0, 1) := dk_42 (dk_at dksX9_rots_3 17 rfl rfl)
theorem dX9_rots_86 : decode cX9_rots 86 = .ok (.getfield 417, 3) := dk_180 1 161 (dk_at dksX9_rots_3 18 rfl rfl)
theorem dX9_rots_89 : decode cX9_rots 89 = .ok (.getfield 332, 3) := dk_180 1 76 (dk_at dksX9_rots_3 21 rfl rfl)
theorem dX9_rots_92 : decode cX9_rots 92 = .ok (.iload 4, 2) := dk_21 4 (dk_at dksX9_rots_4 0 rfl rfl)
theorem dX9_rots_94 : decode cX9_rots 94 = .ok (.iaload, 1) := dk_46 (dk_at dksX9_rots_4 2 rfl rfl)
theorem dX9_rots_95 : decode cX9_rots 95 = .ok (.iconst 1, 1) := dk_4 (dk_at dksX9_rots_4 3 rfl rfl)
theorem dX9_rots_96 : decode cX9_rots 96 = .ok (.if_icmp .ne 7, 3) := dk_160 0 7 (dk_at dksX9_rots_4 4 rfl rfl)
theorem dX9_rots_99 : decode cX9_rots 99 = .ok (.iconst 2, 1) := dk_5 (dk_at dksX9_rots_4 7 rfl rfl)
theorem dX9_rots_100 : decode cX9_rots 100 = .ok (.goto 4, 3) := dk_167 0 4 (dk_at dksX9_rots_4 8 rfl rfl)
theorem dX9_rots_103 : decode cX9_rots 103 = .ok (.iconst 1, 1) := dk_4 (dk_at dksX9_rots_4 11 rfl rfl)
theorem dX9_rots_104 : decode cX9_rots 104 = .ok (.iadd, 1) := dk_96 (dk_at dksX9_rots_4 12 rfl rfl)
theorem dX9_rots_105 : decode cX9_rots 105 = .ok (.iastore, 1) := dk_79 (dk_at dksX9_rots_4 13 rfl rfl)
theorem dX9_rots_106 : decode cX9_rots 106 = .ok (.aload_n 1, 1) := dk_43 (dk_at dksX9_rots_4 14 rfl rfl)
theorem dX9_rots_107 : decode cX9_rots 107 = .ok (.iload_n 2, 1) := dk_28 (dk_at dksX9_rots_4 15 rfl rfl)
theorem dX9_rots_108 : decode cX9_rots 108 = .ok (.iload_n 3, 1) := dk_29 (dk_at dksX9_rots_4 16 rfl rfl)
theorem dX9_rots_109 : decode cX9_rots 109 = .ok (.iconst 4, 1) := dk_7 (dk_at dksX9_rots_4 17 rfl rfl)
theorem dX9_rots_110 : decode cX9_rots 110 = .ok (.invokestatic 425, 3) := dk_184 1 169 (dk_at dksX9_rots_4 18 rfl rfl)
theorem dX9_rots_113 : decode cX9_rots 113 = .ok (.iaload, 1) := dk_46 (dk_at dksX9_rots_4 21 rfl rfl)
theorem dX9_rots_114 : decode cX9_rots 114 = .ok (.aload_n 0, 1) := dk_42 (dk_at dksX9_rots_4 22 rfl rfl)
theorem dX9_rots_115 : decode cX9_rots 115 = .ok (.getfield 417, 3) := dk_180 1 161 (dk_at dksX9_rots_5 0 rfl rfl)
theorem dX9_rots_118 : decode cX9_rots 118 = .ok (.getfield 341, 3) := dk_180 1 85 (dk_at dksX9_rots_5 3 rfl rfl)
theorem dX9_rots_121 : decode cX9_rots 121 = .ok (.iload 4, 2) := dk_21 4 (dk_at dksX9_rots_5 6 rfl rfl)
theorem dX9_rots_123 : decode cX9_rots 123 = .ok (.iaload, 1) := dk_46 (dk_at dksX9_rots_5 8 rfl rfl)
theorem dX9_rots_124 : decode cX9_rots 124 = .ok (.if_icmp .lt 12, 3) := dk_161 0 12 (dk_at dksX9_rots_5 9 rfl rfl)
theorem dX9_rots_127 : decode cX9_rots 127 = .ok (.aload_n 1, 1) := dk_43 (dk_at dksX9_rots_5 12 rfl rfl)
theorem dX9_rots_128 : decode cX9_rots 128 = .ok (.iload_n 2, 1) := dk_28 (dk_at dksX9_rots_5 13 rfl rfl)
theorem dX9_rots_129 : decode cX9_rots 129 = .ok (.iload_n 3, 1) := dk_29 (dk_at dksX9_rots_5 14 rfl rfl)
theorem dX9_rots_130 : decode cX9_rots 130 = .ok (.iconst 5, 1) := dk_8 (dk_at dksX9_rots_5 15 rfl rfl)
theorem dX9_rots_131 : decode cX9_rots 131 = .ok (.invokestatic 425, 3) := dk_184 1 169 (dk_at dksX9_rots_5 16 rfl rfl)
theorem dX9_rots_134 : decode cX9_rots 134 = .ok (.iconst 1, 1) := dk_4 (dk_at dksX9_rots_5 19 rfl rfl)
theorem dX9_rots_135 : decode cX9_rots 135 = .ok (.iastore, 1) := dk_79 (dk_at dksX9_rots_5 20 rfl rfl)
theorem dX9_rots_136 : decode cX9_rots 136 = .ok (.return_, 1) := dk_177 (dk_at dksX9_rots_5 21 rfl rfl)
abbrev cX9_skinsIn : ByteArray := prog_20_method_104_code
def yX9_skinsIn : MethodName := ⟨RX9, "skinsIn", "(I)I"⟩
def dkwX9_skinsIn_1 : List UInt8 := [42, 27, 182, 2, 57, 42, 42, 180, 0, 21, 184, 2, 60, 182, 0, 73, 172]
abbrev dktX9_skinsIn_1 : List UInt8 := dkwX9_skinsIn_1 ++ []
def dkwX9_skinsIn_0 : List UInt8 := [42, 3, 181, 0, 63, 42, 4, 27, 16, 60, 182, 2, 53, 61, 28, 158, 0, 9, 42, 28, 182, 0, 69, 172]
abbrev dktX9_skinsIn_0 : List UInt8 := dkwX9_skinsIn_0 ++ dktX9_skinsIn_1
theorem dksX9_skinsIn_0 : cX9_skinsIn.data.toList.drop 0 = dktX9_skinsIn_0 := by decide +kernel
theorem dksX9_skinsIn_1 : cX9_skinsIn.data.toList.drop 24 = dktX9_skinsIn_1 := dk_seg dksX9_skinsIn_0 24 rfl rfl
theorem dX9_skinsIn_0 : decode cX9_skinsIn 0 = .ok (.aload_n 0, 1) := dk_42 (dk_at dksX9_skinsIn_0 0 rfl rfl)
theorem dX9_skinsIn_1 : decode cX9_skinsIn 1 = .ok (.iconst 0, 1) := dk_3 (dk_at dksX9_skinsIn_0 1 rfl rfl)
theorem dX9_skinsIn_2 : decode cX9_skinsIn 2 = .ok (.putfield 63, 3) := dk_181 0 63 (dk_at dksX9_skinsIn_0 2 rfl rfl)
theorem dX9_skinsIn_5 : decode cX9_skinsIn 5 = .ok (.aload_n 0, 1) := dk_42 (dk_at dksX9_skinsIn_0 5 rfl rfl)
theorem dX9_skinsIn_6 : decode cX9_skinsIn 6 = .ok (.iconst 1, 1) := dk_4 (dk_at dksX9_skinsIn_0 6 rfl rfl)
theorem dX9_skinsIn_7 : decode cX9_skinsIn 7 = .ok (.iload_n 1, 1) := dk_27 (dk_at dksX9_skinsIn_0 7 rfl rfl)
theorem dX9_skinsIn_8 : decode cX9_skinsIn 8 = .ok (.bipush 60, 2) := dk_16 60 (dk_at dksX9_skinsIn_0 8 rfl rfl)
theorem dX9_skinsIn_10 : decode cX9_skinsIn 10 = .ok (.invokevirtual 565, 3) := dk_182 2 53 (dk_at dksX9_skinsIn_0 10 rfl rfl)
theorem dX9_skinsIn_13 : decode cX9_skinsIn 13 = .ok (.istore_n 2, 1) := dk_61 (dk_at dksX9_skinsIn_0 13 rfl rfl)
theorem dX9_skinsIn_14 : decode cX9_skinsIn 14 = .ok (.iload_n 2, 1) := dk_28 (dk_at dksX9_skinsIn_0 14 rfl rfl)
theorem dX9_skinsIn_15 : decode cX9_skinsIn 15 = .ok (.ifCond .le 9, 3) := dk_158 0 9 (dk_at dksX9_skinsIn_0 15 rfl rfl)
theorem dX9_skinsIn_18 : decode cX9_skinsIn 18 = .ok (.aload_n 0, 1) := dk_42 (dk_at dksX9_skinsIn_0 18 rfl rfl)
theorem dX9_skinsIn_19 : decode cX9_skinsIn 19 = .ok (.iload_n 2, 1) := dk_28 (dk_at dksX9_skinsIn_0 19 rfl rfl)
theorem dX9_skinsIn_20 : decode cX9_skinsIn 20 = .ok (.invokevirtual 69, 3) := dk_182 0 69 (dk_at dksX9_skinsIn_0 20 rfl rfl)
theorem dX9_skinsIn_23 : decode cX9_skinsIn 23 = .ok (.ireturn, 1) := dk_172 (dk_at dksX9_skinsIn_0 23 rfl rfl)
theorem dX9_skinsIn_24 : decode cX9_skinsIn 24 = .ok (.aload_n 0, 1) := dk_42 (dk_at dksX9_skinsIn_1 0 rfl rfl)
theorem dX9_skinsIn_25 : decode cX9_skinsIn 25 = .ok (.iload_n 1, 1) := dk_27 (dk_at dksX9_skinsIn_1 1 rfl rfl)
theorem dX9_skinsIn_26 : decode cX9_skinsIn 26 = .ok (.invokevirtual 569, 3) := dk_182 2 57 (dk_at dksX9_skinsIn_1 2 rfl rfl)
theorem dX9_skinsIn_29 : decode cX9_skinsIn 29 = .ok (.aload_n 0, 1) := dk_42 (dk_at dksX9_skinsIn_1 5 rfl rfl)
theorem dX9_skinsIn_30 : decode cX9_skinsIn 30 = .ok (.aload_n 0, 1) := dk_42 (dk_at dksX9_skinsIn_1 6 rfl rfl)
theorem dX9_skinsIn_31 : decode cX9_skinsIn 31 = .ok (.getfield 21, 3) := dk_180 0 21 (dk_at dksX9_skinsIn_1 7 rfl rfl)
theorem dX9_skinsIn_34 : decode cX9_skinsIn 34 = .ok (.invokestatic 572, 3) := dk_184 2 60 (dk_at dksX9_skinsIn_1 10 rfl rfl)
theorem dX9_skinsIn_37 : decode cX9_skinsIn 37 = .ok (.invokevirtual 73, 3) := dk_182 0 73 (dk_at dksX9_skinsIn_1 13 rfl rfl)
theorem dX9_skinsIn_40 : decode cX9_skinsIn 40 = .ok (.ireturn, 1) := dk_172 (dk_at dksX9_skinsIn_1 16 rfl rfl)
abbrev cX9_allSkins : ByteArray := prog_20_method_74_code
def yX9_allSkins : MethodName := ⟨RX9, "allSkins", "([I)I"⟩
def dkwX9_allSkins_1 : List UInt8 := [172]
abbrev dktX9_allSkins_1 : List UInt8 := dkwX9_allSkins_1 ++ []
def dkwX9_allSkins_0 : List UInt8 := [3, 60, 3, 61, 28, 7, 162, 0, 17, 27, 42, 3, 28, 96, 46, 96, 60, 132, 2, 1, 167, 255, 240, 27]
abbrev dktX9_allSkins_0 : List UInt8 := dkwX9_allSkins_0 ++ dktX9_allSkins_1
theorem dksX9_allSkins_0 : cX9_allSkins.data.toList.drop 0 = dktX9_allSkins_0 := by decide +kernel
theorem dksX9_allSkins_1 : cX9_allSkins.data.toList.drop 24 = dktX9_allSkins_1 := dk_seg dksX9_allSkins_0 24 rfl rfl
theorem dX9_allSkins_0 : decode cX9_allSkins 0 = .ok (.iconst 0, 1) := dk_3 (dk_at dksX9_allSkins_0 0 rfl rfl)
theorem dX9_allSkins_1 : decode cX9_allSkins 1 = .ok (.istore_n 1, 1) := dk_60 (dk_at dksX9_allSkins_0 1 rfl rfl)
theorem dX9_allSkins_2 : decode cX9_allSkins 2 = .ok (.iconst 0, 1) := dk_3 (dk_at dksX9_allSkins_0 2 rfl rfl)
theorem dX9_allSkins_3 : decode cX9_allSkins 3 = .ok (.istore_n 2, 1) := dk_61 (dk_at dksX9_allSkins_0 3 rfl rfl)
theorem dX9_allSkins_4 : decode cX9_allSkins 4 = .ok (.iload_n 2, 1) := dk_28 (dk_at dksX9_allSkins_0 4 rfl rfl)
theorem dX9_allSkins_5 : decode cX9_allSkins 5 = .ok (.iconst 4, 1) := dk_7 (dk_at dksX9_allSkins_0 5 rfl rfl)
theorem dX9_allSkins_6 : decode cX9_allSkins 6 = .ok (.if_icmp .ge 17, 3) := dk_162 0 17 (dk_at dksX9_allSkins_0 6 rfl rfl)
theorem dX9_allSkins_9 : decode cX9_allSkins 9 = .ok (.iload_n 1, 1) := dk_27 (dk_at dksX9_allSkins_0 9 rfl rfl)
theorem dX9_allSkins_10 : decode cX9_allSkins 10 = .ok (.aload_n 0, 1) := dk_42 (dk_at dksX9_allSkins_0 10 rfl rfl)
theorem dX9_allSkins_11 : decode cX9_allSkins 11 = .ok (.iconst 0, 1) := dk_3 (dk_at dksX9_allSkins_0 11 rfl rfl)
theorem dX9_allSkins_12 : decode cX9_allSkins 12 = .ok (.iload_n 2, 1) := dk_28 (dk_at dksX9_allSkins_0 12 rfl rfl)
theorem dX9_allSkins_13 : decode cX9_allSkins 13 = .ok (.iadd, 1) := dk_96 (dk_at dksX9_allSkins_0 13 rfl rfl)
theorem dX9_allSkins_14 : decode cX9_allSkins 14 = .ok (.iaload, 1) := dk_46 (dk_at dksX9_allSkins_0 14 rfl rfl)
theorem dX9_allSkins_15 : decode cX9_allSkins 15 = .ok (.iadd, 1) := dk_96 (dk_at dksX9_allSkins_0 15 rfl rfl)
theorem dX9_allSkins_16 : decode cX9_allSkins 16 = .ok (.istore_n 1, 1) := dk_60 (dk_at dksX9_allSkins_0 16 rfl rfl)
theorem dX9_allSkins_17 : decode cX9_allSkins 17 = .ok (.iinc 2 1, 3) := dk_132 2 1 (dk_at dksX9_allSkins_0 17 rfl rfl)
theorem dX9_allSkins_20 : decode cX9_allSkins 20 = .ok (.goto (-16), 3) := dk_167 255 240 (dk_at dksX9_allSkins_0 20 rfl rfl)
theorem dX9_allSkins_23 : decode cX9_allSkins 23 = .ok (.iload_n 1, 1) := dk_27 (dk_at dksX9_allSkins_0 23 rfl rfl)
theorem dX9_allSkins_24 : decode cX9_allSkins 24 = .ok (.ireturn, 1) := dk_172 (dk_at dksX9_allSkins_1 0 rfl rfl)
abbrev cX9_meet : ByteArray := prog_20_method_106_code
def yX9_meet : MethodName := ⟨RX9, "meet", "(III)I"⟩
def dkwX9_meet_4 : List UInt8 := [132, 5, 1, 167, 255, 219, 42, 16, 254, 182, 0, 73, 172]
abbrev dktX9_meet_4 : List UInt8 := dkwX9_meet_4 ++ []
def dkwX9_meet_3 : List UInt8 := [28, 182, 2, 63, 153, 0, 10, 42, 21, 5, 182, 0, 73, 172, 42, 42, 180, 0, 21, 182, 2, 2]
abbrev dktX9_meet_3 : List UInt8 := dkwX9_meet_3 ++ dktX9_meet_4
def dkwX9_meet_2 : List UInt8 := [182, 0, 69, 172, 42, 3, 182, 2, 57, 3, 54, 5, 21, 5, 29, 163, 0, 37, 42, 42, 180, 0, 21, 27]
abbrev dktX9_meet_2 : List UInt8 := dkwX9_meet_2 ++ dktX9_meet_3
def dkwX9_meet_1 : List UInt8 := [159, 0, 7, 4, 167, 0, 4, 3, 29, 16, 60, 182, 2, 53, 54, 4, 21, 4, 158, 0, 10, 42, 21, 4]
abbrev dktX9_meet_1 : List UInt8 := dkwX9_meet_1 ++ dktX9_meet_2
def dkwX9_meet_0 : List UInt8 := [42, 3, 181, 0, 63, 42, 42, 27, 182, 2, 6, 153, 0, 20, 42, 28, 182, 2, 6, 153, 0, 12, 27, 28]
abbrev dktX9_meet_0 : List UInt8 := dkwX9_meet_0 ++ dktX9_meet_1
theorem dksX9_meet_0 : cX9_meet.data.toList.drop 0 = dktX9_meet_0 := by decide +kernel
theorem dksX9_meet_1 : cX9_meet.data.toList.drop 24 = dktX9_meet_1 := dk_seg dksX9_meet_0 24 rfl rfl
theorem dksX9_meet_2 : cX9_meet.data.toList.drop 48 = dktX9_meet_2 := dk_seg dksX9_meet_1 24 rfl rfl
theorem dksX9_meet_3 : cX9_meet.data.toList.drop 72 = dktX9_meet_3 := dk_seg dksX9_meet_2 24 rfl rfl
theorem dksX9_meet_4 : cX9_meet.data.toList.drop 94 = dktX9_meet_4 := dk_seg dksX9_meet_3 22 rfl rfl
theorem dX9_meet_0 : decode cX9_meet 0 = .ok (.aload_n 0, 1) := dk_42 (dk_at dksX9_meet_0 0 rfl rfl)
theorem dX9_meet_1 : decode cX9_meet 1 = .ok (.iconst 0, 1) := dk_3 (dk_at dksX9_meet_0 1 rfl rfl)
theorem dX9_meet_2 : decode cX9_meet 2 = .ok (.putfield 63, 3) := dk_181 0 63 (dk_at dksX9_meet_0 2 rfl rfl)
theorem dX9_meet_5 : decode cX9_meet 5 = .ok (.aload_n 0, 1) := dk_42 (dk_at dksX9_meet_0 5 rfl rfl)
theorem dX9_meet_6 : decode cX9_meet 6 = .ok (.aload_n 0, 1) := dk_42 (dk_at dksX9_meet_0 6 rfl rfl)
theorem dX9_meet_7 : decode cX9_meet 7 = .ok (.iload_n 1, 1) := dk_27 (dk_at dksX9_meet_0 7 rfl rfl)
theorem dX9_meet_8 : decode cX9_meet 8 = .ok (.invokevirtual 518, 3) := dk_182 2 6 (dk_at dksX9_meet_0 8 rfl rfl)
theorem dX9_meet_11 : decode cX9_meet 11 = .ok (.ifCond .eq 20, 3) := dk_153 0 20 (dk_at dksX9_meet_0 11 rfl rfl)
theorem dX9_meet_14 : decode cX9_meet 14 = .ok (.aload_n 0, 1) := dk_42 (dk_at dksX9_meet_0 14 rfl rfl)
theorem dX9_meet_15 : decode cX9_meet 15 = .ok (.iload_n 2, 1) := dk_28 (dk_at dksX9_meet_0 15 rfl rfl)
theorem dX9_meet_16 : decode cX9_meet 16 = .ok (.invokevirtual 518, 3) := dk_182 2 6 (dk_at dksX9_meet_0 16 rfl rfl)
theorem dX9_meet_19 : decode cX9_meet 19 = .ok (.ifCond .eq 12, 3) := dk_153 0 12 (dk_at dksX9_meet_0 19 rfl rfl)
theorem dX9_meet_22 : decode cX9_meet 22 = .ok (.iload_n 1, 1) := dk_27 (dk_at dksX9_meet_0 22 rfl rfl)
theorem dX9_meet_23 : decode cX9_meet 23 = .ok (.iload_n 2, 1) := dk_28 (dk_at dksX9_meet_0 23 rfl rfl)
theorem dX9_meet_24 : decode cX9_meet 24 = .ok (.if_icmp .eq 7, 3) := dk_159 0 7 (dk_at dksX9_meet_1 0 rfl rfl)
theorem dX9_meet_27 : decode cX9_meet 27 = .ok (.iconst 1, 1) := dk_4 (dk_at dksX9_meet_1 3 rfl rfl)
theorem dX9_meet_28 : decode cX9_meet 28 = .ok (.goto 4, 3) := dk_167 0 4 (dk_at dksX9_meet_1 4 rfl rfl)
theorem dX9_meet_31 : decode cX9_meet 31 = .ok (.iconst 0, 1) := dk_3 (dk_at dksX9_meet_1 7 rfl rfl)
theorem dX9_meet_32 : decode cX9_meet 32 = .ok (.iload_n 3, 1) := dk_29 (dk_at dksX9_meet_1 8 rfl rfl)
theorem dX9_meet_33 : decode cX9_meet 33 = .ok (.bipush 60, 2) := dk_16 60 (dk_at dksX9_meet_1 9 rfl rfl)
theorem dX9_meet_35 : decode cX9_meet 35 = .ok (.invokevirtual 565, 3) := dk_182 2 53 (dk_at dksX9_meet_1 11 rfl rfl)
theorem dX9_meet_38 : decode cX9_meet 38 = .ok (.istore 4, 2) := dk_54 4 (dk_at dksX9_meet_1 14 rfl rfl)
theorem dX9_meet_40 : decode cX9_meet 40 = .ok (.iload 4, 2) := dk_21 4 (dk_at dksX9_meet_1 16 rfl rfl)
theorem dX9_meet_42 : decode cX9_meet 42 = .ok (.ifCond .le 10, 3) := dk_158 0 10 (dk_at dksX9_meet_1 18 rfl rfl)
theorem dX9_meet_45 : decode cX9_meet 45 = .ok (.aload_n 0, 1) := dk_42 (dk_at dksX9_meet_1 21 rfl rfl)
theorem dX9_meet_46 : decode cX9_meet 46 = .ok (.iload 4, 2) := dk_21 4 (dk_at dksX9_meet_1 22 rfl rfl)
theorem dX9_meet_48 : decode cX9_meet 48 = .ok (.invokevirtual 69, 3) := dk_182 0 69 (dk_at dksX9_meet_2 0 rfl rfl)
theorem dX9_meet_51 : decode cX9_meet 51 = .ok (.ireturn, 1) := dk_172 (dk_at dksX9_meet_2 3 rfl rfl)
theorem dX9_meet_52 : decode cX9_meet 52 = .ok (.aload_n 0, 1) := dk_42 (dk_at dksX9_meet_2 4 rfl rfl)
theorem dX9_meet_53 : decode cX9_meet 53 = .ok (.iconst 0, 1) := dk_3 (dk_at dksX9_meet_2 5 rfl rfl)
theorem dX9_meet_54 : decode cX9_meet 54 = .ok (.invokevirtual 569, 3) := dk_182 2 57 (dk_at dksX9_meet_2 6 rfl rfl)
theorem dX9_meet_57 : decode cX9_meet 57 = .ok (.iconst 0, 1) := dk_3 (dk_at dksX9_meet_2 9 rfl rfl)
theorem dX9_meet_58 : decode cX9_meet 58 = .ok (.istore 5, 2) := dk_54 5 (dk_at dksX9_meet_2 10 rfl rfl)
theorem dX9_meet_60 : decode cX9_meet 60 = .ok (.iload 5, 2) := dk_21 5 (dk_at dksX9_meet_2 12 rfl rfl)
theorem dX9_meet_62 : decode cX9_meet 62 = .ok (.iload_n 3, 1) := dk_29 (dk_at dksX9_meet_2 14 rfl rfl)
theorem dX9_meet_63 : decode cX9_meet 63 = .ok (.if_icmp .gt 37, 3) := dk_163 0 37 (dk_at dksX9_meet_2 15 rfl rfl)
theorem dX9_meet_66 : decode cX9_meet 66 = .ok (.aload_n 0, 1) := dk_42 (dk_at dksX9_meet_2 18 rfl rfl)
theorem dX9_meet_67 : decode cX9_meet 67 = .ok (.aload_n 0, 1) := dk_42 (dk_at dksX9_meet_2 19 rfl rfl)
theorem dX9_meet_68 : decode cX9_meet 68 = .ok (.getfield 21, 3) := dk_180 0 21 (dk_at dksX9_meet_2 20 rfl rfl)
theorem dX9_meet_71 : decode cX9_meet 71 = .ok (.iload_n 1, 1) := dk_27 (dk_at dksX9_meet_2 23 rfl rfl)
theorem dX9_meet_72 : decode cX9_meet 72 = .ok (.iload_n 2, 1) := dk_28 (dk_at dksX9_meet_3 0 rfl rfl)
theorem dX9_meet_73 : decode cX9_meet 73 = .ok (.invokevirtual 575, 3) := dk_182 2 63 (dk_at dksX9_meet_3 1 rfl rfl)
theorem dX9_meet_76 : decode cX9_meet 76 = .ok (.ifCond .eq 10, 3) := dk_153 0 10 (dk_at dksX9_meet_3 4 rfl rfl)
theorem dX9_meet_79 : decode cX9_meet 79 = .ok (.aload_n 0, 1) := dk_42 (dk_at dksX9_meet_3 7 rfl rfl)
theorem dX9_meet_80 : decode cX9_meet 80 = .ok (.iload 5, 2) := dk_21 5 (dk_at dksX9_meet_3 8 rfl rfl)
theorem dX9_meet_82 : decode cX9_meet 82 = .ok (.invokevirtual 73, 3) := dk_182 0 73 (dk_at dksX9_meet_3 10 rfl rfl)
theorem dX9_meet_85 : decode cX9_meet 85 = .ok (.ireturn, 1) := dk_172 (dk_at dksX9_meet_3 13 rfl rfl)
theorem dX9_meet_86 : decode cX9_meet 86 = .ok (.aload_n 0, 1) := dk_42 (dk_at dksX9_meet_3 14 rfl rfl)
theorem dX9_meet_87 : decode cX9_meet 87 = .ok (.aload_n 0, 1) := dk_42 (dk_at dksX9_meet_3 15 rfl rfl)
theorem dX9_meet_88 : decode cX9_meet 88 = .ok (.getfield 21, 3) := dk_180 0 21 (dk_at dksX9_meet_3 16 rfl rfl)
theorem dX9_meet_91 : decode cX9_meet 91 = .ok (.invokevirtual 514, 3) := dk_182 2 2 (dk_at dksX9_meet_3 19 rfl rfl)
theorem dX9_meet_94 : decode cX9_meet 94 = .ok (.iinc 5 1, 3) := dk_132 5 1 (dk_at dksX9_meet_4 0 rfl rfl)
theorem dX9_meet_97 : decode cX9_meet 97 = .ok (.goto (-37), 3) := dk_167 255 219 (dk_at dksX9_meet_4 3 rfl rfl)
theorem dX9_meet_100 : decode cX9_meet 100 = .ok (.aload_n 0, 1) := dk_42 (dk_at dksX9_meet_4 6 rfl rfl)
theorem dX9_meet_101 : decode cX9_meet 101 = .ok (.bipush (-2), 2) := dk_16 254 (dk_at dksX9_meet_4 7 rfl rfl)
theorem dX9_meet_103 : decode cX9_meet 103 = .ok (.invokevirtual 73, 3) := dk_182 0 73 (dk_at dksX9_meet_4 9 rfl rfl)
theorem dX9_meet_106 : decode cX9_meet 106 = .ok (.ireturn, 1) := dk_172 (dk_at dksX9_meet_4 12 rfl rfl)
abbrev cX9_doMeet : ByteArray := prog_20_method_105_code
def yX9_doMeet : MethodName := ⟨RX9, "doMeet", "([III)Z"⟩
def dkwX9_doMeet_5 : List UInt8 := [3, 29, 96, 46, 163, 0, 5, 4, 172, 132, 7, 1, 167, 255, 213, 132, 4, 1, 167, 255, 123, 3, 172]
abbrev dktX9_doMeet_5 : List UInt8 := dkwX9_doMeet_5 ++ []
def dkwX9_doMeet_4 : List UInt8 := [180, 1, 161, 29, 21, 5, 21, 7, 184, 1, 193, 96, 21, 6, 21, 7, 184, 1, 196, 96, 182, 1, 173, 43]
abbrev dktX9_doMeet_4 : List UInt8 := dkwX9_doMeet_4 ++ dktX9_doMeet_5
def dkwX9_doMeet_3 : List UInt8 := [182, 1, 173, 43, 3, 29, 96, 46, 163, 0, 5, 4, 172, 3, 54, 7, 21, 7, 7, 162, 0, 43, 42]
abbrev dktX9_doMeet_3 : List UInt8 := dkwX9_doMeet_3 ++ dktX9_doMeet_4
def dkwX9_doMeet_2 : List UInt8 := [182, 1, 173, 43, 3, 28, 96, 46, 164, 0, 6, 167, 0, 74, 42, 180, 1, 161, 29, 21, 5, 21, 6]
abbrev dktX9_doMeet_2 : List UInt8 := dkwX9_doMeet_2 ++ dktX9_doMeet_3
def dkwX9_doMeet_1 : List UInt8 := [112, 54, 5, 21, 4, 42, 180, 1, 161, 180, 0, 160, 108, 54, 6, 42, 180, 1, 161, 28, 21, 5, 21, 6]
abbrev dktX9_doMeet_1 : List UInt8 := dkwX9_doMeet_1 ++ dktX9_doMeet_2
def dkwX9_doMeet_0 : List UInt8 := [3, 54, 4, 21, 4, 42, 180, 1, 161, 182, 2, 12, 162, 0, 127, 21, 4, 42, 180, 1, 161, 180, 0, 160]
abbrev dktX9_doMeet_0 : List UInt8 := dkwX9_doMeet_0 ++ dktX9_doMeet_1
theorem dksX9_doMeet_0 : cX9_doMeet.data.toList.drop 0 = dktX9_doMeet_0 := by decide +kernel
theorem dksX9_doMeet_1 : cX9_doMeet.data.toList.drop 24 = dktX9_doMeet_1 := dk_seg dksX9_doMeet_0 24 rfl rfl
theorem dksX9_doMeet_2 : cX9_doMeet.data.toList.drop 48 = dktX9_doMeet_2 := dk_seg dksX9_doMeet_1 24 rfl rfl
theorem dksX9_doMeet_3 : cX9_doMeet.data.toList.drop 71 = dktX9_doMeet_3 := dk_seg dksX9_doMeet_2 23 rfl rfl
theorem dksX9_doMeet_4 : cX9_doMeet.data.toList.drop 94 = dktX9_doMeet_4 := dk_seg dksX9_doMeet_3 23 rfl rfl
theorem dksX9_doMeet_5 : cX9_doMeet.data.toList.drop 118 = dktX9_doMeet_5 := dk_seg dksX9_doMeet_4 24 rfl rfl
theorem dX9_doMeet_0 : decode cX9_doMeet 0 = .ok (.iconst 0, 1) := dk_3 (dk_at dksX9_doMeet_0 0 rfl rfl)
theorem dX9_doMeet_1 : decode cX9_doMeet 1 = .ok (.istore 4, 2) := dk_54 4 (dk_at dksX9_doMeet_0 1 rfl rfl)
theorem dX9_doMeet_3 : decode cX9_doMeet 3 = .ok (.iload 4, 2) := dk_21 4 (dk_at dksX9_doMeet_0 3 rfl rfl)
theorem dX9_doMeet_5 : decode cX9_doMeet 5 = .ok (.aload_n 0, 1) := dk_42 (dk_at dksX9_doMeet_0 5 rfl rfl)
theorem dX9_doMeet_6 : decode cX9_doMeet 6 = .ok (.getfield 417, 3) := dk_180 1 161 (dk_at dksX9_doMeet_0 6 rfl rfl)
theorem dX9_doMeet_9 : decode cX9_doMeet 9 = .ok (.invokevirtual 524, 3) := dk_182 2 12 (dk_at dksX9_doMeet_0 9 rfl rfl)
theorem dX9_doMeet_12 : decode cX9_doMeet 12 = .ok (.if_icmp .ge 127, 3) := dk_162 0 127 (dk_at dksX9_doMeet_0 12 rfl rfl)
theorem dX9_doMeet_15 : decode cX9_doMeet 15 = .ok (.iload 4, 2) := dk_21 4 (dk_at dksX9_doMeet_0 15 rfl rfl)
theorem dX9_doMeet_17 : decode cX9_doMeet 17 = .ok (.aload_n 0, 1) := dk_42 (dk_at dksX9_doMeet_0 17 rfl rfl)
theorem dX9_doMeet_18 : decode cX9_doMeet 18 = .ok (.getfield 417, 3) := dk_180 1 161 (dk_at dksX9_doMeet_0 18 rfl rfl)
theorem dX9_doMeet_21 : decode cX9_doMeet 21 = .ok (.getfield 160, 3) := dk_180 0 160 (dk_at dksX9_doMeet_0 21 rfl rfl)
theorem dX9_doMeet_24 : decode cX9_doMeet 24 = .ok (.irem, 1) := dk_112 (dk_at dksX9_doMeet_1 0 rfl rfl)
theorem dX9_doMeet_25 : decode cX9_doMeet 25 = .ok (.istore 5, 2) := dk_54 5 (dk_at dksX9_doMeet_1 1 rfl rfl)
theorem dX9_doMeet_27 : decode cX9_doMeet 27 = .ok (.iload 4, 2) := dk_21 4 (dk_at dksX9_doMeet_1 3 rfl rfl)
theorem dX9_doMeet_29 : decode cX9_doMeet 29 = .ok (.aload_n 0, 1) := dk_42 (dk_at dksX9_doMeet_1 5 rfl rfl)
theorem dX9_doMeet_30 : decode cX9_doMeet 30 = .ok (.getfield 417, 3) := dk_180 1 161 (dk_at dksX9_doMeet_1 6 rfl rfl)
theorem dX9_doMeet_33 : decode cX9_doMeet 33 = .ok (.getfield 160, 3) := dk_180 0 160 (dk_at dksX9_doMeet_1 9 rfl rfl)
theorem dX9_doMeet_36 : decode cX9_doMeet 36 = .ok (.idiv, 1) := dk_108 (dk_at dksX9_doMeet_1 12 rfl rfl)
theorem dX9_doMeet_37 : decode cX9_doMeet 37 = .ok (.istore 6, 2) := dk_54 6 (dk_at dksX9_doMeet_1 13 rfl rfl)
theorem dX9_doMeet_39 : decode cX9_doMeet 39 = .ok (.aload_n 0, 1) := dk_42 (dk_at dksX9_doMeet_1 15 rfl rfl)
theorem dX9_doMeet_40 : decode cX9_doMeet 40 = .ok (.getfield 417, 3) := dk_180 1 161 (dk_at dksX9_doMeet_1 16 rfl rfl)
theorem dX9_doMeet_43 : decode cX9_doMeet 43 = .ok (.iload_n 2, 1) := dk_28 (dk_at dksX9_doMeet_1 19 rfl rfl)
theorem dX9_doMeet_44 : decode cX9_doMeet 44 = .ok (.iload 5, 2) := dk_21 5 (dk_at dksX9_doMeet_1 20 rfl rfl)
theorem dX9_doMeet_46 : decode cX9_doMeet 46 = .ok (.iload 6, 2) := dk_21 6 (dk_at dksX9_doMeet_1 22 rfl rfl)
theorem dX9_doMeet_48 : decode cX9_doMeet 48 = .ok (.invokevirtual 429, 3) := dk_182 1 173 (dk_at dksX9_doMeet_2 0 rfl rfl)
theorem dX9_doMeet_51 : decode cX9_doMeet 51 = .ok (.aload_n 1, 1) := dk_43 (dk_at dksX9_doMeet_2 3 rfl rfl)
theorem dX9_doMeet_52 : decode cX9_doMeet 52 = .ok (.iconst 0, 1) := dk_3 (dk_at dksX9_doMeet_2 4 rfl rfl)
theorem dX9_doMeet_53 : decode cX9_doMeet 53 = .ok (.iload_n 2, 1) := dk_28 (dk_at dksX9_doMeet_2 5 rfl rfl)
theorem dX9_doMeet_54 : decode cX9_doMeet 54 = .ok (.iadd, 1) := dk_96 (dk_at dksX9_doMeet_2 6 rfl rfl)
theorem dX9_doMeet_55 : decode cX9_doMeet 55 = .ok (.iaload, 1) := dk_46 (dk_at dksX9_doMeet_2 7 rfl rfl)
theorem dX9_doMeet_56 : decode cX9_doMeet 56 = .ok (.if_icmp .le 6, 3) := dk_164 0 6 (dk_at dksX9_doMeet_2 8 rfl rfl)
theorem dX9_doMeet_59 : decode cX9_doMeet 59 = .ok (.goto 74, 3) := dk_167 0 74 (dk_at dksX9_doMeet_2 11 rfl rfl)
theorem dX9_doMeet_62 : decode cX9_doMeet 62 = .ok (.aload_n 0, 1) := dk_42 (dk_at dksX9_doMeet_2 14 rfl rfl)
theorem dX9_doMeet_63 : decode cX9_doMeet 63 = .ok (.getfield 417, 3) := dk_180 1 161 (dk_at dksX9_doMeet_2 15 rfl rfl)
theorem dX9_doMeet_66 : decode cX9_doMeet 66 = .ok (.iload_n 3, 1) := dk_29 (dk_at dksX9_doMeet_2 18 rfl rfl)
theorem dX9_doMeet_67 : decode cX9_doMeet 67 = .ok (.iload 5, 2) := dk_21 5 (dk_at dksX9_doMeet_2 19 rfl rfl)
theorem dX9_doMeet_69 : decode cX9_doMeet 69 = .ok (.iload 6, 2) := dk_21 6 (dk_at dksX9_doMeet_2 21 rfl rfl)
theorem dX9_doMeet_71 : decode cX9_doMeet 71 = .ok (.invokevirtual 429, 3) := dk_182 1 173 (dk_at dksX9_doMeet_3 0 rfl rfl)
theorem dX9_doMeet_74 : decode cX9_doMeet 74 = .ok (.aload_n 1, 1) := dk_43 (dk_at dksX9_doMeet_3 3 rfl rfl)
theorem dX9_doMeet_75 : decode cX9_doMeet 75 = .ok (.iconst 0, 1) := dk_3 (dk_at dksX9_doMeet_3 4 rfl rfl)
theorem dX9_doMeet_76 : decode cX9_doMeet 76 = .ok (.iload_n 3, 1) := dk_29 (dk_at dksX9_doMeet_3 5 rfl rfl)
theorem dX9_doMeet_77 : decode cX9_doMeet 77 = .ok (.iadd, 1) := dk_96 (dk_at dksX9_doMeet_3 6 rfl rfl)
theorem dX9_doMeet_78 : decode cX9_doMeet 78 = .ok (.iaload, 1) := dk_46 (dk_at dksX9_doMeet_3 7 rfl rfl)
theorem dX9_doMeet_79 : decode cX9_doMeet 79 = .ok (.if_icmp .gt 5, 3) := dk_163 0 5 (dk_at dksX9_doMeet_3 8 rfl rfl)
theorem dX9_doMeet_82 : decode cX9_doMeet 82 = .ok (.iconst 1, 1) := dk_4 (dk_at dksX9_doMeet_3 11 rfl rfl)
theorem dX9_doMeet_83 : decode cX9_doMeet 83 = .ok (.ireturn, 1) := dk_172 (dk_at dksX9_doMeet_3 12 rfl rfl)
theorem dX9_doMeet_84 : decode cX9_doMeet 84 = .ok (.iconst 0, 1) := dk_3 (dk_at dksX9_doMeet_3 13 rfl rfl)
theorem dX9_doMeet_85 : decode cX9_doMeet 85 = .ok (.istore 7, 2) := dk_54 7 (dk_at dksX9_doMeet_3 14 rfl rfl)
theorem dX9_doMeet_87 : decode cX9_doMeet 87 = .ok (.iload 7, 2) := dk_21 7 (dk_at dksX9_doMeet_3 16 rfl rfl)
theorem dX9_doMeet_89 : decode cX9_doMeet 89 = .ok (.iconst 4, 1) := dk_7 (dk_at dksX9_doMeet_3 18 rfl rfl)
theorem dX9_doMeet_90 : decode cX9_doMeet 90 = .ok (.if_icmp .ge 43, 3) := dk_162 0 43 (dk_at dksX9_doMeet_3 19 rfl rfl)
theorem dX9_doMeet_93 : decode cX9_doMeet 93 = .ok (.aload_n 0, 1) := dk_42 (dk_at dksX9_doMeet_3 22 rfl rfl)
theorem dX9_doMeet_94 : decode cX9_doMeet 94 = .ok (.getfield 417, 3) := dk_180 1 161 (dk_at dksX9_doMeet_4 0 rfl rfl)
theorem dX9_doMeet_97 : decode cX9_doMeet 97 = .ok (.iload_n 3, 1) := dk_29 (dk_at dksX9_doMeet_4 3 rfl rfl)
theorem dX9_doMeet_98 : decode cX9_doMeet 98 = .ok (.iload 5, 2) := dk_21 5 (dk_at dksX9_doMeet_4 4 rfl rfl)
theorem dX9_doMeet_100 : decode cX9_doMeet 100 = .ok (.iload 7, 2) := dk_21 7 (dk_at dksX9_doMeet_4 6 rfl rfl)
theorem dX9_doMeet_102 : decode cX9_doMeet 102 = .ok (.invokestatic 449, 3) := dk_184 1 193 (dk_at dksX9_doMeet_4 8 rfl rfl)
theorem dX9_doMeet_105 : decode cX9_doMeet 105 = .ok (.iadd, 1) := dk_96 (dk_at dksX9_doMeet_4 11 rfl rfl)
theorem dX9_doMeet_106 : decode cX9_doMeet 106 = .ok (.iload 6, 2) := dk_21 6 (dk_at dksX9_doMeet_4 12 rfl rfl)
theorem dX9_doMeet_108 : decode cX9_doMeet 108 = .ok (.iload 7, 2) := dk_21 7 (dk_at dksX9_doMeet_4 14 rfl rfl)
theorem dX9_doMeet_110 : decode cX9_doMeet 110 = .ok (.invokestatic 452, 3) := dk_184 1 196 (dk_at dksX9_doMeet_4 16 rfl rfl)
theorem dX9_doMeet_113 : decode cX9_doMeet 113 = .ok (.iadd, 1) := dk_96 (dk_at dksX9_doMeet_4 19 rfl rfl)
theorem dX9_doMeet_114 : decode cX9_doMeet 114 = .ok (.invokevirtual 429, 3) := dk_182 1 173 (dk_at dksX9_doMeet_4 20 rfl rfl)
theorem dX9_doMeet_117 : decode cX9_doMeet 117 = .ok (.aload_n 1, 1) := dk_43 (dk_at dksX9_doMeet_4 23 rfl rfl)
theorem dX9_doMeet_118 : decode cX9_doMeet 118 = .ok (.iconst 0, 1) := dk_3 (dk_at dksX9_doMeet_5 0 rfl rfl)
theorem dX9_doMeet_119 : decode cX9_doMeet 119 = .ok (.iload_n 3, 1) := dk_29 (dk_at dksX9_doMeet_5 1 rfl rfl)
theorem dX9_doMeet_120 : decode cX9_doMeet 120 = .ok (.iadd, 1) := dk_96 (dk_at dksX9_doMeet_5 2 rfl rfl)
theorem dX9_doMeet_121 : decode cX9_doMeet 121 = .ok (.iaload, 1) := dk_46 (dk_at dksX9_doMeet_5 3 rfl rfl)
theorem dX9_doMeet_122 : decode cX9_doMeet 122 = .ok (.if_icmp .gt 5, 3) := dk_163 0 5 (dk_at dksX9_doMeet_5 4 rfl rfl)
theorem dX9_doMeet_125 : decode cX9_doMeet 125 = .ok (.iconst 1, 1) := dk_4 (dk_at dksX9_doMeet_5 7 rfl rfl)
theorem dX9_doMeet_126 : decode cX9_doMeet 126 = .ok (.ireturn, 1) := dk_172 (dk_at dksX9_doMeet_5 8 rfl rfl)
theorem dX9_doMeet_127 : decode cX9_doMeet 127 = .ok (.iinc 7 1, 3) := dk_132 7 1 (dk_at dksX9_doMeet_5 9 rfl rfl)
theorem dX9_doMeet_130 : decode cX9_doMeet 130 = .ok (.goto (-43), 3) := dk_167 255 213 (dk_at dksX9_doMeet_5 12 rfl rfl)
theorem dX9_doMeet_133 : decode cX9_doMeet 133 = .ok (.iinc 4 1, 3) := dk_132 4 1 (dk_at dksX9_doMeet_5 15 rfl rfl)
theorem dX9_doMeet_136 : decode cX9_doMeet 136 = .ok (.goto (-133), 3) := dk_167 255 123 (dk_at dksX9_doMeet_5 18 rfl rfl)
theorem dX9_doMeet_139 : decode cX9_doMeet 139 = .ok (.iconst 0, 1) := dk_3 (dk_at dksX9_doMeet_5 21 rfl rfl)
theorem dX9_doMeet_140 : decode cX9_doMeet 140 = .ok (.ireturn, 1) := dk_172 (dk_at dksX9_doMeet_5 22 rfl rfl)
abbrev cX9_falls : ByteArray := prog_20_method_107_code
def yX9_falls : MethodName := ⟨RX9, "falls", "(III)I"⟩
def dkwX9_falls_3 : List UInt8 := [180, 0, 21, 182, 2, 2, 132, 5, 1, 167, 255, 217, 42, 16, 254, 182, 0, 73, 172]
abbrev dktX9_falls_3 : List UInt8 := dkwX9_falls_3 ++ []
def dkwX9_falls_2 : List UInt8 := [42, 180, 0, 21, 27, 28, 8, 184, 1, 169, 46, 4, 160, 0, 10, 42, 21, 5, 182, 0, 73, 172, 42, 42]
abbrev dktX9_falls_2 : List UInt8 := dkwX9_falls_2 ++ dktX9_falls_3
def dkwX9_falls_1 : List UInt8 := [158, 0, 10, 42, 21, 4, 182, 0, 69, 172, 42, 3, 182, 2, 57, 3, 54, 5, 21, 5, 29, 163, 0, 39]
abbrev dktX9_falls_1 : List UInt8 := dkwX9_falls_1 ++ dktX9_falls_2
def dkwX9_falls_0 : List UInt8 := [42, 3, 181, 0, 63, 42, 42, 27, 28, 182, 2, 25, 29, 16, 60, 182, 2, 53, 54, 4, 21, 4]
abbrev dktX9_falls_0 : List UInt8 := dkwX9_falls_0 ++ dktX9_falls_1
theorem dksX9_falls_0 : cX9_falls.data.toList.drop 0 = dktX9_falls_0 := by decide +kernel
theorem dksX9_falls_1 : cX9_falls.data.toList.drop 22 = dktX9_falls_1 := dk_seg dksX9_falls_0 22 rfl rfl
theorem dksX9_falls_2 : cX9_falls.data.toList.drop 46 = dktX9_falls_2 := dk_seg dksX9_falls_1 24 rfl rfl
theorem dksX9_falls_3 : cX9_falls.data.toList.drop 70 = dktX9_falls_3 := dk_seg dksX9_falls_2 24 rfl rfl
theorem dX9_falls_0 : decode cX9_falls 0 = .ok (.aload_n 0, 1) := dk_42 (dk_at dksX9_falls_0 0 rfl rfl)
theorem dX9_falls_1 : decode cX9_falls 1 = .ok (.iconst 0, 1) := dk_3 (dk_at dksX9_falls_0 1 rfl rfl)
theorem dX9_falls_2 : decode cX9_falls 2 = .ok (.putfield 63, 3) := dk_181 0 63 (dk_at dksX9_falls_0 2 rfl rfl)
theorem dX9_falls_5 : decode cX9_falls 5 = .ok (.aload_n 0, 1) := dk_42 (dk_at dksX9_falls_0 5 rfl rfl)
theorem dX9_falls_6 : decode cX9_falls 6 = .ok (.aload_n 0, 1) := dk_42 (dk_at dksX9_falls_0 6 rfl rfl)
theorem dX9_falls_7 : decode cX9_falls 7 = .ok (.iload_n 1, 1) := dk_27 (dk_at dksX9_falls_0 7 rfl rfl)
theorem dX9_falls_8 : decode cX9_falls 8 = .ok (.iload_n 2, 1) := dk_28 (dk_at dksX9_falls_0 8 rfl rfl)
theorem dX9_falls_9 : decode cX9_falls 9 = .ok (.invokevirtual 537, 3) := dk_182 2 25 (dk_at dksX9_falls_0 9 rfl rfl)
theorem dX9_falls_12 : decode cX9_falls 12 = .ok (.iload_n 3, 1) := dk_29 (dk_at dksX9_falls_0 12 rfl rfl)
theorem dX9_falls_13 : decode cX9_falls 13 = .ok (.bipush 60, 2) := dk_16 60 (dk_at dksX9_falls_0 13 rfl rfl)
theorem dX9_falls_15 : decode cX9_falls 15 = .ok (.invokevirtual 565, 3) := dk_182 2 53 (dk_at dksX9_falls_0 15 rfl rfl)
theorem dX9_falls_18 : decode cX9_falls 18 = .ok (.istore 4, 2) := dk_54 4 (dk_at dksX9_falls_0 18 rfl rfl)
theorem dX9_falls_20 : decode cX9_falls 20 = .ok (.iload 4, 2) := dk_21 4 (dk_at dksX9_falls_0 20 rfl rfl)
theorem dX9_falls_22 : decode cX9_falls 22 = .ok (.ifCond .le 10, 3) := dk_158 0 10 (dk_at dksX9_falls_1 0 rfl rfl)
theorem dX9_falls_25 : decode cX9_falls 25 = .ok (.aload_n 0, 1) := dk_42 (dk_at dksX9_falls_1 3 rfl rfl)
theorem dX9_falls_26 : decode cX9_falls 26 = .ok (.iload 4, 2) := dk_21 4 (dk_at dksX9_falls_1 4 rfl rfl)
theorem dX9_falls_28 : decode cX9_falls 28 = .ok (.invokevirtual 69, 3) := dk_182 0 69 (dk_at dksX9_falls_1 6 rfl rfl)
theorem dX9_falls_31 : decode cX9_falls 31 = .ok (.ireturn, 1) := dk_172 (dk_at dksX9_falls_1 9 rfl rfl)
theorem dX9_falls_32 : decode cX9_falls 32 = .ok (.aload_n 0, 1) := dk_42 (dk_at dksX9_falls_1 10 rfl rfl)
theorem dX9_falls_33 : decode cX9_falls 33 = .ok (.iconst 0, 1) := dk_3 (dk_at dksX9_falls_1 11 rfl rfl)
theorem dX9_falls_34 : decode cX9_falls 34 = .ok (.invokevirtual 569, 3) := dk_182 2 57 (dk_at dksX9_falls_1 12 rfl rfl)
theorem dX9_falls_37 : decode cX9_falls 37 = .ok (.iconst 0, 1) := dk_3 (dk_at dksX9_falls_1 15 rfl rfl)
theorem dX9_falls_38 : decode cX9_falls 38 = .ok (.istore 5, 2) := dk_54 5 (dk_at dksX9_falls_1 16 rfl rfl)
theorem dX9_falls_40 : decode cX9_falls 40 = .ok (.iload 5, 2) := dk_21 5 (dk_at dksX9_falls_1 18 rfl rfl)
theorem dX9_falls_42 : decode cX9_falls 42 = .ok (.iload_n 3, 1) := dk_29 (dk_at dksX9_falls_1 20 rfl rfl)
theorem dX9_falls_43 : decode cX9_falls 43 = .ok (.if_icmp .gt 39, 3) := dk_163 0 39 (dk_at dksX9_falls_1 21 rfl rfl)
theorem dX9_falls_46 : decode cX9_falls 46 = .ok (.aload_n 0, 1) := dk_42 (dk_at dksX9_falls_2 0 rfl rfl)
theorem dX9_falls_47 : decode cX9_falls 47 = .ok (.getfield 21, 3) := dk_180 0 21 (dk_at dksX9_falls_2 1 rfl rfl)
theorem dX9_falls_50 : decode cX9_falls 50 = .ok (.iload_n 1, 1) := dk_27 (dk_at dksX9_falls_2 4 rfl rfl)
theorem dX9_falls_51 : decode cX9_falls 51 = .ok (.iload_n 2, 1) := dk_28 (dk_at dksX9_falls_2 5 rfl rfl)
theorem dX9_falls_52 : decode cX9_falls 52 = .ok (.iconst 5, 1) := dk_8 (dk_at dksX9_falls_2 6 rfl rfl)
theorem dX9_falls_53 : decode cX9_falls 53 = .ok (.invokestatic 425, 3) := dk_184 1 169 (dk_at dksX9_falls_2 7 rfl rfl)
theorem dX9_falls_56 : decode cX9_falls 56 = .ok (.iaload, 1) := dk_46 (dk_at dksX9_falls_2 10 rfl rfl)
theorem dX9_falls_57 : decode cX9_falls 57 = .ok (.iconst 1, 1) := dk_4 (dk_at dksX9_falls_2 11 rfl rfl)
theorem dX9_falls_58 : decode cX9_falls 58 = .ok (.if_icmp .ne 10, 3) := dk_160 0 10 (dk_at dksX9_falls_2 12 rfl rfl)
theorem dX9_falls_61 : decode cX9_falls 61 = .ok (.aload_n 0, 1) := dk_42 (dk_at dksX9_falls_2 15 rfl rfl)
theorem dX9_falls_62 : decode cX9_falls 62 = .ok (.iload 5, 2) := dk_21 5 (dk_at dksX9_falls_2 16 rfl rfl)
theorem dX9_falls_64 : decode cX9_falls 64 = .ok (.invokevirtual 73, 3) := dk_182 0 73 (dk_at dksX9_falls_2 18 rfl rfl)
theorem dX9_falls_67 : decode cX9_falls 67 = .ok (.ireturn, 1) := dk_172 (dk_at dksX9_falls_2 21 rfl rfl)
theorem dX9_falls_68 : decode cX9_falls 68 = .ok (.aload_n 0, 1) := dk_42 (dk_at dksX9_falls_2 22 rfl rfl)
theorem dX9_falls_69 : decode cX9_falls 69 = .ok (.aload_n 0, 1) := dk_42 (dk_at dksX9_falls_2 23 rfl rfl)
theorem dX9_falls_70 : decode cX9_falls 70 = .ok (.getfield 21, 3) := dk_180 0 21 (dk_at dksX9_falls_3 0 rfl rfl)
theorem dX9_falls_73 : decode cX9_falls 73 = .ok (.invokevirtual 514, 3) := dk_182 2 2 (dk_at dksX9_falls_3 3 rfl rfl)
theorem dX9_falls_76 : decode cX9_falls 76 = .ok (.iinc 5 1, 3) := dk_132 5 1 (dk_at dksX9_falls_3 6 rfl rfl)
theorem dX9_falls_79 : decode cX9_falls 79 = .ok (.goto (-39), 3) := dk_167 255 217 (dk_at dksX9_falls_3 9 rfl rfl)
theorem dX9_falls_82 : decode cX9_falls 82 = .ok (.aload_n 0, 1) := dk_42 (dk_at dksX9_falls_3 12 rfl rfl)
theorem dX9_falls_83 : decode cX9_falls 83 = .ok (.bipush (-2), 2) := dk_16 254 (dk_at dksX9_falls_3 13 rfl rfl)
theorem dX9_falls_85 : decode cX9_falls 85 = .ok (.invokevirtual 73, 3) := dk_182 0 73 (dk_at dksX9_falls_3 15 rfl rfl)
theorem dX9_falls_88 : decode cX9_falls 88 = .ok (.ireturn, 1) := dk_172 (dk_at dksX9_falls_3 18 rfl rfl)
abbrev cX9_room : ByteArray := prog_20_method_108_code
def yX9_room : MethodName := ⟨RX9, "room", "(I)I"⟩
def dkwX9_room_3 : List UInt8 := [42, 28, 182, 0, 73, 172]
abbrev dktX9_room_3 : List UInt8 := dkwX9_room_3 ++ []
def dkwX9_room_2 : List UInt8 := [180, 1, 108, 27, 46, 42, 180, 1, 219, 42, 180, 1, 222, 3, 3, 184, 1, 128, 132, 2, 1, 167, 255, 214]
abbrev dktX9_room_2 : List UInt8 := dkwX9_room_2 ++ dktX9_room_3
def dkwX9_room_1 : List UInt8 := [61, 42, 42, 180, 0, 21, 27, 182, 1, 241, 153, 0, 36, 42, 180, 0, 21, 27, 42, 180, 1, 161]
abbrev dktX9_room_1 : List UInt8 := dkwX9_room_1 ++ dktX9_room_2
def dkwX9_room_0 : List UInt8 := [42, 3, 181, 0, 63, 42, 27, 182, 2, 6, 154, 0, 9, 42, 4, 182, 0, 69, 172, 42, 182, 1, 252, 3]
abbrev dktX9_room_0 : List UInt8 := dkwX9_room_0 ++ dktX9_room_1
theorem dksX9_room_0 : cX9_room.data.toList.drop 0 = dktX9_room_0 := by decide +kernel
theorem dksX9_room_1 : cX9_room.data.toList.drop 24 = dktX9_room_1 := dk_seg dksX9_room_0 24 rfl rfl
theorem dksX9_room_2 : cX9_room.data.toList.drop 46 = dktX9_room_2 := dk_seg dksX9_room_1 22 rfl rfl
theorem dksX9_room_3 : cX9_room.data.toList.drop 70 = dktX9_room_3 := dk_seg dksX9_room_2 24 rfl rfl
theorem dX9_room_0 : decode cX9_room 0 = .ok (.aload_n 0, 1) := dk_42 (dk_at dksX9_room_0 0 rfl rfl)
theorem dX9_room_1 : decode cX9_room 1 = .ok (.iconst 0, 1) := dk_3 (dk_at dksX9_room_0 1 rfl rfl)
theorem dX9_room_2 : decode cX9_room 2 = .ok (.putfield 63, 3) := dk_181 0 63 (dk_at dksX9_room_0 2 rfl rfl)
theorem dX9_room_5 : decode cX9_room 5 = .ok (.aload_n 0, 1) := dk_42 (dk_at dksX9_room_0 5 rfl rfl)
theorem dX9_room_6 : decode cX9_room 6 = .ok (.iload_n 1, 1) := dk_27 (dk_at dksX9_room_0 6 rfl rfl)
theorem dX9_room_7 : decode cX9_room 7 = .ok (.invokevirtual 518, 3) := dk_182 2 6 (dk_at dksX9_room_0 7 rfl rfl)
theorem dX9_room_10 : decode cX9_room 10 = .ok (.ifCond .ne 9, 3) := dk_154 0 9 (dk_at dksX9_room_0 10 rfl rfl)
theorem dX9_room_13 : decode cX9_room 13 = .ok (.aload_n 0, 1) := dk_42 (dk_at dksX9_room_0 13 rfl rfl)
theorem dX9_room_14 : decode cX9_room 14 = .ok (.iconst 1, 1) := dk_4 (dk_at dksX9_room_0 14 rfl rfl)
theorem dX9_room_15 : decode cX9_room 15 = .ok (.invokevirtual 69, 3) := dk_182 0 69 (dk_at dksX9_room_0 15 rfl rfl)
theorem dX9_room_18 : decode cX9_room 18 = .ok (.ireturn, 1) := dk_172 (dk_at dksX9_room_0 18 rfl rfl)
theorem dX9_room_19 : decode cX9_room 19 = .ok (.aload_n 0, 1) := dk_42 (dk_at dksX9_room_0 19 rfl rfl)
theorem dX9_room_20 : decode cX9_room 20 = .ok (.invokevirtual 508, 3) := dk_182 1 252 (dk_at dksX9_room_0 20 rfl rfl)
theorem dX9_room_23 : decode cX9_room 23 = .ok (.iconst 0, 1) := dk_3 (dk_at dksX9_room_0 23 rfl rfl)
theorem dX9_room_24 : decode cX9_room 24 = .ok (.istore_n 2, 1) := dk_61 (dk_at dksX9_room_1 0 rfl rfl)
theorem dX9_room_25 : decode cX9_room 25 = .ok (.aload_n 0, 1) := dk_42 (dk_at dksX9_room_1 1 rfl rfl)
theorem dX9_room_26 : decode cX9_room 26 = .ok (.aload_n 0, 1) := dk_42 (dk_at dksX9_room_1 2 rfl rfl)
theorem dX9_room_27 : decode cX9_room 27 = .ok (.getfield 21, 3) := dk_180 0 21 (dk_at dksX9_room_1 3 rfl rfl)
theorem dX9_room_30 : decode cX9_room 30 = .ok (.iload_n 1, 1) := dk_27 (dk_at dksX9_room_1 6 rfl rfl)
theorem dX9_room_31 : decode cX9_room 31 = .ok (.invokevirtual 497, 3) := dk_182 1 241 (dk_at dksX9_room_1 7 rfl rfl)
theorem dX9_room_34 : decode cX9_room 34 = .ok (.ifCond .eq 36, 3) := dk_153 0 36 (dk_at dksX9_room_1 10 rfl rfl)
theorem dX9_room_37 : decode cX9_room 37 = .ok (.aload_n 0, 1) := dk_42 (dk_at dksX9_room_1 13 rfl rfl)
theorem dX9_room_38 : decode cX9_room 38 = .ok (.getfield 21, 3) := dk_180 0 21 (dk_at dksX9_room_1 14 rfl rfl)
theorem dX9_room_41 : decode cX9_room 41 = .ok (.iload_n 1, 1) := dk_27 (dk_at dksX9_room_1 17 rfl rfl)
theorem dX9_room_42 : decode cX9_room 42 = .ok (.aload_n 0, 1) := dk_42 (dk_at dksX9_room_1 18 rfl rfl)
theorem dX9_room_43 : decode cX9_room 43 = .ok (.getfield 417, 3) := dk_180 1 161 (dk_at dksX9_room_1 19 rfl rfl)
theorem dX9_room_46 : decode cX9_room 46 = .ok (.getfield 364, 3) := dk_180 1 108 (dk_at dksX9_room_2 0 rfl rfl)
theorem dX9_room_49 : decode cX9_room 49 = .ok (.iload_n 1, 1) := dk_27 (dk_at dksX9_room_2 3 rfl rfl)
theorem dX9_room_50 : decode cX9_room 50 = .ok (.iaload, 1) := dk_46 (dk_at dksX9_room_2 4 rfl rfl)
theorem dX9_room_51 : decode cX9_room 51 = .ok (.aload_n 0, 1) := dk_42 (dk_at dksX9_room_2 5 rfl rfl)
theorem dX9_room_52 : decode cX9_room 52 = .ok (.getfield 475, 3) := dk_180 1 219 (dk_at dksX9_room_2 6 rfl rfl)
theorem dX9_room_55 : decode cX9_room 55 = .ok (.aload_n 0, 1) := dk_42 (dk_at dksX9_room_2 9 rfl rfl)
theorem dX9_room_56 : decode cX9_room 56 = .ok (.getfield 478, 3) := dk_180 1 222 (dk_at dksX9_room_2 10 rfl rfl)
theorem dX9_room_59 : decode cX9_room 59 = .ok (.iconst 0, 1) := dk_3 (dk_at dksX9_room_2 13 rfl rfl)
theorem dX9_room_60 : decode cX9_room 60 = .ok (.iconst 0, 1) := dk_3 (dk_at dksX9_room_2 14 rfl rfl)
theorem dX9_room_61 : decode cX9_room 61 = .ok (.invokestatic 384, 3) := dk_184 1 128 (dk_at dksX9_room_2 15 rfl rfl)
theorem dX9_room_64 : decode cX9_room 64 = .ok (.iinc 2 1, 3) := dk_132 2 1 (dk_at dksX9_room_2 18 rfl rfl)
theorem dX9_room_67 : decode cX9_room 67 = .ok (.goto (-42), 3) := dk_167 255 214 (dk_at dksX9_room_2 21 rfl rfl)
theorem dX9_room_70 : decode cX9_room 70 = .ok (.aload_n 0, 1) := dk_42 (dk_at dksX9_room_3 0 rfl rfl)
theorem dX9_room_71 : decode cX9_room 71 = .ok (.iload_n 2, 1) := dk_28 (dk_at dksX9_room_3 1 rfl rfl)
theorem dX9_room_72 : decode cX9_room 72 = .ok (.invokevirtual 73, 3) := dk_182 0 73 (dk_at dksX9_room_3 2 rfl rfl)
theorem dX9_room_75 : decode cX9_room 75 = .ok (.ireturn, 1) := dk_172 (dk_at dksX9_room_3 5 rfl rfl)
abbrev cX9_first : ByteArray := prog_20_method_112_code
def yX9_first : MethodName := ⟨RX9, "first", "(I)I"⟩
def dkwX9_first_1 : List UInt8 := [42, 27, 182, 2, 76, 42, 42, 180, 2, 67, 182, 0, 73, 172]
abbrev dktX9_first_1 : List UInt8 := dkwX9_first_1 ++ []
def dkwX9_first_0 : List UInt8 := [42, 3, 181, 0, 63, 42, 4, 27, 16, 30, 182, 2, 53, 61, 28, 158, 0, 9, 42, 28, 182, 0, 69, 172]
abbrev dktX9_first_0 : List UInt8 := dkwX9_first_0 ++ dktX9_first_1
theorem dksX9_first_0 : cX9_first.data.toList.drop 0 = dktX9_first_0 := by decide +kernel
theorem dksX9_first_1 : cX9_first.data.toList.drop 24 = dktX9_first_1 := dk_seg dksX9_first_0 24 rfl rfl
theorem dX9_first_0 : decode cX9_first 0 = .ok (.aload_n 0, 1) := dk_42 (dk_at dksX9_first_0 0 rfl rfl)
theorem dX9_first_1 : decode cX9_first 1 = .ok (.iconst 0, 1) := dk_3 (dk_at dksX9_first_0 1 rfl rfl)
theorem dX9_first_2 : decode cX9_first 2 = .ok (.putfield 63, 3) := dk_181 0 63 (dk_at dksX9_first_0 2 rfl rfl)
theorem dX9_first_5 : decode cX9_first 5 = .ok (.aload_n 0, 1) := dk_42 (dk_at dksX9_first_0 5 rfl rfl)
theorem dX9_first_6 : decode cX9_first 6 = .ok (.iconst 1, 1) := dk_4 (dk_at dksX9_first_0 6 rfl rfl)
theorem dX9_first_7 : decode cX9_first 7 = .ok (.iload_n 1, 1) := dk_27 (dk_at dksX9_first_0 7 rfl rfl)
theorem dX9_first_8 : decode cX9_first 8 = .ok (.bipush 30, 2) := dk_16 30 (dk_at dksX9_first_0 8 rfl rfl)
theorem dX9_first_10 : decode cX9_first 10 = .ok (.invokevirtual 565, 3) := dk_182 2 53 (dk_at dksX9_first_0 10 rfl rfl)
theorem dX9_first_13 : decode cX9_first 13 = .ok (.istore_n 2, 1) := dk_61 (dk_at dksX9_first_0 13 rfl rfl)
theorem dX9_first_14 : decode cX9_first 14 = .ok (.iload_n 2, 1) := dk_28 (dk_at dksX9_first_0 14 rfl rfl)
theorem dX9_first_15 : decode cX9_first 15 = .ok (.ifCond .le 9, 3) := dk_158 0 9 (dk_at dksX9_first_0 15 rfl rfl)
theorem dX9_first_18 : decode cX9_first 18 = .ok (.aload_n 0, 1) := dk_42 (dk_at dksX9_first_0 18 rfl rfl)
theorem dX9_first_19 : decode cX9_first 19 = .ok (.iload_n 2, 1) := dk_28 (dk_at dksX9_first_0 19 rfl rfl)
theorem dX9_first_20 : decode cX9_first 20 = .ok (.invokevirtual 69, 3) := dk_182 0 69 (dk_at dksX9_first_0 20 rfl rfl)
theorem dX9_first_23 : decode cX9_first 23 = .ok (.ireturn, 1) := dk_172 (dk_at dksX9_first_0 23 rfl rfl)
theorem dX9_first_24 : decode cX9_first 24 = .ok (.aload_n 0, 1) := dk_42 (dk_at dksX9_first_1 0 rfl rfl)
theorem dX9_first_25 : decode cX9_first 25 = .ok (.iload_n 1, 1) := dk_27 (dk_at dksX9_first_1 1 rfl rfl)
theorem dX9_first_26 : decode cX9_first 26 = .ok (.invokevirtual 588, 3) := dk_182 2 76 (dk_at dksX9_first_1 2 rfl rfl)
theorem dX9_first_29 : decode cX9_first 29 = .ok (.aload_n 0, 1) := dk_42 (dk_at dksX9_first_1 5 rfl rfl)
theorem dX9_first_30 : decode cX9_first 30 = .ok (.aload_n 0, 1) := dk_42 (dk_at dksX9_first_1 6 rfl rfl)
theorem dX9_first_31 : decode cX9_first 31 = .ok (.getfield 579, 3) := dk_180 2 67 (dk_at dksX9_first_1 7 rfl rfl)
theorem dX9_first_34 : decode cX9_first 34 = .ok (.invokevirtual 73, 3) := dk_182 0 73 (dk_at dksX9_first_1 10 rfl rfl)
theorem dX9_first_37 : decode cX9_first 37 = .ok (.ireturn, 1) := dk_172 (dk_at dksX9_first_1 13 rfl rfl)
abbrev cX9_findsFirst : ByteArray := prog_20_method_109_code
def yX9_findsFirst : MethodName := ⟨RX9, "findsFirst", "(I)V"⟩
def dkwX9_findsFirst_4 : List UInt8 := [180, 0, 30, 42, 180, 1, 161, 180, 0, 229, 184, 2, 70, 61, 167, 255, 162, 177]
abbrev dktX9_findsFirst_4 : List UInt8 := dkwX9_findsFirst_4 ++ []
def dkwX9_findsFirst_3 : List UInt8 := [162, 0, 21, 42, 180, 0, 33, 29, 42, 180, 0, 30, 29, 46, 79, 132, 3, 1, 167, 255, 236, 42]
abbrev dktX9_findsFirst_3 : List UInt8 := dkwX9_findsFirst_3 ++ dktX9_findsFirst_4
def dkwX9_findsFirst_2 : List UInt8 := [42, 180, 2, 67, 164, 0, 39, 42, 42, 180, 0, 21, 184, 2, 60, 181, 2, 67, 3, 62, 29, 7]
abbrev dktX9_findsFirst_2 : List UInt8 := dkwX9_findsFirst_2 ++ dktX9_findsFirst_3
def dkwX9_findsFirst_1 : List UInt8 := [162, 0, 17, 42, 42, 180, 0, 21, 182, 2, 2, 132, 3, 1, 167, 255, 240, 42, 180, 0, 21, 184, 2, 60]
abbrev dktX9_findsFirst_1 : List UInt8 := dkwX9_findsFirst_1 ++ dktX9_findsFirst_2
def dkwX9_findsFirst_0 : List UInt8 := [42, 2, 181, 2, 67, 42, 182, 1, 255, 4, 61, 28, 153, 0, 96, 42, 182, 1, 252, 3, 62, 29, 27]
abbrev dktX9_findsFirst_0 : List UInt8 := dkwX9_findsFirst_0 ++ dktX9_findsFirst_1
theorem dksX9_findsFirst_0 : cX9_findsFirst.data.toList.drop 0 = dktX9_findsFirst_0 := by decide +kernel
theorem dksX9_findsFirst_1 : cX9_findsFirst.data.toList.drop 23 = dktX9_findsFirst_1 := dk_seg dksX9_findsFirst_0 23 rfl rfl
theorem dksX9_findsFirst_2 : cX9_findsFirst.data.toList.drop 47 = dktX9_findsFirst_2 := dk_seg dksX9_findsFirst_1 24 rfl rfl
theorem dksX9_findsFirst_3 : cX9_findsFirst.data.toList.drop 69 = dktX9_findsFirst_3 := dk_seg dksX9_findsFirst_2 22 rfl rfl
theorem dksX9_findsFirst_4 : cX9_findsFirst.data.toList.drop 91 = dktX9_findsFirst_4 := dk_seg dksX9_findsFirst_3 22 rfl rfl
theorem dX9_findsFirst_0 : decode cX9_findsFirst 0 = .ok (.aload_n 0, 1) := dk_42 (dk_at dksX9_findsFirst_0 0 rfl rfl)
theorem dX9_findsFirst_1 : decode cX9_findsFirst 1 = .ok (.iconst (-1), 1) := dk_2 (dk_at dksX9_findsFirst_0 1 rfl rfl)
theorem dX9_findsFirst_2 : decode cX9_findsFirst 2 = .ok (.putfield 579, 3) := dk_181 2 67 (dk_at dksX9_findsFirst_0 2 rfl rfl)
theorem dX9_findsFirst_5 : decode cX9_findsFirst 5 = .ok (.aload_n 0, 1) := dk_42 (dk_at dksX9_findsFirst_0 5 rfl rfl)
theorem dX9_findsFirst_6 : decode cX9_findsFirst 6 = .ok (.invokevirtual 511, 3) := dk_182 1 255 (dk_at dksX9_findsFirst_0 6 rfl rfl)
theorem dX9_findsFirst_9 : decode cX9_findsFirst 9 = .ok (.iconst 1, 1) := dk_4 (dk_at dksX9_findsFirst_0 9 rfl rfl)
theorem dX9_findsFirst_10 : decode cX9_findsFirst 10 = .ok (.istore_n 2, 1) := dk_61 (dk_at dksX9_findsFirst_0 10 rfl rfl)
theorem dX9_findsFirst_11 : decode cX9_findsFirst 11 = .ok (.iload_n 2, 1) := dk_28 (dk_at dksX9_findsFirst_0 11 rfl rfl)
theorem dX9_findsFirst_12 : decode cX9_findsFirst 12 = .ok (.ifCond .eq 96, 3) := dk_153 0 96 (dk_at dksX9_findsFirst_0 12 rfl rfl)
theorem dX9_findsFirst_15 : decode cX9_findsFirst 15 = .ok (.aload_n 0, 1) := dk_42 (dk_at dksX9_findsFirst_0 15 rfl rfl)
theorem dX9_findsFirst_16 : decode cX9_findsFirst 16 = .ok (.invokevirtual 508, 3) := dk_182 1 252 (dk_at dksX9_findsFirst_0 16 rfl rfl)
theorem dX9_findsFirst_19 : decode cX9_findsFirst 19 = .ok (.iconst 0, 1) := dk_3 (dk_at dksX9_findsFirst_0 19 rfl rfl)
theorem dX9_findsFirst_20 : decode cX9_findsFirst 20 = .ok (.istore_n 3, 1) := dk_62 (dk_at dksX9_findsFirst_0 20 rfl rfl)
theorem dX9_findsFirst_21 : decode cX9_findsFirst 21 = .ok (.iload_n 3, 1) := dk_29 (dk_at dksX9_findsFirst_0 21 rfl rfl)
theorem dX9_findsFirst_22 : decode cX9_findsFirst 22 = .ok (.iload_n 1, 1) := dk_27 (dk_at dksX9_findsFirst_0 22 rfl rfl)
theorem dX9_findsFirst_23 : decode cX9_findsFirst 23 = .ok (.if_icmp .ge 17, 3) := dk_162 0 17 (dk_at dksX9_findsFirst_1 0 rfl rfl)
theorem dX9_findsFirst_26 : decode cX9_findsFirst 26 = .ok (.aload_n 0, 1) := dk_42 (dk_at dksX9_findsFirst_1 3 rfl rfl)
theorem dX9_findsFirst_27 : decode cX9_findsFirst 27 = .ok (.aload_n 0, 1) := dk_42 (dk_at dksX9_findsFirst_1 4 rfl rfl)
theorem dX9_findsFirst_28 : decode cX9_findsFirst 28 = .ok (.getfield 21, 3) := dk_180 0 21 (dk_at dksX9_findsFirst_1 5 rfl rfl)
theorem dX9_findsFirst_31 : decode cX9_findsFirst 31 = .ok (.invokevirtual 514, 3) := dk_182 2 2 (dk_at dksX9_findsFirst_1 8 rfl rfl)
theorem dX9_findsFirst_34 : decode cX9_findsFirst 34 = .ok (.iinc 3 1, 3) := dk_132 3 1 (dk_at dksX9_findsFirst_1 11 rfl rfl)
theorem dX9_findsFirst_37 : decode cX9_findsFirst 37 = .ok (.goto (-16), 3) := dk_167 255 240 (dk_at dksX9_findsFirst_1 14 rfl rfl)
theorem dX9_findsFirst_40 : decode cX9_findsFirst 40 = .ok (.aload_n 0, 1) := dk_42 (dk_at dksX9_findsFirst_1 17 rfl rfl)
theorem dX9_findsFirst_41 : decode cX9_findsFirst 41 = .ok (.getfield 21, 3) := dk_180 0 21 (dk_at dksX9_findsFirst_1 18 rfl rfl)
theorem dX9_findsFirst_44 : decode cX9_findsFirst 44 = .ok (.invokestatic 572, 3) := dk_184 2 60 (dk_at dksX9_findsFirst_1 21 rfl rfl)
theorem dX9_findsFirst_47 : decode cX9_findsFirst 47 = .ok (.aload_n 0, 1) := dk_42 (dk_at dksX9_findsFirst_2 0 rfl rfl)
theorem dX9_findsFirst_48 : decode cX9_findsFirst 48 = .ok (.getfield 579, 3) := dk_180 2 67 (dk_at dksX9_findsFirst_2 1 rfl rfl)
theorem dX9_findsFirst_51 : decode cX9_findsFirst 51 = .ok (.if_icmp .le 39, 3) := dk_164 0 39 (dk_at dksX9_findsFirst_2 4 rfl rfl)
theorem dX9_findsFirst_54 : decode cX9_findsFirst 54 = .ok (.aload_n 0, 1) := dk_42 (dk_at dksX9_findsFirst_2 7 rfl rfl)
theorem dX9_findsFirst_55 : decode cX9_findsFirst 55 = .ok (.aload_n 0, 1) := dk_42 (dk_at dksX9_findsFirst_2 8 rfl rfl)
theorem dX9_findsFirst_56 : decode cX9_findsFirst 56 = .ok (.getfield 21, 3) := dk_180 0 21 (dk_at dksX9_findsFirst_2 9 rfl rfl)
theorem dX9_findsFirst_59 : decode cX9_findsFirst 59 = .ok (.invokestatic 572, 3) := dk_184 2 60 (dk_at dksX9_findsFirst_2 12 rfl rfl)
theorem dX9_findsFirst_62 : decode cX9_findsFirst 62 = .ok (.putfield 579, 3) := dk_181 2 67 (dk_at dksX9_findsFirst_2 15 rfl rfl)
theorem dX9_findsFirst_65 : decode cX9_findsFirst 65 = .ok (.iconst 0, 1) := dk_3 (dk_at dksX9_findsFirst_2 18 rfl rfl)
theorem dX9_findsFirst_66 : decode cX9_findsFirst 66 = .ok (.istore_n 3, 1) := dk_62 (dk_at dksX9_findsFirst_2 19 rfl rfl)
theorem dX9_findsFirst_67 : decode cX9_findsFirst 67 = .ok (.iload_n 3, 1) := dk_29 (dk_at dksX9_findsFirst_2 20 rfl rfl)
theorem dX9_findsFirst_68 : decode cX9_findsFirst 68 = .ok (.iconst 4, 1) := dk_7 (dk_at dksX9_findsFirst_2 21 rfl rfl)
theorem dX9_findsFirst_69 : decode cX9_findsFirst 69 = .ok (.if_icmp .ge 21, 3) := dk_162 0 21 (dk_at dksX9_findsFirst_3 0 rfl rfl)
theorem dX9_findsFirst_72 : decode cX9_findsFirst 72 = .ok (.aload_n 0, 1) := dk_42 (dk_at dksX9_findsFirst_3 3 rfl rfl)
theorem dX9_findsFirst_73 : decode cX9_findsFirst 73 = .ok (.getfield 33, 3) := dk_180 0 33 (dk_at dksX9_findsFirst_3 4 rfl rfl)
theorem dX9_findsFirst_76 : decode cX9_findsFirst 76 = .ok (.iload_n 3, 1) := dk_29 (dk_at dksX9_findsFirst_3 7 rfl rfl)
theorem dX9_findsFirst_77 : decode cX9_findsFirst 77 = .ok (.aload_n 0, 1) := dk_42 (dk_at dksX9_findsFirst_3 8 rfl rfl)
theorem dX9_findsFirst_78 : decode cX9_findsFirst 78 = .ok (.getfield 30, 3) := dk_180 0 30 (dk_at dksX9_findsFirst_3 9 rfl rfl)
theorem dX9_findsFirst_81 : decode cX9_findsFirst 81 = .ok (.iload_n 3, 1) := dk_29 (dk_at dksX9_findsFirst_3 12 rfl rfl)
theorem dX9_findsFirst_82 : decode cX9_findsFirst 82 = .ok (.iaload, 1) := dk_46 (dk_at dksX9_findsFirst_3 13 rfl rfl)
theorem dX9_findsFirst_83 : decode cX9_findsFirst 83 = .ok (.iastore, 1) := dk_79 (dk_at dksX9_findsFirst_3 14 rfl rfl)
theorem dX9_findsFirst_84 : decode cX9_findsFirst 84 = .ok (.iinc 3 1, 3) := dk_132 3 1 (dk_at dksX9_findsFirst_3 15 rfl rfl)
theorem dX9_findsFirst_87 : decode cX9_findsFirst 87 = .ok (.goto (-20), 3) := dk_167 255 236 (dk_at dksX9_findsFirst_3 18 rfl rfl)
theorem dX9_findsFirst_90 : decode cX9_findsFirst 90 = .ok (.aload_n 0, 1) := dk_42 (dk_at dksX9_findsFirst_3 21 rfl rfl)
theorem dX9_findsFirst_91 : decode cX9_findsFirst 91 = .ok (.getfield 30, 3) := dk_180 0 30 (dk_at dksX9_findsFirst_4 0 rfl rfl)
theorem dX9_findsFirst_94 : decode cX9_findsFirst 94 = .ok (.aload_n 0, 1) := dk_42 (dk_at dksX9_findsFirst_4 3 rfl rfl)
theorem dX9_findsFirst_95 : decode cX9_findsFirst 95 = .ok (.getfield 417, 3) := dk_180 1 161 (dk_at dksX9_findsFirst_4 4 rfl rfl)
theorem dX9_findsFirst_98 : decode cX9_findsFirst 98 = .ok (.getfield 229, 3) := dk_180 0 229 (dk_at dksX9_findsFirst_4 7 rfl rfl)
theorem dX9_findsFirst_101 : decode cX9_findsFirst 101 = .ok (.invokestatic 582, 3) := dk_184 2 70 (dk_at dksX9_findsFirst_4 10 rfl rfl)
theorem dX9_findsFirst_104 : decode cX9_findsFirst 104 = .ok (.istore_n 2, 1) := dk_61 (dk_at dksX9_findsFirst_4 13 rfl rfl)
theorem dX9_findsFirst_105 : decode cX9_findsFirst 105 = .ok (.goto (-94), 3) := dk_167 255 162 (dk_at dksX9_findsFirst_4 14 rfl rfl)
theorem dX9_findsFirst_108 : decode cX9_findsFirst 108 = .ok (.return_, 1) := dk_177 (dk_at dksX9_findsFirst_4 17 rfl rfl)
abbrev cX9_turns : ByteArray := prog_20_method_110_code
def yX9_turns : MethodName := ⟨RX9, "turns", "([II)Z"⟩
def dkwX9_turns_3 : List UInt8 := [21, 5, 162, 0, 20, 42, 21, 4, 21, 5, 184, 2, 73, 132, 4, 1, 132, 5, 255, 167, 255, 235, 4, 172]
abbrev dktX9_turns_3 : List UInt8 := dkwX9_turns_3 ++ []
def dkwX9_turns_2 : List UInt8 := [132, 3, 255, 167, 255, 244, 42, 28, 29, 184, 2, 73, 28, 4, 96, 54, 4, 27, 4, 100, 54, 5, 21, 4]
abbrev dktX9_turns_2 : List UInt8 := dkwX9_turns_2 ++ dktX9_turns_3
def dkwX9_turns_1 : List UInt8 := [167, 255, 238, 28, 156, 0, 5, 3, 172, 27, 4, 100, 62, 42, 29, 46, 42, 28, 46, 162, 0, 9]
abbrev dktX9_turns_1 : List UInt8 := dkwX9_turns_1 ++ dktX9_turns_2
def dkwX9_turns_0 : List UInt8 := [27, 5, 100, 61, 28, 155, 0, 20, 42, 28, 46, 42, 28, 4, 96, 46, 164, 0, 9, 132, 2, 255]
abbrev dktX9_turns_0 : List UInt8 := dkwX9_turns_0 ++ dktX9_turns_1
theorem dksX9_turns_0 : cX9_turns.data.toList.drop 0 = dktX9_turns_0 := by decide +kernel
theorem dksX9_turns_1 : cX9_turns.data.toList.drop 22 = dktX9_turns_1 := dk_seg dksX9_turns_0 22 rfl rfl
theorem dksX9_turns_2 : cX9_turns.data.toList.drop 44 = dktX9_turns_2 := dk_seg dksX9_turns_1 22 rfl rfl
theorem dksX9_turns_3 : cX9_turns.data.toList.drop 68 = dktX9_turns_3 := dk_seg dksX9_turns_2 24 rfl rfl
theorem dX9_turns_0 : decode cX9_turns 0 = .ok (.iload_n 1, 1) := dk_27 (dk_at dksX9_turns_0 0 rfl rfl)
theorem dX9_turns_1 : decode cX9_turns 1 = .ok (.iconst 2, 1) := dk_5 (dk_at dksX9_turns_0 1 rfl rfl)
theorem dX9_turns_2 : decode cX9_turns 2 = .ok (.isub, 1) := dk_100 (dk_at dksX9_turns_0 2 rfl rfl)
theorem dX9_turns_3 : decode cX9_turns 3 = .ok (.istore_n 2, 1) := dk_61 (dk_at dksX9_turns_0 3 rfl rfl)
theorem dX9_turns_4 : decode cX9_turns 4 = .ok (.iload_n 2, 1) := dk_28 (dk_at dksX9_turns_0 4 rfl rfl)
theorem dX9_turns_5 : decode cX9_turns 5 = .ok (.ifCond .lt 20, 3) := dk_155 0 20 (dk_at dksX9_turns_0 5 rfl rfl)
theorem dX9_turns_8 : decode cX9_turns 8 = .ok (.aload_n 0, 1) := dk_42 (dk_at dksX9_turns_0 8 rfl rfl)
theorem dX9_turns_9 : decode cX9_turns 9 = .ok (.iload_n 2, 1) := dk_28 (dk_at dksX9_turns_0 9 rfl rfl)
theorem dX9_turns_10 : decode cX9_turns 10 = .ok (.iaload, 1) := dk_46 (dk_at dksX9_turns_0 10 rfl rfl)
theorem dX9_turns_11 : decode cX9_turns 11 = .ok (.aload_n 0, 1) := dk_42 (dk_at dksX9_turns_0 11 rfl rfl)
theorem dX9_turns_12 : decode cX9_turns 12 = .ok (.iload_n 2, 1) := dk_28 (dk_at dksX9_turns_0 12 rfl rfl)
theorem dX9_turns_13 : decode cX9_turns 13 = .ok (.iconst 1, 1) := dk_4 (dk_at dksX9_turns_0 13 rfl rfl)
theorem dX9_turns_14 : decode cX9_turns 14 = .ok (.iadd, 1) := dk_96 (dk_at dksX9_turns_0 14 rfl rfl)
theorem dX9_turns_15 : decode cX9_turns 15 = .ok (.iaload, 1) := dk_46 (dk_at dksX9_turns_0 15 rfl rfl)
theorem dX9_turns_16 : decode cX9_turns 16 = .ok (.if_icmp .le 9, 3) := dk_164 0 9 (dk_at dksX9_turns_0 16 rfl rfl)
theorem dX9_turns_19 : decode cX9_turns 19 = .ok (.iinc 2 (-1), 3) := dk_132 2 255 (dk_at dksX9_turns_0 19 rfl rfl)
theorem dX9_turns_22 : decode cX9_turns 22 = .ok (.goto (-18), 3) := dk_167 255 238 (dk_at dksX9_turns_1 0 rfl rfl)
theorem dX9_turns_25 : decode cX9_turns 25 = .ok (.iload_n 2, 1) := dk_28 (dk_at dksX9_turns_1 3 rfl rfl)
theorem dX9_turns_26 : decode cX9_turns 26 = .ok (.ifCond .ge 5, 3) := dk_156 0 5 (dk_at dksX9_turns_1 4 rfl rfl)
theorem dX9_turns_29 : decode cX9_turns 29 = .ok (.iconst 0, 1) := dk_3 (dk_at dksX9_turns_1 7 rfl rfl)
theorem dX9_turns_30 : decode cX9_turns 30 = .ok (.ireturn, 1) := dk_172 (dk_at dksX9_turns_1 8 rfl rfl)
theorem dX9_turns_31 : decode cX9_turns 31 = .ok (.iload_n 1, 1) := dk_27 (dk_at dksX9_turns_1 9 rfl rfl)
theorem dX9_turns_32 : decode cX9_turns 32 = .ok (.iconst 1, 1) := dk_4 (dk_at dksX9_turns_1 10 rfl rfl)
theorem dX9_turns_33 : decode cX9_turns 33 = .ok (.isub, 1) := dk_100 (dk_at dksX9_turns_1 11 rfl rfl)
theorem dX9_turns_34 : decode cX9_turns 34 = .ok (.istore_n 3, 1) := dk_62 (dk_at dksX9_turns_1 12 rfl rfl)
theorem dX9_turns_35 : decode cX9_turns 35 = .ok (.aload_n 0, 1) := dk_42 (dk_at dksX9_turns_1 13 rfl rfl)
theorem dX9_turns_36 : decode cX9_turns 36 = .ok (.iload_n 3, 1) := dk_29 (dk_at dksX9_turns_1 14 rfl rfl)
theorem dX9_turns_37 : decode cX9_turns 37 = .ok (.iaload, 1) := dk_46 (dk_at dksX9_turns_1 15 rfl rfl)
theorem dX9_turns_38 : decode cX9_turns 38 = .ok (.aload_n 0, 1) := dk_42 (dk_at dksX9_turns_1 16 rfl rfl)
theorem dX9_turns_39 : decode cX9_turns 39 = .ok (.iload_n 2, 1) := dk_28 (dk_at dksX9_turns_1 17 rfl rfl)
theorem dX9_turns_40 : decode cX9_turns 40 = .ok (.iaload, 1) := dk_46 (dk_at dksX9_turns_1 18 rfl rfl)
theorem dX9_turns_41 : decode cX9_turns 41 = .ok (.if_icmp .ge 9, 3) := dk_162 0 9 (dk_at dksX9_turns_1 19 rfl rfl)
theorem dX9_turns_44 : decode cX9_turns 44 = .ok (.iinc 3 (-1), 3) := dk_132 3 255 (dk_at dksX9_turns_2 0 rfl rfl)
theorem dX9_turns_47 : decode cX9_turns 47 = .ok (.goto (-12), 3) := dk_167 255 244 (dk_at dksX9_turns_2 3 rfl rfl)
theorem dX9_turns_50 : decode cX9_turns 50 = .ok (.aload_n 0, 1) := dk_42 (dk_at dksX9_turns_2 6 rfl rfl)
theorem dX9_turns_51 : decode cX9_turns 51 = .ok (.iload_n 2, 1) := dk_28 (dk_at dksX9_turns_2 7 rfl rfl)
theorem dX9_turns_52 : decode cX9_turns 52 = .ok (.iload_n 3, 1) := dk_29 (dk_at dksX9_turns_2 8 rfl rfl)
theorem dX9_turns_53 : decode cX9_turns 53 = .ok (.invokestatic 585, 3) := dk_184 2 73 (dk_at dksX9_turns_2 9 rfl rfl)
theorem dX9_turns_56 : decode cX9_turns 56 = .ok (.iload_n 2, 1) := dk_28 (dk_at dksX9_turns_2 12 rfl rfl)
theorem dX9_turns_57 : decode cX9_turns 57 = .ok (.iconst 1, 1) := dk_4 (dk_at dksX9_turns_2 13 rfl rfl)
theorem dX9_turns_58 : decode cX9_turns 58 = .ok (.iadd, 1) := dk_96 (dk_at dksX9_turns_2 14 rfl rfl)
theorem dX9_turns_59 : decode cX9_turns 59 = .ok (.istore 4, 2) := dk_54 4 (dk_at dksX9_turns_2 15 rfl rfl)
theorem dX9_turns_61 : decode cX9_turns 61 = .ok (.iload_n 1, 1) := dk_27 (dk_at dksX9_turns_2 17 rfl rfl)
theorem dX9_turns_62 : decode cX9_turns 62 = .ok (.iconst 1, 1) := dk_4 (dk_at dksX9_turns_2 18 rfl rfl)
theorem dX9_turns_63 : decode cX9_turns 63 = .ok (.isub, 1) := dk_100 (dk_at dksX9_turns_2 19 rfl rfl)
theorem dX9_turns_64 : decode cX9_turns 64 = .ok (.istore 5, 2) := dk_54 5 (dk_at dksX9_turns_2 20 rfl rfl)
theorem dX9_turns_66 : decode cX9_turns 66 = .ok (.iload 4, 2) := dk_21 4 (dk_at dksX9_turns_2 22 rfl rfl)
theorem dX9_turns_68 : decode cX9_turns 68 = .ok (.iload 5, 2) := dk_21 5 (dk_at dksX9_turns_3 0 rfl rfl)
theorem dX9_turns_70 : decode cX9_turns 70 = .ok (.if_icmp .ge 20, 3) := dk_162 0 20 (dk_at dksX9_turns_3 2 rfl rfl)
theorem dX9_turns_73 : decode cX9_turns 73 = .ok (.aload_n 0, 1) := dk_42 (dk_at dksX9_turns_3 5 rfl rfl)
theorem dX9_turns_74 : decode cX9_turns 74 = .ok (.iload 4, 2) := dk_21 4 (dk_at dksX9_turns_3 6 rfl rfl)
theorem dX9_turns_76 : decode cX9_turns 76 = .ok (.iload 5, 2) := dk_21 5 (dk_at dksX9_turns_3 8 rfl rfl)
theorem dX9_turns_78 : decode cX9_turns 78 = .ok (.invokestatic 585, 3) := dk_184 2 73 (dk_at dksX9_turns_3 10 rfl rfl)
theorem dX9_turns_81 : decode cX9_turns 81 = .ok (.iinc 4 1, 3) := dk_132 4 1 (dk_at dksX9_turns_3 13 rfl rfl)
theorem dX9_turns_84 : decode cX9_turns 84 = .ok (.iinc 5 (-1), 3) := dk_132 5 255 (dk_at dksX9_turns_3 16 rfl rfl)
theorem dX9_turns_87 : decode cX9_turns 87 = .ok (.goto (-21), 3) := dk_167 255 235 (dk_at dksX9_turns_3 19 rfl rfl)
theorem dX9_turns_90 : decode cX9_turns 90 = .ok (.iconst 1, 1) := dk_4 (dk_at dksX9_turns_3 22 rfl rfl)
theorem dX9_turns_91 : decode cX9_turns 91 = .ok (.ireturn, 1) := dk_172 (dk_at dksX9_turns_3 23 rfl rfl)
abbrev cX9_swaps : ByteArray := prog_20_method_111_code
def yX9_swaps : MethodName := ⟨RX9, "swaps", "([III)V"⟩
def dkwX9_swaps_0 : List UInt8 := [42, 27, 46, 62, 42, 27, 42, 28, 46, 79, 42, 28, 29, 79, 177]
abbrev dktX9_swaps_0 : List UInt8 := dkwX9_swaps_0 ++ []
theorem dksX9_swaps_0 : cX9_swaps.data.toList.drop 0 = dktX9_swaps_0 := by decide +kernel
theorem dX9_swaps_0 : decode cX9_swaps 0 = .ok (.aload_n 0, 1) := dk_42 (dk_at dksX9_swaps_0 0 rfl rfl)
theorem dX9_swaps_1 : decode cX9_swaps 1 = .ok (.iload_n 1, 1) := dk_27 (dk_at dksX9_swaps_0 1 rfl rfl)
theorem dX9_swaps_2 : decode cX9_swaps 2 = .ok (.iaload, 1) := dk_46 (dk_at dksX9_swaps_0 2 rfl rfl)
theorem dX9_swaps_3 : decode cX9_swaps 3 = .ok (.istore_n 3, 1) := dk_62 (dk_at dksX9_swaps_0 3 rfl rfl)
theorem dX9_swaps_4 : decode cX9_swaps 4 = .ok (.aload_n 0, 1) := dk_42 (dk_at dksX9_swaps_0 4 rfl rfl)
theorem dX9_swaps_5 : decode cX9_swaps 5 = .ok (.iload_n 1, 1) := dk_27 (dk_at dksX9_swaps_0 5 rfl rfl)
theorem dX9_swaps_6 : decode cX9_swaps 6 = .ok (.aload_n 0, 1) := dk_42 (dk_at dksX9_swaps_0 6 rfl rfl)
theorem dX9_swaps_7 : decode cX9_swaps 7 = .ok (.iload_n 2, 1) := dk_28 (dk_at dksX9_swaps_0 7 rfl rfl)
theorem dX9_swaps_8 : decode cX9_swaps 8 = .ok (.iaload, 1) := dk_46 (dk_at dksX9_swaps_0 8 rfl rfl)
theorem dX9_swaps_9 : decode cX9_swaps 9 = .ok (.iastore, 1) := dk_79 (dk_at dksX9_swaps_0 9 rfl rfl)
theorem dX9_swaps_10 : decode cX9_swaps 10 = .ok (.aload_n 0, 1) := dk_42 (dk_at dksX9_swaps_0 10 rfl rfl)
theorem dX9_swaps_11 : decode cX9_swaps 11 = .ok (.iload_n 2, 1) := dk_28 (dk_at dksX9_swaps_0 11 rfl rfl)
theorem dX9_swaps_12 : decode cX9_swaps 12 = .ok (.iload_n 3, 1) := dk_29 (dk_at dksX9_swaps_0 12 rfl rfl)
theorem dX9_swaps_13 : decode cX9_swaps 13 = .ok (.iastore, 1) := dk_79 (dk_at dksX9_swaps_0 13 rfl rfl)
theorem dX9_swaps_14 : decode cX9_swaps 14 = .ok (.return_, 1) := dk_177 (dk_at dksX9_swaps_0 14 rfl rfl)
abbrev cX9_firstAt : ByteArray := prog_20_method_113_code
def yX9_firstAt : MethodName := ⟨RX9, "firstAt", "(II)I"⟩
def dkwX9_firstAt_1 : List UInt8 := [182, 0, 69, 172, 42, 27, 182, 2, 76, 42, 42, 180, 0, 33, 28, 46, 182, 0, 73, 172]
abbrev dktX9_firstAt_1 : List UInt8 := dkwX9_firstAt_1 ++ []
def dkwX9_firstAt_0 : List UInt8 := [42, 3, 181, 0, 63, 42, 42, 28, 182, 2, 6, 27, 16, 30, 182, 2, 53, 62, 29, 158, 0, 9, 42, 29]
abbrev dktX9_firstAt_0 : List UInt8 := dkwX9_firstAt_0 ++ dktX9_firstAt_1
theorem dksX9_firstAt_0 : cX9_firstAt.data.toList.drop 0 = dktX9_firstAt_0 := by decide +kernel
theorem dksX9_firstAt_1 : cX9_firstAt.data.toList.drop 24 = dktX9_firstAt_1 := dk_seg dksX9_firstAt_0 24 rfl rfl
theorem dX9_firstAt_0 : decode cX9_firstAt 0 = .ok (.aload_n 0, 1) := dk_42 (dk_at dksX9_firstAt_0 0 rfl rfl)
theorem dX9_firstAt_1 : decode cX9_firstAt 1 = .ok (.iconst 0, 1) := dk_3 (dk_at dksX9_firstAt_0 1 rfl rfl)
theorem dX9_firstAt_2 : decode cX9_firstAt 2 = .ok (.putfield 63, 3) := dk_181 0 63 (dk_at dksX9_firstAt_0 2 rfl rfl)
theorem dX9_firstAt_5 : decode cX9_firstAt 5 = .ok (.aload_n 0, 1) := dk_42 (dk_at dksX9_firstAt_0 5 rfl rfl)
theorem dX9_firstAt_6 : decode cX9_firstAt 6 = .ok (.aload_n 0, 1) := dk_42 (dk_at dksX9_firstAt_0 6 rfl rfl)
theorem dX9_firstAt_7 : decode cX9_firstAt 7 = .ok (.iload_n 2, 1) := dk_28 (dk_at dksX9_firstAt_0 7 rfl rfl)
theorem dX9_firstAt_8 : decode cX9_firstAt 8 = .ok (.invokevirtual 518, 3) := dk_182 2 6 (dk_at dksX9_firstAt_0 8 rfl rfl)
theorem dX9_firstAt_11 : decode cX9_firstAt 11 = .ok (.iload_n 1, 1) := dk_27 (dk_at dksX9_firstAt_0 11 rfl rfl)
theorem dX9_firstAt_12 : decode cX9_firstAt 12 = .ok (.bipush 30, 2) := dk_16 30 (dk_at dksX9_firstAt_0 12 rfl rfl)
theorem dX9_firstAt_14 : decode cX9_firstAt 14 = .ok (.invokevirtual 565, 3) := dk_182 2 53 (dk_at dksX9_firstAt_0 14 rfl rfl)
theorem dX9_firstAt_17 : decode cX9_firstAt 17 = .ok (.istore_n 3, 1) := dk_62 (dk_at dksX9_firstAt_0 17 rfl rfl)
theorem dX9_firstAt_18 : decode cX9_firstAt 18 = .ok (.iload_n 3, 1) := dk_29 (dk_at dksX9_firstAt_0 18 rfl rfl)
theorem dX9_firstAt_19 : decode cX9_firstAt 19 = .ok (.ifCond .le 9, 3) := dk_158 0 9 (dk_at dksX9_firstAt_0 19 rfl rfl)
theorem dX9_firstAt_22 : decode cX9_firstAt 22 = .ok (.aload_n 0, 1) := dk_42 (dk_at dksX9_firstAt_0 22 rfl rfl)
theorem dX9_firstAt_23 : decode cX9_firstAt 23 = .ok (.iload_n 3, 1) := dk_29 (dk_at dksX9_firstAt_0 23 rfl rfl)
theorem dX9_firstAt_24 : decode cX9_firstAt 24 = .ok (.invokevirtual 69, 3) := dk_182 0 69 (dk_at dksX9_firstAt_1 0 rfl rfl)
theorem dX9_firstAt_27 : decode cX9_firstAt 27 = .ok (.ireturn, 1) := dk_172 (dk_at dksX9_firstAt_1 3 rfl rfl)
theorem dX9_firstAt_28 : decode cX9_firstAt 28 = .ok (.aload_n 0, 1) := dk_42 (dk_at dksX9_firstAt_1 4 rfl rfl)
theorem dX9_firstAt_29 : decode cX9_firstAt 29 = .ok (.iload_n 1, 1) := dk_27 (dk_at dksX9_firstAt_1 5 rfl rfl)
theorem dX9_firstAt_30 : decode cX9_firstAt 30 = .ok (.invokevirtual 588, 3) := dk_182 2 76 (dk_at dksX9_firstAt_1 6 rfl rfl)
theorem dX9_firstAt_33 : decode cX9_firstAt 33 = .ok (.aload_n 0, 1) := dk_42 (dk_at dksX9_firstAt_1 9 rfl rfl)
theorem dX9_firstAt_34 : decode cX9_firstAt 34 = .ok (.aload_n 0, 1) := dk_42 (dk_at dksX9_firstAt_1 10 rfl rfl)
theorem dX9_firstAt_35 : decode cX9_firstAt 35 = .ok (.getfield 33, 3) := dk_180 0 33 (dk_at dksX9_firstAt_1 11 rfl rfl)
theorem dX9_firstAt_38 : decode cX9_firstAt 38 = .ok (.iload_n 2, 1) := dk_28 (dk_at dksX9_firstAt_1 14 rfl rfl)
theorem dX9_firstAt_39 : decode cX9_firstAt 39 = .ok (.iaload, 1) := dk_46 (dk_at dksX9_firstAt_1 15 rfl rfl)
theorem dX9_firstAt_40 : decode cX9_firstAt 40 = .ok (.invokevirtual 73, 3) := dk_182 0 73 (dk_at dksX9_firstAt_1 16 rfl rfl)
theorem dX9_firstAt_43 : decode cX9_firstAt 43 = .ok (.ireturn, 1) := dk_172 (dk_at dksX9_firstAt_1 19 rfl rfl)
abbrev cX9_heads : ByteArray := prog_20_method_114_code
def yX9_heads : MethodName := ⟨RX9, "heads", "(II)I"⟩
def dkwX9_heads_5 : List UInt8 := [167, 255, 227, 42, 21, 4, 182, 0, 73, 172]
abbrev dktX9_heads_5 : List UInt8 := dkwX9_heads_5 ++ []
def dkwX9_heads_4 : List UInt8 := [180, 0, 229, 162, 0, 23, 21, 4, 42, 180, 0, 21, 7, 21, 5, 96, 46, 96, 54, 4, 132, 5, 1]
abbrev dktX9_heads_4 : List UInt8 := dkwX9_heads_4 ++ dktX9_heads_5
def dkwX9_heads_3 : List UInt8 := [180, 0, 21, 182, 2, 2, 132, 4, 1, 167, 255, 239, 3, 54, 4, 3, 54, 5, 21, 5, 42, 180, 1, 161]
abbrev dktX9_heads_3 : List UInt8 := dkwX9_heads_3 ++ dktX9_heads_4
def dkwX9_heads_2 : List UInt8 := [182, 1, 255, 42, 180, 0, 21, 17, 0, 211, 27, 79, 3, 54, 4, 21, 4, 28, 162, 0, 17, 42, 42]
abbrev dktX9_heads_2 : List UInt8 := dkwX9_heads_2 ++ dktX9_heads_3
def dkwX9_heads_1 : List UInt8 := [27, 3, 19, 2, 79, 184, 0, 141, 154, 0, 9, 42, 5, 182, 0, 69, 172, 42, 182, 1, 252, 42]
abbrev dktX9_heads_1 : List UInt8 := dkwX9_heads_1 ++ dktX9_heads_2
def dkwX9_heads_0 : List UInt8 := [42, 3, 181, 0, 63, 42, 4, 28, 16, 60, 182, 2, 53, 62, 29, 158, 0, 9, 42, 29, 182, 0, 69, 172]
abbrev dktX9_heads_0 : List UInt8 := dkwX9_heads_0 ++ dktX9_heads_1
theorem dksX9_heads_0 : cX9_heads.data.toList.drop 0 = dktX9_heads_0 := by decide +kernel
theorem dksX9_heads_1 : cX9_heads.data.toList.drop 24 = dktX9_heads_1 := dk_seg dksX9_heads_0 24 rfl rfl
theorem dksX9_heads_2 : cX9_heads.data.toList.drop 46 = dktX9_heads_2 := dk_seg dksX9_heads_1 22 rfl rfl
theorem dksX9_heads_3 : cX9_heads.data.toList.drop 69 = dktX9_heads_3 := dk_seg dksX9_heads_2 23 rfl rfl
theorem dksX9_heads_4 : cX9_heads.data.toList.drop 93 = dktX9_heads_4 := dk_seg dksX9_heads_3 24 rfl rfl
theorem dksX9_heads_5 : cX9_heads.data.toList.drop 116 = dktX9_heads_5 := dk_seg dksX9_heads_4 23 rfl rfl
theorem dX9_heads_0 : decode cX9_heads 0 = .ok (.aload_n 0, 1) := dk_42 (dk_at dksX9_heads_0 0 rfl rfl)
theorem dX9_heads_1 : decode cX9_heads 1 = .ok (.iconst 0, 1) := dk_3 (dk_at dksX9_heads_0 1 rfl rfl)
theorem dX9_heads_2 : decode cX9_heads 2 = .ok (.putfield 63, 3) := dk_181 0 63 (dk_at dksX9_heads_0 2 rfl rfl)
theorem dX9_heads_5 : decode cX9_heads 5 = .ok (.aload_n 0, 1) := dk_42 (dk_at dksX9_heads_0 5 rfl rfl)
theorem dX9_heads_6 : decode cX9_heads 6 = .ok (.iconst 1, 1) := dk_4 (dk_at dksX9_heads_0 6 rfl rfl)
theorem dX9_heads_7 : decode cX9_heads 7 = .ok (.iload_n 2, 1) := dk_28 (dk_at dksX9_heads_0 7 rfl rfl)
theorem dX9_heads_8 : decode cX9_heads 8 = .ok (.bipush 60, 2) := dk_16 60 (dk_at dksX9_heads_0 8 rfl rfl)
theorem dX9_heads_10 : decode cX9_heads 10 = .ok (.invokevirtual 565, 3) := dk_182 2 53 (dk_at dksX9_heads_0 10 rfl rfl)
theorem dX9_heads_13 : decode cX9_heads 13 = .ok (.istore_n 3, 1) := dk_62 (dk_at dksX9_heads_0 13 rfl rfl)
theorem dX9_heads_14 : decode cX9_heads 14 = .ok (.iload_n 3, 1) := dk_29 (dk_at dksX9_heads_0 14 rfl rfl)
theorem dX9_heads_15 : decode cX9_heads 15 = .ok (.ifCond .le 9, 3) := dk_158 0 9 (dk_at dksX9_heads_0 15 rfl rfl)
theorem dX9_heads_18 : decode cX9_heads 18 = .ok (.aload_n 0, 1) := dk_42 (dk_at dksX9_heads_0 18 rfl rfl)
theorem dX9_heads_19 : decode cX9_heads 19 = .ok (.iload_n 3, 1) := dk_29 (dk_at dksX9_heads_0 19 rfl rfl)
theorem dX9_heads_20 : decode cX9_heads 20 = .ok (.invokevirtual 69, 3) := dk_182 0 69 (dk_at dksX9_heads_0 20 rfl rfl)
theorem dX9_heads_23 : decode cX9_heads 23 = .ok (.ireturn, 1) := dk_172 (dk_at dksX9_heads_0 23 rfl rfl)
theorem dX9_heads_24 : decode cX9_heads 24 = .ok (.iload_n 1, 1) := dk_27 (dk_at dksX9_heads_1 0 rfl rfl)
theorem dX9_heads_25 : decode cX9_heads 25 = .ok (.iconst 0, 1) := dk_3 (dk_at dksX9_heads_1 1 rfl rfl)
theorem dX9_heads_26 : decode cX9_heads 26 = .ok (.ldc_w 591, 3) := dk_19 2 79 (dk_at dksX9_heads_1 2 rfl rfl)
theorem dX9_heads_29 : decode cX9_heads 29 = .ok (.invokestatic 141, 3) := dk_184 0 141 (dk_at dksX9_heads_1 5 rfl rfl)
theorem dX9_heads_32 : decode cX9_heads 32 = .ok (.ifCond .ne 9, 3) := dk_154 0 9 (dk_at dksX9_heads_1 8 rfl rfl)
theorem dX9_heads_35 : decode cX9_heads 35 = .ok (.aload_n 0, 1) := dk_42 (dk_at dksX9_heads_1 11 rfl rfl)
theorem dX9_heads_36 : decode cX9_heads 36 = .ok (.iconst 2, 1) := dk_5 (dk_at dksX9_heads_1 12 rfl rfl)
theorem dX9_heads_37 : decode cX9_heads 37 = .ok (.invokevirtual 69, 3) := dk_182 0 69 (dk_at dksX9_heads_1 13 rfl rfl)
theorem dX9_heads_40 : decode cX9_heads 40 = .ok (.ireturn, 1) := dk_172 (dk_at dksX9_heads_1 16 rfl rfl)
theorem dX9_heads_41 : decode cX9_heads 41 = .ok (.aload_n 0, 1) := dk_42 (dk_at dksX9_heads_1 17 rfl rfl)
theorem dX9_heads_42 : decode cX9_heads 42 = .ok (.invokevirtual 508, 3) := dk_182 1 252 (dk_at dksX9_heads_1 18 rfl rfl)
theorem dX9_heads_45 : decode cX9_heads 45 = .ok (.aload_n 0, 1) := dk_42 (dk_at dksX9_heads_1 21 rfl rfl)
theorem dX9_heads_46 : decode cX9_heads 46 = .ok (.invokevirtual 511, 3) := dk_182 1 255 (dk_at dksX9_heads_2 0 rfl rfl)
theorem dX9_heads_49 : decode cX9_heads 49 = .ok (.aload_n 0, 1) := dk_42 (dk_at dksX9_heads_2 3 rfl rfl)
theorem dX9_heads_50 : decode cX9_heads 50 = .ok (.getfield 21, 3) := dk_180 0 21 (dk_at dksX9_heads_2 4 rfl rfl)
theorem dX9_heads_53 : decode cX9_heads 53 = .ok (.sipush 211, 3) := dk_17 0 211 (dk_at dksX9_heads_2 7 rfl rfl)
theorem dX9_heads_56 : decode cX9_heads 56 = .ok (.iload_n 1, 1) := dk_27 (dk_at dksX9_heads_2 10 rfl rfl)
theorem dX9_heads_57 : decode cX9_heads 57 = .ok (.iastore, 1) := dk_79 (dk_at dksX9_heads_2 11 rfl rfl)
theorem dX9_heads_58 : decode cX9_heads 58 = .ok (.iconst 0, 1) := dk_3 (dk_at dksX9_heads_2 12 rfl rfl)
theorem dX9_heads_59 : decode cX9_heads 59 = .ok (.istore 4, 2) := dk_54 4 (dk_at dksX9_heads_2 13 rfl rfl)
theorem dX9_heads_61 : decode cX9_heads 61 = .ok (.iload 4, 2) := dk_21 4 (dk_at dksX9_heads_2 15 rfl rfl)
theorem dX9_heads_63 : decode cX9_heads 63 = .ok (.iload_n 2, 1) := dk_28 (dk_at dksX9_heads_2 17 rfl rfl)
theorem dX9_heads_64 : decode cX9_heads 64 = .ok (.if_icmp .ge 17, 3) := dk_162 0 17 (dk_at dksX9_heads_2 18 rfl rfl)
theorem dX9_heads_67 : decode cX9_heads 67 = .ok (.aload_n 0, 1) := dk_42 (dk_at dksX9_heads_2 21 rfl rfl)
theorem dX9_heads_68 : decode cX9_heads 68 = .ok (.aload_n 0, 1) := dk_42 (dk_at dksX9_heads_2 22 rfl rfl)
theorem dX9_heads_69 : decode cX9_heads 69 = .ok (.getfield 21, 3) := dk_180 0 21 (dk_at dksX9_heads_3 0 rfl rfl)
theorem dX9_heads_72 : decode cX9_heads 72 = .ok (.invokevirtual 514, 3) := dk_182 2 2 (dk_at dksX9_heads_3 3 rfl rfl)
theorem dX9_heads_75 : decode cX9_heads 75 = .ok (.iinc 4 1, 3) := dk_132 4 1 (dk_at dksX9_heads_3 6 rfl rfl)
theorem dX9_heads_78 : decode cX9_heads 78 = .ok (.goto (-17), 3) := dk_167 255 239 (dk_at dksX9_heads_3 9 rfl rfl)
theorem dX9_heads_81 : decode cX9_heads 81 = .ok (.iconst 0, 1) := dk_3 (dk_at dksX9_heads_3 12 rfl rfl)
theorem dX9_heads_82 : decode cX9_heads 82 = .ok (.istore 4, 2) := dk_54 4 (dk_at dksX9_heads_3 13 rfl rfl)
theorem dX9_heads_84 : decode cX9_heads 84 = .ok (.iconst 0, 1) := dk_3 (dk_at dksX9_heads_3 15 rfl rfl)
theorem dX9_heads_85 : decode cX9_heads 85 = .ok (.istore 5, 2) := dk_54 5 (dk_at dksX9_heads_3 16 rfl rfl)
theorem dX9_heads_87 : decode cX9_heads 87 = .ok (.iload 5, 2) := dk_21 5 (dk_at dksX9_heads_3 18 rfl rfl)
theorem dX9_heads_89 : decode cX9_heads 89 = .ok (.aload_n 0, 1) := dk_42 (dk_at dksX9_heads_3 20 rfl rfl)
theorem dX9_heads_90 : decode cX9_heads 90 = .ok (.getfield 417, 3) := dk_180 1 161 (dk_at dksX9_heads_3 21 rfl rfl)
theorem dX9_heads_93 : decode cX9_heads 93 = .ok (.getfield 229, 3) := dk_180 0 229 (dk_at dksX9_heads_4 0 rfl rfl)
theorem dX9_heads_96 : decode cX9_heads 96 = .ok (.if_icmp .ge 23, 3) := dk_162 0 23 (dk_at dksX9_heads_4 3 rfl rfl)
theorem dX9_heads_99 : decode cX9_heads 99 = .ok (.iload 4, 2) := dk_21 4 (dk_at dksX9_heads_4 6 rfl rfl)
theorem dX9_heads_101 : decode cX9_heads 101 = .ok (.aload_n 0, 1) := dk_42 (dk_at dksX9_heads_4 8 rfl rfl)
theorem dX9_heads_102 : decode cX9_heads 102 = .ok (.getfield 21, 3) := dk_180 0 21 (dk_at dksX9_heads_4 9 rfl rfl)
theorem dX9_heads_105 : decode cX9_heads 105 = .ok (.iconst 4, 1) := dk_7 (dk_at dksX9_heads_4 12 rfl rfl)
theorem dX9_heads_106 : decode cX9_heads 106 = .ok (.iload 5, 2) := dk_21 5 (dk_at dksX9_heads_4 13 rfl rfl)
theorem dX9_heads_108 : decode cX9_heads 108 = .ok (.iadd, 1) := dk_96 (dk_at dksX9_heads_4 15 rfl rfl)
theorem dX9_heads_109 : decode cX9_heads 109 = .ok (.iaload, 1) := dk_46 (dk_at dksX9_heads_4 16 rfl rfl)
theorem dX9_heads_110 : decode cX9_heads 110 = .ok (.iadd, 1) := dk_96 (dk_at dksX9_heads_4 17 rfl rfl)
theorem dX9_heads_111 : decode cX9_heads 111 = .ok (.istore 4, 2) := dk_54 4 (dk_at dksX9_heads_4 18 rfl rfl)
theorem dX9_heads_113 : decode cX9_heads 113 = .ok (.iinc 5 1, 3) := dk_132 5 1 (dk_at dksX9_heads_4 20 rfl rfl)
theorem dX9_heads_116 : decode cX9_heads 116 = .ok (.goto (-29), 3) := dk_167 255 227 (dk_at dksX9_heads_5 0 rfl rfl)
theorem dX9_heads_119 : decode cX9_heads 119 = .ok (.aload_n 0, 1) := dk_42 (dk_at dksX9_heads_5 3 rfl rfl)
theorem dX9_heads_120 : decode cX9_heads 120 = .ok (.iload 4, 2) := dk_21 4 (dk_at dksX9_heads_5 4 rfl rfl)
theorem dX9_heads_122 : decode cX9_heads 122 = .ok (.invokevirtual 73, 3) := dk_182 0 73 (dk_at dksX9_heads_5 6 rfl rfl)
theorem dX9_heads_125 : decode cX9_heads 125 = .ok (.ireturn, 1) := dk_172 (dk_at dksX9_heads_5 9 rfl rfl)
abbrev cX9_takes : ByteArray := prog_20_method_118_code
def yX9_takes : MethodName := ⟨RX9, "takes", "(I)I"⟩
def dkwX9_takes_2 : List UInt8 := [182, 0, 73, 172]
abbrev dktX9_takes_2 : List UInt8 := dkwX9_takes_2 ++ []
def dkwX9_takes_1 : List UInt8 := [182, 2, 80, 16, 254, 160, 0, 8, 16, 254, 167, 0, 13, 42, 27, 42, 27, 182, 2, 80, 182, 2, 83]
abbrev dktX9_takes_1 : List UInt8 := dkwX9_takes_1 ++ dktX9_takes_2
def dkwX9_takes_0 : List UInt8 := [42, 3, 181, 0, 63, 42, 27, 182, 2, 6, 154, 0, 9, 42, 4, 182, 0, 69, 172, 42, 42, 27]
abbrev dktX9_takes_0 : List UInt8 := dkwX9_takes_0 ++ dktX9_takes_1
theorem dksX9_takes_0 : cX9_takes.data.toList.drop 0 = dktX9_takes_0 := by decide +kernel
theorem dksX9_takes_1 : cX9_takes.data.toList.drop 22 = dktX9_takes_1 := dk_seg dksX9_takes_0 22 rfl rfl
theorem dksX9_takes_2 : cX9_takes.data.toList.drop 45 = dktX9_takes_2 := dk_seg dksX9_takes_1 23 rfl rfl
theorem dX9_takes_0 : decode cX9_takes 0 = .ok (.aload_n 0, 1) := dk_42 (dk_at dksX9_takes_0 0 rfl rfl)
theorem dX9_takes_1 : decode cX9_takes 1 = .ok (.iconst 0, 1) := dk_3 (dk_at dksX9_takes_0 1 rfl rfl)
theorem dX9_takes_2 : decode cX9_takes 2 = .ok (.putfield 63, 3) := dk_181 0 63 (dk_at dksX9_takes_0 2 rfl rfl)
theorem dX9_takes_5 : decode cX9_takes 5 = .ok (.aload_n 0, 1) := dk_42 (dk_at dksX9_takes_0 5 rfl rfl)
theorem dX9_takes_6 : decode cX9_takes 6 = .ok (.iload_n 1, 1) := dk_27 (dk_at dksX9_takes_0 6 rfl rfl)
theorem dX9_takes_7 : decode cX9_takes 7 = .ok (.invokevirtual 518, 3) := dk_182 2 6 (dk_at dksX9_takes_0 7 rfl rfl)
theorem dX9_takes_10 : decode cX9_takes 10 = .ok (.ifCond .ne 9, 3) := dk_154 0 9 (dk_at dksX9_takes_0 10 rfl rfl)
theorem dX9_takes_13 : decode cX9_takes 13 = .ok (.aload_n 0, 1) := dk_42 (dk_at dksX9_takes_0 13 rfl rfl)
theorem dX9_takes_14 : decode cX9_takes 14 = .ok (.iconst 1, 1) := dk_4 (dk_at dksX9_takes_0 14 rfl rfl)
theorem dX9_takes_15 : decode cX9_takes 15 = .ok (.invokevirtual 69, 3) := dk_182 0 69 (dk_at dksX9_takes_0 15 rfl rfl)
theorem dX9_takes_18 : decode cX9_takes 18 = .ok (.ireturn, 1) := dk_172 (dk_at dksX9_takes_0 18 rfl rfl)
theorem dX9_takes_19 : decode cX9_takes 19 = .ok (.aload_n 0, 1) := dk_42 (dk_at dksX9_takes_0 19 rfl rfl)
theorem dX9_takes_20 : decode cX9_takes 20 = .ok (.aload_n 0, 1) := dk_42 (dk_at dksX9_takes_0 20 rfl rfl)
theorem dX9_takes_21 : decode cX9_takes 21 = .ok (.iload_n 1, 1) := dk_27 (dk_at dksX9_takes_0 21 rfl rfl)
theorem dX9_takes_22 : decode cX9_takes 22 = .ok (.invokevirtual 592, 3) := dk_182 2 80 (dk_at dksX9_takes_1 0 rfl rfl)
theorem dX9_takes_25 : decode cX9_takes 25 = .ok (.bipush (-2), 2) := dk_16 254 (dk_at dksX9_takes_1 3 rfl rfl)
theorem dX9_takes_27 : decode cX9_takes 27 = .ok (.if_icmp .ne 8, 3) := dk_160 0 8 (dk_at dksX9_takes_1 5 rfl rfl)
theorem dX9_takes_30 : decode cX9_takes 30 = .ok (.bipush (-2), 2) := dk_16 254 (dk_at dksX9_takes_1 8 rfl rfl)
theorem dX9_takes_32 : decode cX9_takes 32 = .ok (.goto 13, 3) := dk_167 0 13 (dk_at dksX9_takes_1 10 rfl rfl)
theorem dX9_takes_35 : decode cX9_takes 35 = .ok (.aload_n 0, 1) := dk_42 (dk_at dksX9_takes_1 13 rfl rfl)
theorem dX9_takes_36 : decode cX9_takes 36 = .ok (.iload_n 1, 1) := dk_27 (dk_at dksX9_takes_1 14 rfl rfl)
theorem dX9_takes_37 : decode cX9_takes 37 = .ok (.aload_n 0, 1) := dk_42 (dk_at dksX9_takes_1 15 rfl rfl)
theorem dX9_takes_38 : decode cX9_takes 38 = .ok (.iload_n 1, 1) := dk_27 (dk_at dksX9_takes_1 16 rfl rfl)
theorem dX9_takes_39 : decode cX9_takes 39 = .ok (.invokevirtual 592, 3) := dk_182 2 80 (dk_at dksX9_takes_1 17 rfl rfl)
theorem dX9_takes_42 : decode cX9_takes 42 = .ok (.invokevirtual 595, 3) := dk_182 2 83 (dk_at dksX9_takes_1 20 rfl rfl)
theorem dX9_takes_45 : decode cX9_takes 45 = .ok (.invokevirtual 73, 3) := dk_182 0 73 (dk_at dksX9_takes_2 0 rfl rfl)
theorem dX9_takes_48 : decode cX9_takes 48 = .ok (.ireturn, 1) := dk_172 (dk_at dksX9_takes_2 3 rfl rfl)
abbrev cX9_inmost : ByteArray := prog_20_method_115_code
def yX9_inmost : MethodName := ⟨RX9, "inmost", "(I)I"⟩
def dkwX9_inmost_1 : List UInt8 := [46, 154, 0, 5, 28, 172, 132, 2, 1, 167, 255, 225, 16, 254, 172]
abbrev dktX9_inmost_1 : List UInt8 := dkwX9_inmost_1 ++ []
def dkwX9_inmost_0 : List UInt8 := [4, 61, 28, 42, 180, 0, 17, 3, 27, 96, 46, 163, 0, 25, 42, 180, 0, 17, 27, 28, 8, 184, 1, 169]
abbrev dktX9_inmost_0 : List UInt8 := dkwX9_inmost_0 ++ dktX9_inmost_1
theorem dksX9_inmost_0 : cX9_inmost.data.toList.drop 0 = dktX9_inmost_0 := by decide +kernel
theorem dksX9_inmost_1 : cX9_inmost.data.toList.drop 24 = dktX9_inmost_1 := dk_seg dksX9_inmost_0 24 rfl rfl
theorem dX9_inmost_0 : decode cX9_inmost 0 = .ok (.iconst 1, 1) := dk_4 (dk_at dksX9_inmost_0 0 rfl rfl)
theorem dX9_inmost_1 : decode cX9_inmost 1 = .ok (.istore_n 2, 1) := dk_61 (dk_at dksX9_inmost_0 1 rfl rfl)
theorem dX9_inmost_2 : decode cX9_inmost 2 = .ok (.iload_n 2, 1) := dk_28 (dk_at dksX9_inmost_0 2 rfl rfl)
theorem dX9_inmost_3 : decode cX9_inmost 3 = .ok (.aload_n 0, 1) := dk_42 (dk_at dksX9_inmost_0 3 rfl rfl)
theorem dX9_inmost_4 : decode cX9_inmost 4 = .ok (.getfield 17, 3) := dk_180 0 17 (dk_at dksX9_inmost_0 4 rfl rfl)
theorem dX9_inmost_7 : decode cX9_inmost 7 = .ok (.iconst 0, 1) := dk_3 (dk_at dksX9_inmost_0 7 rfl rfl)
theorem dX9_inmost_8 : decode cX9_inmost 8 = .ok (.iload_n 1, 1) := dk_27 (dk_at dksX9_inmost_0 8 rfl rfl)
theorem dX9_inmost_9 : decode cX9_inmost 9 = .ok (.iadd, 1) := dk_96 (dk_at dksX9_inmost_0 9 rfl rfl)
theorem dX9_inmost_10 : decode cX9_inmost 10 = .ok (.iaload, 1) := dk_46 (dk_at dksX9_inmost_0 10 rfl rfl)
theorem dX9_inmost_11 : decode cX9_inmost 11 = .ok (.if_icmp .gt 25, 3) := dk_163 0 25 (dk_at dksX9_inmost_0 11 rfl rfl)
theorem dX9_inmost_14 : decode cX9_inmost 14 = .ok (.aload_n 0, 1) := dk_42 (dk_at dksX9_inmost_0 14 rfl rfl)
theorem dX9_inmost_15 : decode cX9_inmost 15 = .ok (.getfield 17, 3) := dk_180 0 17 (dk_at dksX9_inmost_0 15 rfl rfl)
theorem dX9_inmost_18 : decode cX9_inmost 18 = .ok (.iload_n 1, 1) := dk_27 (dk_at dksX9_inmost_0 18 rfl rfl)
theorem dX9_inmost_19 : decode cX9_inmost 19 = .ok (.iload_n 2, 1) := dk_28 (dk_at dksX9_inmost_0 19 rfl rfl)
theorem dX9_inmost_20 : decode cX9_inmost 20 = .ok (.iconst 5, 1) := dk_8 (dk_at dksX9_inmost_0 20 rfl rfl)
theorem dX9_inmost_21 : decode cX9_inmost 21 = .ok (.invokestatic 425, 3) := dk_184 1 169 (dk_at dksX9_inmost_0 21 rfl rfl)
theorem dX9_inmost_24 : decode cX9_inmost 24 = .ok (.iaload, 1) := dk_46 (dk_at dksX9_inmost_1 0 rfl rfl)
theorem dX9_inmost_25 : decode cX9_inmost 25 = .ok (.ifCond .ne 5, 3) := dk_154 0 5 (dk_at dksX9_inmost_1 1 rfl rfl)
theorem dX9_inmost_28 : decode cX9_inmost 28 = .ok (.iload_n 2, 1) := dk_28 (dk_at dksX9_inmost_1 4 rfl rfl)
theorem dX9_inmost_29 : decode cX9_inmost 29 = .ok (.ireturn, 1) := dk_172 (dk_at dksX9_inmost_1 5 rfl rfl)
theorem dX9_inmost_30 : decode cX9_inmost 30 = .ok (.iinc 2 1, 3) := dk_132 2 1 (dk_at dksX9_inmost_1 6 rfl rfl)
theorem dX9_inmost_33 : decode cX9_inmost 33 = .ok (.goto (-31), 3) := dk_167 255 225 (dk_at dksX9_inmost_1 9 rfl rfl)
theorem dX9_inmost_36 : decode cX9_inmost 36 = .ok (.bipush (-2), 2) := dk_16 254 (dk_at dksX9_inmost_1 12 rfl rfl)
theorem dX9_inmost_38 : decode cX9_inmost 38 = .ok (.ireturn, 1) := dk_172 (dk_at dksX9_inmost_1 14 rfl rfl)
abbrev cX9_goldOf : ByteArray := prog_20_method_116_code
def yX9_goldOf : MethodName := ⟨RX9, "goldOf", "(II)I"⟩
def dkwX9_goldOf_1 : List UInt8 := [5, 108, 172]
abbrev dktX9_goldOf_1 : List UInt8 := dkwX9_goldOf_1 ++ []
def dkwX9_goldOf_0 : List UInt8 := [42, 180, 1, 161, 180, 1, 79, 42, 180, 0, 17, 27, 28, 3, 184, 1, 169, 46, 46, 16, 8, 104, 28, 104]
abbrev dktX9_goldOf_0 : List UInt8 := dkwX9_goldOf_0 ++ dktX9_goldOf_1
theorem dksX9_goldOf_0 : cX9_goldOf.data.toList.drop 0 = dktX9_goldOf_0 := by decide +kernel
theorem dksX9_goldOf_1 : cX9_goldOf.data.toList.drop 24 = dktX9_goldOf_1 := dk_seg dksX9_goldOf_0 24 rfl rfl
theorem dX9_goldOf_0 : decode cX9_goldOf 0 = .ok (.aload_n 0, 1) := dk_42 (dk_at dksX9_goldOf_0 0 rfl rfl)
theorem dX9_goldOf_1 : decode cX9_goldOf 1 = .ok (.getfield 417, 3) := dk_180 1 161 (dk_at dksX9_goldOf_0 1 rfl rfl)
theorem dX9_goldOf_4 : decode cX9_goldOf 4 = .ok (.getfield 335, 3) := dk_180 1 79 (dk_at dksX9_goldOf_0 4 rfl rfl)
theorem dX9_goldOf_7 : decode cX9_goldOf 7 = .ok (.aload_n 0, 1) := dk_42 (dk_at dksX9_goldOf_0 7 rfl rfl)
theorem dX9_goldOf_8 : decode cX9_goldOf 8 = .ok (.getfield 17, 3) := dk_180 0 17 (dk_at dksX9_goldOf_0 8 rfl rfl)
theorem dX9_goldOf_11 : decode cX9_goldOf 11 = .ok (.iload_n 1, 1) := dk_27 (dk_at dksX9_goldOf_0 11 rfl rfl)
theorem dX9_goldOf_12 : decode cX9_goldOf 12 = .ok (.iload_n 2, 1) := dk_28 (dk_at dksX9_goldOf_0 12 rfl rfl)
theorem dX9_goldOf_13 : decode cX9_goldOf 13 = .ok (.iconst 0, 1) := dk_3 (dk_at dksX9_goldOf_0 13 rfl rfl)
theorem dX9_goldOf_14 : decode cX9_goldOf 14 = .ok (.invokestatic 425, 3) := dk_184 1 169 (dk_at dksX9_goldOf_0 14 rfl rfl)
theorem dX9_goldOf_17 : decode cX9_goldOf 17 = .ok (.iaload, 1) := dk_46 (dk_at dksX9_goldOf_0 17 rfl rfl)
theorem dX9_goldOf_18 : decode cX9_goldOf 18 = .ok (.iaload, 1) := dk_46 (dk_at dksX9_goldOf_0 18 rfl rfl)
theorem dX9_goldOf_19 : decode cX9_goldOf 19 = .ok (.bipush 8, 2) := dk_16 8 (dk_at dksX9_goldOf_0 19 rfl rfl)
theorem dX9_goldOf_21 : decode cX9_goldOf 21 = .ok (.imul, 1) := dk_104 (dk_at dksX9_goldOf_0 21 rfl rfl)
theorem dX9_goldOf_22 : decode cX9_goldOf 22 = .ok (.iload_n 2, 1) := dk_28 (dk_at dksX9_goldOf_0 22 rfl rfl)
theorem dX9_goldOf_23 : decode cX9_goldOf 23 = .ok (.imul, 1) := dk_104 (dk_at dksX9_goldOf_0 23 rfl rfl)
theorem dX9_goldOf_24 : decode cX9_goldOf 24 = .ok (.iconst 2, 1) := dk_5 (dk_at dksX9_goldOf_1 0 rfl rfl)
theorem dX9_goldOf_25 : decode cX9_goldOf 25 = .ok (.idiv, 1) := dk_108 (dk_at dksX9_goldOf_1 1 rfl rfl)
theorem dX9_goldOf_26 : decode cX9_goldOf 26 = .ok (.ireturn, 1) := dk_172 (dk_at dksX9_goldOf_1 2 rfl rfl)
abbrev cX9_worth : ByteArray := prog_20_method_119_code
def yX9_worth : MethodName := ⟨RX9, "worth", "(I)I"⟩
def dkwX9_worth_3 : List UInt8 := [29, 182, 2, 83, 96, 61, 132, 3, 1, 167, 255, 199, 42, 28, 182, 0, 73, 172]
abbrev dktX9_worth_3 : List UInt8 := dkwX9_worth_3 ++ []
def dkwX9_worth_2 : List UInt8 := [160, 0, 6, 167, 0, 27, 42, 27, 29, 182, 2, 86, 153, 0, 9, 42, 28, 182, 0, 73, 172, 28, 42, 27]
abbrev dktX9_worth_2 : List UInt8 := dkwX9_worth_2 ++ dktX9_worth_3
def dkwX9_worth_1 : List UInt8 := [42, 180, 0, 17, 3, 27, 96, 46, 162, 0, 51, 42, 180, 0, 17, 27, 29, 8, 184, 1, 169, 46, 4]
abbrev dktX9_worth_1 : List UInt8 := dkwX9_worth_1 ++ dktX9_worth_2
def dkwX9_worth_0 : List UInt8 := [42, 3, 181, 0, 63, 42, 27, 182, 2, 6, 154, 0, 9, 42, 4, 182, 0, 69, 172, 3, 61, 4, 62, 29]
abbrev dktX9_worth_0 : List UInt8 := dkwX9_worth_0 ++ dktX9_worth_1
theorem dksX9_worth_0 : cX9_worth.data.toList.drop 0 = dktX9_worth_0 := by decide +kernel
theorem dksX9_worth_1 : cX9_worth.data.toList.drop 24 = dktX9_worth_1 := dk_seg dksX9_worth_0 24 rfl rfl
theorem dksX9_worth_2 : cX9_worth.data.toList.drop 47 = dktX9_worth_2 := dk_seg dksX9_worth_1 23 rfl rfl
theorem dksX9_worth_3 : cX9_worth.data.toList.drop 71 = dktX9_worth_3 := dk_seg dksX9_worth_2 24 rfl rfl
theorem dX9_worth_0 : decode cX9_worth 0 = .ok (.aload_n 0, 1) := dk_42 (dk_at dksX9_worth_0 0 rfl rfl)
theorem dX9_worth_1 : decode cX9_worth 1 = .ok (.iconst 0, 1) := dk_3 (dk_at dksX9_worth_0 1 rfl rfl)
theorem dX9_worth_2 : decode cX9_worth 2 = .ok (.putfield 63, 3) := dk_181 0 63 (dk_at dksX9_worth_0 2 rfl rfl)
theorem dX9_worth_5 : decode cX9_worth 5 = .ok (.aload_n 0, 1) := dk_42 (dk_at dksX9_worth_0 5 rfl rfl)
theorem dX9_worth_6 : decode cX9_worth 6 = .ok (.iload_n 1, 1) := dk_27 (dk_at dksX9_worth_0 6 rfl rfl)
theorem dX9_worth_7 : decode cX9_worth 7 = .ok (.invokevirtual 518, 3) := dk_182 2 6 (dk_at dksX9_worth_0 7 rfl rfl)
theorem dX9_worth_10 : decode cX9_worth 10 = .ok (.ifCond .ne 9, 3) := dk_154 0 9 (dk_at dksX9_worth_0 10 rfl rfl)
theorem dX9_worth_13 : decode cX9_worth 13 = .ok (.aload_n 0, 1) := dk_42 (dk_at dksX9_worth_0 13 rfl rfl)
theorem dX9_worth_14 : decode cX9_worth 14 = .ok (.iconst 1, 1) := dk_4 (dk_at dksX9_worth_0 14 rfl rfl)
theorem dX9_worth_15 : decode cX9_worth 15 = .ok (.invokevirtual 69, 3) := dk_182 0 69 (dk_at dksX9_worth_0 15 rfl rfl)
theorem dX9_worth_18 : decode cX9_worth 18 = .ok (.ireturn, 1) := dk_172 (dk_at dksX9_worth_0 18 rfl rfl)
theorem dX9_worth_19 : decode cX9_worth 19 = .ok (.iconst 0, 1) := dk_3 (dk_at dksX9_worth_0 19 rfl rfl)
theorem dX9_worth_20 : decode cX9_worth 20 = .ok (.istore_n 2, 1) := dk_61 (dk_at dksX9_worth_0 20 rfl rfl)
theorem dX9_worth_21 : decode cX9_worth 21 = .ok (.iconst 1, 1) := dk_4 (dk_at dksX9_worth_0 21 rfl rfl)
theorem dX9_worth_22 : decode cX9_worth 22 = .ok (.istore_n 3, 1) := dk_62 (dk_at dksX9_worth_0 22 rfl rfl)
theorem dX9_worth_23 : decode cX9_worth 23 = .ok (.iload_n 3, 1) := dk_29 (dk_at dksX9_worth_0 23 rfl rfl)
theorem dX9_worth_24 : decode cX9_worth 24 = .ok (.aload_n 0, 1) := dk_42 (dk_at dksX9_worth_1 0 rfl rfl)
theorem dX9_worth_25 : decode cX9_worth 25 = .ok (.getfield 17, 3) := dk_180 0 17 (dk_at dksX9_worth_1 1 rfl rfl)
theorem dX9_worth_28 : decode cX9_worth 28 = .ok (.iconst 0, 1) := dk_3 (dk_at dksX9_worth_1 4 rfl rfl)
theorem dX9_worth_29 : decode cX9_worth 29 = .ok (.iload_n 1, 1) := dk_27 (dk_at dksX9_worth_1 5 rfl rfl)
theorem dX9_worth_30 : decode cX9_worth 30 = .ok (.iadd, 1) := dk_96 (dk_at dksX9_worth_1 6 rfl rfl)
theorem dX9_worth_31 : decode cX9_worth 31 = .ok (.iaload, 1) := dk_46 (dk_at dksX9_worth_1 7 rfl rfl)
theorem dX9_worth_32 : decode cX9_worth 32 = .ok (.if_icmp .ge 51, 3) := dk_162 0 51 (dk_at dksX9_worth_1 8 rfl rfl)
theorem dX9_worth_35 : decode cX9_worth 35 = .ok (.aload_n 0, 1) := dk_42 (dk_at dksX9_worth_1 11 rfl rfl)
theorem dX9_worth_36 : decode cX9_worth 36 = .ok (.getfield 17, 3) := dk_180 0 17 (dk_at dksX9_worth_1 12 rfl rfl)
theorem dX9_worth_39 : decode cX9_worth 39 = .ok (.iload_n 1, 1) := dk_27 (dk_at dksX9_worth_1 15 rfl rfl)
theorem dX9_worth_40 : decode cX9_worth 40 = .ok (.iload_n 3, 1) := dk_29 (dk_at dksX9_worth_1 16 rfl rfl)
theorem dX9_worth_41 : decode cX9_worth 41 = .ok (.iconst 5, 1) := dk_8 (dk_at dksX9_worth_1 17 rfl rfl)
theorem dX9_worth_42 : decode cX9_worth 42 = .ok (.invokestatic 425, 3) := dk_184 1 169 (dk_at dksX9_worth_1 18 rfl rfl)
theorem dX9_worth_45 : decode cX9_worth 45 = .ok (.iaload, 1) := dk_46 (dk_at dksX9_worth_1 21 rfl rfl)
theorem dX9_worth_46 : decode cX9_worth 46 = .ok (.iconst 1, 1) := dk_4 (dk_at dksX9_worth_1 22 rfl rfl)
theorem dX9_worth_47 : decode cX9_worth 47 = .ok (.if_icmp .ne 6, 3) := dk_160 0 6 (dk_at dksX9_worth_2 0 rfl rfl)
theorem dX9_worth_50 : decode cX9_worth 50 = .ok (.goto 27, 3) := dk_167 0 27 (dk_at dksX9_worth_2 3 rfl rfl)
theorem dX9_worth_53 : decode cX9_worth 53 = .ok (.aload_n 0, 1) := dk_42 (dk_at dksX9_worth_2 6 rfl rfl)
theorem dX9_worth_54 : decode cX9_worth 54 = .ok (.iload_n 1, 1) := dk_27 (dk_at dksX9_worth_2 7 rfl rfl)
theorem dX9_worth_55 : decode cX9_worth 55 = .ok (.iload_n 3, 1) := dk_29 (dk_at dksX9_worth_2 8 rfl rfl)
theorem dX9_worth_56 : decode cX9_worth 56 = .ok (.invokevirtual 598, 3) := dk_182 2 86 (dk_at dksX9_worth_2 9 rfl rfl)
theorem dX9_worth_59 : decode cX9_worth 59 = .ok (.ifCond .eq 9, 3) := dk_153 0 9 (dk_at dksX9_worth_2 12 rfl rfl)
theorem dX9_worth_62 : decode cX9_worth 62 = .ok (.aload_n 0, 1) := dk_42 (dk_at dksX9_worth_2 15 rfl rfl)
theorem dX9_worth_63 : decode cX9_worth 63 = .ok (.iload_n 2, 1) := dk_28 (dk_at dksX9_worth_2 16 rfl rfl)
theorem dX9_worth_64 : decode cX9_worth 64 = .ok (.invokevirtual 73, 3) := dk_182 0 73 (dk_at dksX9_worth_2 17 rfl rfl)
theorem dX9_worth_67 : decode cX9_worth 67 = .ok (.ireturn, 1) := dk_172 (dk_at dksX9_worth_2 20 rfl rfl)
theorem dX9_worth_68 : decode cX9_worth 68 = .ok (.iload_n 2, 1) := dk_28 (dk_at dksX9_worth_2 21 rfl rfl)
theorem dX9_worth_69 : decode cX9_worth 69 = .ok (.aload_n 0, 1) := dk_42 (dk_at dksX9_worth_2 22 rfl rfl)
theorem dX9_worth_70 : decode cX9_worth 70 = .ok (.iload_n 1, 1) := dk_27 (dk_at dksX9_worth_2 23 rfl rfl)
theorem dX9_worth_71 : decode cX9_worth 71 = .ok (.iload_n 3, 1) := dk_29 (dk_at dksX9_worth_3 0 rfl rfl)
theorem dX9_worth_72 : decode cX9_worth 72 = .ok (.invokevirtual 595, 3) := dk_182 2 83 (dk_at dksX9_worth_3 1 rfl rfl)
theorem dX9_worth_75 : decode cX9_worth 75 = .ok (.iadd, 1) := dk_96 (dk_at dksX9_worth_3 4 rfl rfl)
theorem dX9_worth_76 : decode cX9_worth 76 = .ok (.istore_n 2, 1) := dk_61 (dk_at dksX9_worth_3 5 rfl rfl)
theorem dX9_worth_77 : decode cX9_worth 77 = .ok (.iinc 3 1, 3) := dk_132 3 1 (dk_at dksX9_worth_3 6 rfl rfl)
theorem dX9_worth_80 : decode cX9_worth 80 = .ok (.goto (-57), 3) := dk_167 255 199 (dk_at dksX9_worth_3 9 rfl rfl)
theorem dX9_worth_83 : decode cX9_worth 83 = .ok (.aload_n 0, 1) := dk_42 (dk_at dksX9_worth_3 12 rfl rfl)
theorem dX9_worth_84 : decode cX9_worth 84 = .ok (.iload_n 2, 1) := dk_28 (dk_at dksX9_worth_3 13 rfl rfl)
theorem dX9_worth_85 : decode cX9_worth 85 = .ok (.invokevirtual 73, 3) := dk_182 0 73 (dk_at dksX9_worth_3 14 rfl rfl)
theorem dX9_worth_88 : decode cX9_worth 88 = .ok (.ireturn, 1) := dk_172 (dk_at dksX9_worth_3 17 rfl rfl)
abbrev cX9_isLivedIn : ByteArray := prog_20_method_117_code
def yX9_isLivedIn : MethodName := ⟨RX9, "isLivedIn", "(II)Z"⟩
def dkwX9_isLivedIn_2 : List UInt8 := [167, 255, 213, 3, 172]
abbrev dktX9_isLivedIn_2 : List UInt8 := dkwX9_isLivedIn_2 ++ []
def dkwX9_isLivedIn_1 : List UInt8 := [160, 0, 19, 42, 180, 0, 17, 17, 0, 204, 29, 96, 46, 28, 160, 0, 5, 4, 172, 132, 3, 1]
abbrev dktX9_isLivedIn_1 : List UInt8 := dkwX9_isLivedIn_1 ++ dktX9_isLivedIn_2
def dkwX9_isLivedIn_0 : List UInt8 := [3, 62, 29, 42, 180, 1, 161, 180, 1, 132, 162, 0, 38, 42, 180, 1, 161, 180, 1, 135, 29, 46, 27]
abbrev dktX9_isLivedIn_0 : List UInt8 := dkwX9_isLivedIn_0 ++ dktX9_isLivedIn_1
theorem dksX9_isLivedIn_0 : cX9_isLivedIn.data.toList.drop 0 = dktX9_isLivedIn_0 := by decide +kernel
theorem dksX9_isLivedIn_1 : cX9_isLivedIn.data.toList.drop 23 = dktX9_isLivedIn_1 := dk_seg dksX9_isLivedIn_0 23 rfl rfl
theorem dksX9_isLivedIn_2 : cX9_isLivedIn.data.toList.drop 45 = dktX9_isLivedIn_2 := dk_seg dksX9_isLivedIn_1 22 rfl rfl
theorem dX9_isLivedIn_0 : decode cX9_isLivedIn 0 = .ok (.iconst 0, 1) := dk_3 (dk_at dksX9_isLivedIn_0 0 rfl rfl)
theorem dX9_isLivedIn_1 : decode cX9_isLivedIn 1 = .ok (.istore_n 3, 1) := dk_62 (dk_at dksX9_isLivedIn_0 1 rfl rfl)
theorem dX9_isLivedIn_2 : decode cX9_isLivedIn 2 = .ok (.iload_n 3, 1) := dk_29 (dk_at dksX9_isLivedIn_0 2 rfl rfl)
theorem dX9_isLivedIn_3 : decode cX9_isLivedIn 3 = .ok (.aload_n 0, 1) := dk_42 (dk_at dksX9_isLivedIn_0 3 rfl rfl)
theorem dX9_isLivedIn_4 : decode cX9_isLivedIn 4 = .ok (.getfield 417, 3) := dk_180 1 161 (dk_at dksX9_isLivedIn_0 4 rfl rfl)
theorem dX9_isLivedIn_7 : decode cX9_isLivedIn 7 = .ok (.getfield 388, 3) := dk_180 1 132 (dk_at dksX9_isLivedIn_0 7 rfl rfl)
theorem dX9_isLivedIn_10 : decode cX9_isLivedIn 10 = .ok (.if_icmp .ge 38, 3) := dk_162 0 38 (dk_at dksX9_isLivedIn_0 10 rfl rfl)
theorem dX9_isLivedIn_13 : decode cX9_isLivedIn 13 = .ok (.aload_n 0, 1) := dk_42 (dk_at dksX9_isLivedIn_0 13 rfl rfl)
theorem dX9_isLivedIn_14 : decode cX9_isLivedIn 14 = .ok (.getfield 417, 3) := dk_180 1 161 (dk_at dksX9_isLivedIn_0 14 rfl rfl)
theorem dX9_isLivedIn_17 : decode cX9_isLivedIn 17 = .ok (.getfield 391, 3) := dk_180 1 135 (dk_at dksX9_isLivedIn_0 17 rfl rfl)
theorem dX9_isLivedIn_20 : decode cX9_isLivedIn 20 = .ok (.iload_n 3, 1) := dk_29 (dk_at dksX9_isLivedIn_0 20 rfl rfl)
theorem dX9_isLivedIn_21 : decode cX9_isLivedIn 21 = .ok (.iaload, 1) := dk_46 (dk_at dksX9_isLivedIn_0 21 rfl rfl)
theorem dX9_isLivedIn_22 : decode cX9_isLivedIn 22 = .ok (.iload_n 1, 1) := dk_27 (dk_at dksX9_isLivedIn_0 22 rfl rfl)
theorem dX9_isLivedIn_23 : decode cX9_isLivedIn 23 = .ok (.if_icmp .ne 19, 3) := dk_160 0 19 (dk_at dksX9_isLivedIn_1 0 rfl rfl)
theorem dX9_isLivedIn_26 : decode cX9_isLivedIn 26 = .ok (.aload_n 0, 1) := dk_42 (dk_at dksX9_isLivedIn_1 3 rfl rfl)
theorem dX9_isLivedIn_27 : decode cX9_isLivedIn 27 = .ok (.getfield 17, 3) := dk_180 0 17 (dk_at dksX9_isLivedIn_1 4 rfl rfl)
theorem dX9_isLivedIn_30 : decode cX9_isLivedIn 30 = .ok (.sipush 204, 3) := dk_17 0 204 (dk_at dksX9_isLivedIn_1 7 rfl rfl)
theorem dX9_isLivedIn_33 : decode cX9_isLivedIn 33 = .ok (.iload_n 3, 1) := dk_29 (dk_at dksX9_isLivedIn_1 10 rfl rfl)
theorem dX9_isLivedIn_34 : decode cX9_isLivedIn 34 = .ok (.iadd, 1) := dk_96 (dk_at dksX9_isLivedIn_1 11 rfl rfl)
theorem dX9_isLivedIn_35 : decode cX9_isLivedIn 35 = .ok (.iaload, 1) := dk_46 (dk_at dksX9_isLivedIn_1 12 rfl rfl)
theorem dX9_isLivedIn_36 : decode cX9_isLivedIn 36 = .ok (.iload_n 2, 1) := dk_28 (dk_at dksX9_isLivedIn_1 13 rfl rfl)
theorem dX9_isLivedIn_37 : decode cX9_isLivedIn 37 = .ok (.if_icmp .ne 5, 3) := dk_160 0 5 (dk_at dksX9_isLivedIn_1 14 rfl rfl)
theorem dX9_isLivedIn_40 : decode cX9_isLivedIn 40 = .ok (.iconst 1, 1) := dk_4 (dk_at dksX9_isLivedIn_1 17 rfl rfl)
theorem dX9_isLivedIn_41 : decode cX9_isLivedIn 41 = .ok (.ireturn, 1) := dk_172 (dk_at dksX9_isLivedIn_1 18 rfl rfl)
theorem dX9_isLivedIn_42 : decode cX9_isLivedIn 42 = .ok (.iinc 3 1, 3) := dk_132 3 1 (dk_at dksX9_isLivedIn_1 19 rfl rfl)
theorem dX9_isLivedIn_45 : decode cX9_isLivedIn 45 = .ok (.goto (-43), 3) := dk_167 255 213 (dk_at dksX9_isLivedIn_2 0 rfl rfl)
theorem dX9_isLivedIn_48 : decode cX9_isLivedIn 48 = .ok (.iconst 0, 1) := dk_3 (dk_at dksX9_isLivedIn_2 3 rfl rfl)
theorem dX9_isLivedIn_49 : decode cX9_isLivedIn 49 = .ok (.ireturn, 1) := dk_172 (dk_at dksX9_isLivedIn_2 4 rfl rfl)
abbrev cX9_orders : ByteArray := prog_20_method_123_code
def yX9_orders : MethodName := ⟨RX9, "orders", "()I"⟩
def dkwX9_orders_1 : List UInt8 := [42, 180, 2, 92, 182, 0, 73, 172]
abbrev dktX9_orders_1 : List UInt8 := dkwX9_orders_1 ++ []
def dkwX9_orders_0 : List UInt8 := [42, 3, 181, 0, 63, 42, 180, 1, 161, 199, 0, 9, 42, 4, 182, 0, 69, 172, 42, 2, 182, 2, 98, 42]
abbrev dktX9_orders_0 : List UInt8 := dkwX9_orders_0 ++ dktX9_orders_1
theorem dksX9_orders_0 : cX9_orders.data.toList.drop 0 = dktX9_orders_0 := by decide +kernel
theorem dksX9_orders_1 : cX9_orders.data.toList.drop 24 = dktX9_orders_1 := dk_seg dksX9_orders_0 24 rfl rfl
theorem dX9_orders_0 : decode cX9_orders 0 = .ok (.aload_n 0, 1) := dk_42 (dk_at dksX9_orders_0 0 rfl rfl)
theorem dX9_orders_1 : decode cX9_orders 1 = .ok (.iconst 0, 1) := dk_3 (dk_at dksX9_orders_0 1 rfl rfl)
theorem dX9_orders_2 : decode cX9_orders 2 = .ok (.putfield 63, 3) := dk_181 0 63 (dk_at dksX9_orders_0 2 rfl rfl)
theorem dX9_orders_5 : decode cX9_orders 5 = .ok (.aload_n 0, 1) := dk_42 (dk_at dksX9_orders_0 5 rfl rfl)
theorem dX9_orders_6 : decode cX9_orders 6 = .ok (.getfield 417, 3) := dk_180 1 161 (dk_at dksX9_orders_0 6 rfl rfl)
theorem dX9_orders_9 : decode cX9_orders 9 = .ok (.ifnonnull 9, 3) := dk_199 0 9 (dk_at dksX9_orders_0 9 rfl rfl)
theorem dX9_orders_12 : decode cX9_orders 12 = .ok (.aload_n 0, 1) := dk_42 (dk_at dksX9_orders_0 12 rfl rfl)
theorem dX9_orders_13 : decode cX9_orders 13 = .ok (.iconst 1, 1) := dk_4 (dk_at dksX9_orders_0 13 rfl rfl)
theorem dX9_orders_14 : decode cX9_orders 14 = .ok (.invokevirtual 69, 3) := dk_182 0 69 (dk_at dksX9_orders_0 14 rfl rfl)
theorem dX9_orders_17 : decode cX9_orders 17 = .ok (.ireturn, 1) := dk_172 (dk_at dksX9_orders_0 17 rfl rfl)
theorem dX9_orders_18 : decode cX9_orders 18 = .ok (.aload_n 0, 1) := dk_42 (dk_at dksX9_orders_0 18 rfl rfl)
theorem dX9_orders_19 : decode cX9_orders 19 = .ok (.iconst (-1), 1) := dk_2 (dk_at dksX9_orders_0 19 rfl rfl)
theorem dX9_orders_20 : decode cX9_orders 20 = .ok (.invokevirtual 610, 3) := dk_182 2 98 (dk_at dksX9_orders_0 20 rfl rfl)
theorem dX9_orders_23 : decode cX9_orders 23 = .ok (.aload_n 0, 1) := dk_42 (dk_at dksX9_orders_0 23 rfl rfl)
theorem dX9_orders_24 : decode cX9_orders 24 = .ok (.aload_n 0, 1) := dk_42 (dk_at dksX9_orders_1 0 rfl rfl)
theorem dX9_orders_25 : decode cX9_orders 25 = .ok (.getfield 604, 3) := dk_180 2 92 (dk_at dksX9_orders_1 1 rfl rfl)
theorem dX9_orders_28 : decode cX9_orders 28 = .ok (.invokevirtual 73, 3) := dk_182 0 73 (dk_at dksX9_orders_1 4 rfl rfl)
theorem dX9_orders_31 : decode cX9_orders 31 = .ok (.ireturn, 1) := dk_172 (dk_at dksX9_orders_1 7 rfl rfl)
abbrev cX9_findsOrders : ByteArray := prog_20_method_122_code
def yX9_findsOrders : MethodName := ⟨RX9, "findsOrders", "(I)V"⟩
def dkwX9_findsOrders_10 : List UInt8 := [180, 1, 138, 184, 2, 70, 61, 167, 255, 67, 177]
abbrev dktX9_findsOrders_10 : List UInt8 := dkwX9_findsOrders_10 ++ []
def dkwX9_findsOrders_9 : List UInt8 := [132, 4, 1, 167, 255, 111, 42, 89, 180, 2, 92, 4, 96, 181, 2, 92, 42, 180, 0, 42, 42, 180, 1, 161]
abbrev dktX9_findsOrders_9 : List UInt8 := dkwX9_findsOrders_9 ++ dktX9_findsOrders_10
def dkwX9_findsOrders_8 : List UInt8 := [21, 4, 46, 79, 42, 180, 0, 51, 21, 5, 92, 46, 29, 126, 79, 29, 4, 21, 5, 120, 128, 62]
abbrev dktX9_findsOrders_8 : List UInt8 := dkwX9_findsOrders_8 ++ dktX9_findsOrders_9
def dkwX9_findsOrders_7 : List UInt8 := [21, 4, 46, 42, 180, 0, 48, 21, 5, 46, 164, 0, 17, 42, 180, 0, 48, 21, 5, 42, 180, 0, 57]
abbrev dktX9_findsOrders_7 : List UInt8 := dkwX9_findsOrders_7 ++ dktX9_findsOrders_8
def dkwX9_findsOrders_6 : List UInt8 := [180, 0, 54, 21, 4, 46, 79, 42, 180, 0, 48, 21, 5, 46, 16, 254, 159, 0, 20, 42, 180, 0, 57]
abbrev dktX9_findsOrders_6 : List UInt8 := dkwX9_findsOrders_6 ++ dktX9_findsOrders_7
def dkwX9_findsOrders_5 : List UInt8 := [42, 180, 0, 54, 21, 4, 46, 42, 180, 0, 45, 21, 5, 46, 162, 0, 17, 42, 180, 0, 45, 21, 5, 42]
abbrev dktX9_findsOrders_5 : List UInt8 := dkwX9_findsOrders_5 ++ dktX9_findsOrders_6
def dkwX9_findsOrders_4 : List UInt8 := [160, 0, 12, 42, 180, 0, 60, 21, 4, 21, 5, 79, 42, 180, 0, 45, 21, 5, 46, 16, 254, 159, 0, 20]
abbrev dktX9_findsOrders_4 : List UInt8 := dkwX9_findsOrders_4 ++ dktX9_findsOrders_5
def dkwX9_findsOrders_3 : List UInt8 := [180, 1, 161, 180, 1, 138, 162, 0, 139, 42, 180, 0, 42, 21, 4, 46, 54, 5, 42, 180, 2, 92, 27]
abbrev dktX9_findsOrders_3 : List UInt8 := dkwX9_findsOrders_3 ++ dktX9_findsOrders_4
def dkwX9_findsOrders_2 : List UInt8 := [167, 255, 216, 4, 61, 28, 153, 0, 191, 42, 182, 2, 95, 153, 0, 166, 3, 62, 3, 54, 4, 21, 4, 42]
abbrev dktX9_findsOrders_2 : List UInt8 := dkwX9_findsOrders_2 ++ dktX9_findsOrders_3
def dkwX9_findsOrders_1 : List UInt8 := [28, 16, 254, 79, 42, 180, 0, 48, 28, 16, 254, 79, 42, 180, 0, 51, 28, 16, 63, 79, 132, 2, 1]
abbrev dktX9_findsOrders_1 : List UInt8 := dkwX9_findsOrders_1 ++ dktX9_findsOrders_2
def dkwX9_findsOrders_0 : List UInt8 := [42, 3, 181, 2, 92, 3, 61, 28, 16, 6, 162, 0, 40, 42, 180, 0, 42, 28, 28, 79, 42, 180, 0, 45]
abbrev dktX9_findsOrders_0 : List UInt8 := dkwX9_findsOrders_0 ++ dktX9_findsOrders_1
theorem dksX9_findsOrders_0 : cX9_findsOrders.data.toList.drop 0 = dktX9_findsOrders_0 := by decide +kernel
theorem dksX9_findsOrders_1 : cX9_findsOrders.data.toList.drop 24 = dktX9_findsOrders_1 := dk_seg dksX9_findsOrders_0 24 rfl rfl
theorem dksX9_findsOrders_2 : cX9_findsOrders.data.toList.drop 47 = dktX9_findsOrders_2 := dk_seg dksX9_findsOrders_1 23 rfl rfl
theorem dksX9_findsOrders_3 : cX9_findsOrders.data.toList.drop 71 = dktX9_findsOrders_3 := dk_seg dksX9_findsOrders_2 24 rfl rfl
theorem dksX9_findsOrders_4 : cX9_findsOrders.data.toList.drop 94 = dktX9_findsOrders_4 := dk_seg dksX9_findsOrders_3 23 rfl rfl
theorem dksX9_findsOrders_5 : cX9_findsOrders.data.toList.drop 118 = dktX9_findsOrders_5 := dk_seg dksX9_findsOrders_4 24 rfl rfl
theorem dksX9_findsOrders_6 : cX9_findsOrders.data.toList.drop 142 = dktX9_findsOrders_6 := dk_seg dksX9_findsOrders_5 24 rfl rfl
theorem dksX9_findsOrders_7 : cX9_findsOrders.data.toList.drop 165 = dktX9_findsOrders_7 := dk_seg dksX9_findsOrders_6 23 rfl rfl
theorem dksX9_findsOrders_8 : cX9_findsOrders.data.toList.drop 188 = dktX9_findsOrders_8 := dk_seg dksX9_findsOrders_7 23 rfl rfl
theorem dksX9_findsOrders_9 : cX9_findsOrders.data.toList.drop 210 = dktX9_findsOrders_9 := dk_seg dksX9_findsOrders_8 22 rfl rfl
theorem dksX9_findsOrders_10 : cX9_findsOrders.data.toList.drop 234 = dktX9_findsOrders_10 := dk_seg dksX9_findsOrders_9 24 rfl rfl
theorem dX9_findsOrders_0 : decode cX9_findsOrders 0 = .ok (.aload_n 0, 1) := dk_42 (dk_at dksX9_findsOrders_0 0 rfl rfl)
theorem dX9_findsOrders_1 : decode cX9_findsOrders 1 = .ok (.iconst 0, 1) := dk_3 (dk_at dksX9_findsOrders_0 1 rfl rfl)
theorem dX9_findsOrders_2 : decode cX9_findsOrders 2 = .ok (.putfield 604, 3) := dk_181 2 92 (dk_at dksX9_findsOrders_0 2 rfl rfl)
theorem dX9_findsOrders_5 : decode cX9_findsOrders 5 = .ok (.iconst 0, 1) := dk_3 (dk_at dksX9_findsOrders_0 5 rfl rfl)
theorem dX9_findsOrders_6 : decode cX9_findsOrders 6 = .ok (.istore_n 2, 1) := dk_61 (dk_at dksX9_findsOrders_0 6 rfl rfl)
theorem dX9_findsOrders_7 : decode cX9_findsOrders 7 = .ok (.iload_n 2, 1) := dk_28 (dk_at dksX9_findsOrders_0 7 rfl rfl)
theorem dX9_findsOrders_8 : decode cX9_findsOrders 8 = .ok (.bipush 6, 2) := dk_16 6 (dk_at dksX9_findsOrders_0 8 rfl rfl)
theorem dX9_findsOrders_10 : decode cX9_findsOrders 10 = .ok (.if_icmp .ge 40, 3) := dk_162 0 40 (dk_at dksX9_findsOrders_0 10 rfl rfl)
theorem dX9_findsOrders_13 : decode cX9_findsOrders 13 = .ok (.aload_n 0, 1) := dk_42 (dk_at dksX9_findsOrders_0 13 rfl rfl)
theorem dX9_findsOrders_14 : decode cX9_findsOrders 14 = .ok (.getfield 42, 3) := dk_180 0 42 (dk_at dksX9_findsOrders_0 14 rfl rfl)
theorem dX9_findsOrders_17 : decode cX9_findsOrders 17 = .ok (.iload_n 2, 1) := dk_28 (dk_at dksX9_findsOrders_0 17 rfl rfl)
theorem dX9_findsOrders_18 : decode cX9_findsOrders 18 = .ok (.iload_n 2, 1) := dk_28 (dk_at dksX9_findsOrders_0 18 rfl rfl)
theorem dX9_findsOrders_19 : decode cX9_findsOrders 19 = .ok (.iastore, 1) := dk_79 (dk_at dksX9_findsOrders_0 19 rfl rfl)
theorem dX9_findsOrders_20 : decode cX9_findsOrders 20 = .ok (.aload_n 0, 1) := dk_42 (dk_at dksX9_findsOrders_0 20 rfl rfl)
theorem dX9_findsOrders_21 : decode cX9_findsOrders 21 = .ok (.getfield 45, 3) := dk_180 0 45 (dk_at dksX9_findsOrders_0 21 rfl rfl)
theorem dX9_findsOrders_24 : decode cX9_findsOrders 24 = .ok (.iload_n 2, 1) := dk_28 (dk_at dksX9_findsOrders_1 0 rfl rfl)
theorem dX9_findsOrders_25 : decode cX9_findsOrders 25 = .ok (.bipush (-2), 2) := dk_16 254 (dk_at dksX9_findsOrders_1 1 rfl rfl)
theorem dX9_findsOrders_27 : decode cX9_findsOrders 27 = .ok (.iastore, 1) := dk_79 (dk_at dksX9_findsOrders_1 3 rfl rfl)
theorem dX9_findsOrders_28 : decode cX9_findsOrders 28 = .ok (.aload_n 0, 1) := dk_42 (dk_at dksX9_findsOrders_1 4 rfl rfl)
theorem dX9_findsOrders_29 : decode cX9_findsOrders 29 = .ok (.getfield 48, 3) := dk_180 0 48 (dk_at dksX9_findsOrders_1 5 rfl rfl)
theorem dX9_findsOrders_32 : decode cX9_findsOrders 32 = .ok (.iload_n 2, 1) := dk_28 (dk_at dksX9_findsOrders_1 8 rfl rfl)
theorem dX9_findsOrders_33 : decode cX9_findsOrders 33 = .ok (.bipush (-2), 2) := dk_16 254 (dk_at dksX9_findsOrders_1 9 rfl rfl)
theorem dX9_findsOrders_35 : decode cX9_findsOrders 35 = .ok (.iastore, 1) := dk_79 (dk_at dksX9_findsOrders_1 11 rfl rfl)
theorem dX9_findsOrders_36 : decode cX9_findsOrders 36 = .ok (.aload_n 0, 1) := dk_42 (dk_at dksX9_findsOrders_1 12 rfl rfl)
theorem dX9_findsOrders_37 : decode cX9_findsOrders 37 = .ok (.getfield 51, 3) := dk_180 0 51 (dk_at dksX9_findsOrders_1 13 rfl rfl)
theorem dX9_findsOrders_40 : decode cX9_findsOrders 40 = .ok (.iload_n 2, 1) := dk_28 (dk_at dksX9_findsOrders_1 16 rfl rfl)
theorem dX9_findsOrders_41 : decode cX9_findsOrders 41 = .ok (.bipush 63, 2) := dk_16 63 (dk_at dksX9_findsOrders_1 17 rfl rfl)
theorem dX9_findsOrders_43 : decode cX9_findsOrders 43 = .ok (.iastore, 1) := dk_79 (dk_at dksX9_findsOrders_1 19 rfl rfl)
theorem dX9_findsOrders_44 : decode cX9_findsOrders 44 = .ok (.iinc 2 1, 3) := dk_132 2 1 (dk_at dksX9_findsOrders_1 20 rfl rfl)
theorem dX9_findsOrders_47 : decode cX9_findsOrders 47 = .ok (.goto (-40), 3) := dk_167 255 216 (dk_at dksX9_findsOrders_2 0 rfl rfl)
theorem dX9_findsOrders_50 : decode cX9_findsOrders 50 = .ok (.iconst 1, 1) := dk_4 (dk_at dksX9_findsOrders_2 3 rfl rfl)
theorem dX9_findsOrders_51 : decode cX9_findsOrders 51 = .ok (.istore_n 2, 1) := dk_61 (dk_at dksX9_findsOrders_2 4 rfl rfl)
theorem dX9_findsOrders_52 : decode cX9_findsOrders 52 = .ok (.iload_n 2, 1) := dk_28 (dk_at dksX9_findsOrders_2 5 rfl rfl)
theorem dX9_findsOrders_53 : decode cX9_findsOrders 53 = .ok (.ifCond .eq 191, 3) := dk_153 0 191 (dk_at dksX9_findsOrders_2 6 rfl rfl)
theorem dX9_findsOrders_56 : decode cX9_findsOrders 56 = .ok (.aload_n 0, 1) := dk_42 (dk_at dksX9_findsOrders_2 9 rfl rfl)
theorem dX9_findsOrders_57 : decode cX9_findsOrders 57 = .ok (.invokevirtual 607, 3) := dk_182 2 95 (dk_at dksX9_findsOrders_2 10 rfl rfl)
theorem dX9_findsOrders_60 : decode cX9_findsOrders 60 = .ok (.ifCond .eq 166, 3) := dk_153 0 166 (dk_at dksX9_findsOrders_2 13 rfl rfl)
theorem dX9_findsOrders_63 : decode cX9_findsOrders 63 = .ok (.iconst 0, 1) := dk_3 (dk_at dksX9_findsOrders_2 16 rfl rfl)
theorem dX9_findsOrders_64 : decode cX9_findsOrders 64 = .ok (.istore_n 3, 1) := dk_62 (dk_at dksX9_findsOrders_2 17 rfl rfl)
theorem dX9_findsOrders_65 : decode cX9_findsOrders 65 = .ok (.iconst 0, 1) := dk_3 (dk_at dksX9_findsOrders_2 18 rfl rfl)
theorem dX9_findsOrders_66 : decode cX9_findsOrders 66 = .ok (.istore 4, 2) := dk_54 4 (dk_at dksX9_findsOrders_2 19 rfl rfl)
theorem dX9_findsOrders_68 : decode cX9_findsOrders 68 = .ok (.iload 4, 2) := dk_21 4 (dk_at dksX9_findsOrders_2 21 rfl rfl)
theorem dX9_findsOrders_70 : decode cX9_findsOrders 70 = .ok (.aload_n 0, 1) := dk_42 (dk_at dksX9_findsOrders_2 23 rfl rfl)
theorem dX9_findsOrders_71 : decode cX9_findsOrders 71 = .ok (.getfield 417, 3) := dk_180 1 161 (dk_at dksX9_findsOrders_3 0 rfl rfl)
theorem dX9_findsOrders_74 : decode cX9_findsOrders 74 = .ok (.getfield 394, 3) := dk_180 1 138 (dk_at dksX9_findsOrders_3 3 rfl rfl)
theorem dX9_findsOrders_77 : decode cX9_findsOrders 77 = .ok (.if_icmp .ge 139, 3) := dk_162 0 139 (dk_at dksX9_findsOrders_3 6 rfl rfl)
theorem dX9_findsOrders_80 : decode cX9_findsOrders 80 = .ok (.aload_n 0, 1) := dk_42 (dk_at dksX9_findsOrders_3 9 rfl rfl)
theorem dX9_findsOrders_81 : decode cX9_findsOrders 81 = .ok (.getfield 42, 3) := dk_180 0 42 (dk_at dksX9_findsOrders_3 10 rfl rfl)
theorem dX9_findsOrders_84 : decode cX9_findsOrders 84 = .ok (.iload 4, 2) := dk_21 4 (dk_at dksX9_findsOrders_3 13 rfl rfl)
theorem dX9_findsOrders_86 : decode cX9_findsOrders 86 = .ok (.iaload, 1) := dk_46 (dk_at dksX9_findsOrders_3 15 rfl rfl)
theorem dX9_findsOrders_87 : decode cX9_findsOrders 87 = .ok (.istore 5, 2) := dk_54 5 (dk_at dksX9_findsOrders_3 16 rfl rfl)
theorem dX9_findsOrders_89 : decode cX9_findsOrders 89 = .ok (.aload_n 0, 1) := dk_42 (dk_at dksX9_findsOrders_3 18 rfl rfl)
theorem dX9_findsOrders_90 : decode cX9_findsOrders 90 = .ok (.getfield 604, 3) := dk_180 2 92 (dk_at dksX9_findsOrders_3 19 rfl rfl)
theorem dX9_findsOrders_93 : decode cX9_findsOrders 93 = .ok (.iload_n 1, 1) := dk_27 (dk_at dksX9_findsOrders_3 22 rfl rfl)
theorem dX9_findsOrders_94 : decode cX9_findsOrders 94 = .ok (.if_icmp .ne 12, 3) := dk_160 0 12 (dk_at dksX9_findsOrders_4 0 rfl rfl)
theorem dX9_findsOrders_97 : decode cX9_findsOrders 97 = .ok (.aload_n 0, 1) := dk_42 (dk_at dksX9_findsOrders_4 3 rfl rfl)
theorem dX9_findsOrders_98 : decode cX9_findsOrders 98 = .ok (.getfield 60, 3) := dk_180 0 60 (dk_at dksX9_findsOrders_4 4 rfl rfl)
theorem dX9_findsOrders_101 : decode cX9_findsOrders 101 = .ok (.iload 4, 2) := dk_21 4 (dk_at dksX9_findsOrders_4 7 rfl rfl)
theorem dX9_findsOrders_103 : decode cX9_findsOrders 103 = .ok (.iload 5, 2) := dk_21 5 (dk_at dksX9_findsOrders_4 9 rfl rfl)
theorem dX9_findsOrders_105 : decode cX9_findsOrders 105 = .ok (.iastore, 1) := dk_79 (dk_at dksX9_findsOrders_4 11 rfl rfl)
theorem dX9_findsOrders_106 : decode cX9_findsOrders 106 = .ok (.aload_n 0, 1) := dk_42 (dk_at dksX9_findsOrders_4 12 rfl rfl)
theorem dX9_findsOrders_107 : decode cX9_findsOrders 107 = .ok (.getfield 45, 3) := dk_180 0 45 (dk_at dksX9_findsOrders_4 13 rfl rfl)
theorem dX9_findsOrders_110 : decode cX9_findsOrders 110 = .ok (.iload 5, 2) := dk_21 5 (dk_at dksX9_findsOrders_4 16 rfl rfl)
theorem dX9_findsOrders_112 : decode cX9_findsOrders 112 = .ok (.iaload, 1) := dk_46 (dk_at dksX9_findsOrders_4 18 rfl rfl)
theorem dX9_findsOrders_113 : decode cX9_findsOrders 113 = .ok (.bipush (-2), 2) := dk_16 254 (dk_at dksX9_findsOrders_4 19 rfl rfl)
theorem dX9_findsOrders_115 : decode cX9_findsOrders 115 = .ok (.if_icmp .eq 20, 3) := dk_159 0 20 (dk_at dksX9_findsOrders_4 21 rfl rfl)
theorem dX9_findsOrders_118 : decode cX9_findsOrders 118 = .ok (.aload_n 0, 1) := dk_42 (dk_at dksX9_findsOrders_5 0 rfl rfl)
theorem dX9_findsOrders_119 : decode cX9_findsOrders 119 = .ok (.getfield 54, 3) := dk_180 0 54 (dk_at dksX9_findsOrders_5 1 rfl rfl)
theorem dX9_findsOrders_122 : decode cX9_findsOrders 122 = .ok (.iload 4, 2) := dk_21 4 (dk_at dksX9_findsOrders_5 4 rfl rfl)
theorem dX9_findsOrders_124 : decode cX9_findsOrders 124 = .ok (.iaload, 1) := dk_46 (dk_at dksX9_findsOrders_5 6 rfl rfl)
theorem dX9_findsOrders_125 : decode cX9_findsOrders 125 = .ok (.aload_n 0, 1) := dk_42 (dk_at dksX9_findsOrders_5 7 rfl rfl)
theorem dX9_findsOrders_126 : decode cX9_findsOrders 126 = .ok (.getfield 45, 3) := dk_180 0 45 (dk_at dksX9_findsOrders_5 8 rfl rfl)
theorem dX9_findsOrders_129 : decode cX9_findsOrders 129 = .ok (.iload 5, 2) := dk_21 5 (dk_at dksX9_findsOrders_5 11 rfl rfl)
theorem dX9_findsOrders_131 : decode cX9_findsOrders 131 = .ok (.iaload, 1) := dk_46 (dk_at dksX9_findsOrders_5 13 rfl rfl)
theorem dX9_findsOrders_132 : decode cX9_findsOrders 132 = .ok (.if_icmp .ge 17, 3) := dk_162 0 17 (dk_at dksX9_findsOrders_5 14 rfl rfl)
theorem dX9_findsOrders_135 : decode cX9_findsOrders 135 = .ok (.aload_n 0, 1) := dk_42 (dk_at dksX9_findsOrders_5 17 rfl rfl)
theorem dX9_findsOrders_136 : decode cX9_findsOrders 136 = .ok (.getfield 45, 3) := dk_180 0 45 (dk_at dksX9_findsOrders_5 18 rfl rfl)
theorem dX9_findsOrders_139 : decode cX9_findsOrders 139 = .ok (.iload 5, 2) := dk_21 5 (dk_at dksX9_findsOrders_5 21 rfl rfl)
theorem dX9_findsOrders_141 : decode cX9_findsOrders 141 = .ok (.aload_n 0, 1) := dk_42 (dk_at dksX9_findsOrders_5 23 rfl rfl)
theorem dX9_findsOrders_142 : decode cX9_findsOrders 142 = .ok (.getfield 54, 3) := dk_180 0 54 (dk_at dksX9_findsOrders_6 0 rfl rfl)
theorem dX9_findsOrders_145 : decode cX9_findsOrders 145 = .ok (.iload 4, 2) := dk_21 4 (dk_at dksX9_findsOrders_6 3 rfl rfl)
theorem dX9_findsOrders_147 : decode cX9_findsOrders 147 = .ok (.iaload, 1) := dk_46 (dk_at dksX9_findsOrders_6 5 rfl rfl)
theorem dX9_findsOrders_148 : decode cX9_findsOrders 148 = .ok (.iastore, 1) := dk_79 (dk_at dksX9_findsOrders_6 6 rfl rfl)
theorem dX9_findsOrders_149 : decode cX9_findsOrders 149 = .ok (.aload_n 0, 1) := dk_42 (dk_at dksX9_findsOrders_6 7 rfl rfl)
theorem dX9_findsOrders_150 : decode cX9_findsOrders 150 = .ok (.getfield 48, 3) := dk_180 0 48 (dk_at dksX9_findsOrders_6 8 rfl rfl)
theorem dX9_findsOrders_153 : decode cX9_findsOrders 153 = .ok (.iload 5, 2) := dk_21 5 (dk_at dksX9_findsOrders_6 11 rfl rfl)
theorem dX9_findsOrders_155 : decode cX9_findsOrders 155 = .ok (.iaload, 1) := dk_46 (dk_at dksX9_findsOrders_6 13 rfl rfl)
theorem dX9_findsOrders_156 : decode cX9_findsOrders 156 = .ok (.bipush (-2), 2) := dk_16 254 (dk_at dksX9_findsOrders_6 14 rfl rfl)
theorem dX9_findsOrders_158 : decode cX9_findsOrders 158 = .ok (.if_icmp .eq 20, 3) := dk_159 0 20 (dk_at dksX9_findsOrders_6 16 rfl rfl)
theorem dX9_findsOrders_161 : decode cX9_findsOrders 161 = .ok (.aload_n 0, 1) := dk_42 (dk_at dksX9_findsOrders_6 19 rfl rfl)
theorem dX9_findsOrders_162 : decode cX9_findsOrders 162 = .ok (.getfield 57, 3) := dk_180 0 57 (dk_at dksX9_findsOrders_6 20 rfl rfl)
theorem dX9_findsOrders_165 : decode cX9_findsOrders 165 = .ok (.iload 4, 2) := dk_21 4 (dk_at dksX9_findsOrders_7 0 rfl rfl)
theorem dX9_findsOrders_167 : decode cX9_findsOrders 167 = .ok (.iaload, 1) := dk_46 (dk_at dksX9_findsOrders_7 2 rfl rfl)
theorem dX9_findsOrders_168 : decode cX9_findsOrders 168 = .ok (.aload_n 0, 1) := dk_42 (dk_at dksX9_findsOrders_7 3 rfl rfl)
theorem dX9_findsOrders_169 : decode cX9_findsOrders 169 = .ok (.getfield 48, 3) := dk_180 0 48 (dk_at dksX9_findsOrders_7 4 rfl rfl)
theorem dX9_findsOrders_172 : decode cX9_findsOrders 172 = .ok (.iload 5, 2) := dk_21 5 (dk_at dksX9_findsOrders_7 7 rfl rfl)
theorem dX9_findsOrders_174 : decode cX9_findsOrders 174 = .ok (.iaload, 1) := dk_46 (dk_at dksX9_findsOrders_7 9 rfl rfl)
theorem dX9_findsOrders_175 : decode cX9_findsOrders 175 = .ok (.if_icmp .le 17, 3) := dk_164 0 17 (dk_at dksX9_findsOrders_7 10 rfl rfl)
theorem dX9_findsOrders_178 : decode cX9_findsOrders 178 = .ok (.aload_n 0, 1) := dk_42 (dk_at dksX9_findsOrders_7 13 rfl rfl)
theorem dX9_findsOrders_179 : decode cX9_findsOrders 179 = .ok (.getfield 48, 3) := dk_180 0 48 (dk_at dksX9_findsOrders_7 14 rfl rfl)
theorem dX9_findsOrders_182 : decode cX9_findsOrders 182 = .ok (.iload 5, 2) := dk_21 5 (dk_at dksX9_findsOrders_7 17 rfl rfl)
theorem dX9_findsOrders_184 : decode cX9_findsOrders 184 = .ok (.aload_n 0, 1) := dk_42 (dk_at dksX9_findsOrders_7 19 rfl rfl)
theorem dX9_findsOrders_185 : decode cX9_findsOrders 185 = .ok (.getfield 57, 3) := dk_180 0 57 (dk_at dksX9_findsOrders_7 20 rfl rfl)
theorem dX9_findsOrders_188 : decode cX9_findsOrders 188 = .ok (.iload 4, 2) := dk_21 4 (dk_at dksX9_findsOrders_8 0 rfl rfl)
theorem dX9_findsOrders_190 : decode cX9_findsOrders 190 = .ok (.iaload, 1) := dk_46 (dk_at dksX9_findsOrders_8 2 rfl rfl)
theorem dX9_findsOrders_191 : decode cX9_findsOrders 191 = .ok (.iastore, 1) := dk_79 (dk_at dksX9_findsOrders_8 3 rfl rfl)
theorem dX9_findsOrders_192 : decode cX9_findsOrders 192 = .ok (.aload_n 0, 1) := dk_42 (dk_at dksX9_findsOrders_8 4 rfl rfl)
theorem dX9_findsOrders_193 : decode cX9_findsOrders 193 = .ok (.getfield 51, 3) := dk_180 0 51 (dk_at dksX9_findsOrders_8 5 rfl rfl)
theorem dX9_findsOrders_196 : decode cX9_findsOrders 196 = .ok (.iload 5, 2) := dk_21 5 (dk_at dksX9_findsOrders_8 8 rfl rfl)
theorem dX9_findsOrders_198 : decode cX9_findsOrders 198 = .ok (.dup2, 1) := dk_92 (dk_at dksX9_findsOrders_8 10 rfl rfl)
theorem dX9_findsOrders_199 : decode cX9_findsOrders 199 = .ok (.iaload, 1) := dk_46 (dk_at dksX9_findsOrders_8 11 rfl rfl)
theorem dX9_findsOrders_200 : decode cX9_findsOrders 200 = .ok (.iload_n 3, 1) := dk_29 (dk_at dksX9_findsOrders_8 12 rfl rfl)
theorem dX9_findsOrders_201 : decode cX9_findsOrders 201 = .ok (.iand, 1) := dk_126 (dk_at dksX9_findsOrders_8 13 rfl rfl)
theorem dX9_findsOrders_202 : decode cX9_findsOrders 202 = .ok (.iastore, 1) := dk_79 (dk_at dksX9_findsOrders_8 14 rfl rfl)
theorem dX9_findsOrders_203 : decode cX9_findsOrders 203 = .ok (.iload_n 3, 1) := dk_29 (dk_at dksX9_findsOrders_8 15 rfl rfl)
theorem dX9_findsOrders_204 : decode cX9_findsOrders 204 = .ok (.iconst 1, 1) := dk_4 (dk_at dksX9_findsOrders_8 16 rfl rfl)
theorem dX9_findsOrders_205 : decode cX9_findsOrders 205 = .ok (.iload 5, 2) := dk_21 5 (dk_at dksX9_findsOrders_8 17 rfl rfl)
theorem dX9_findsOrders_207 : decode cX9_findsOrders 207 = .ok (.ishl, 1) := dk_120 (dk_at dksX9_findsOrders_8 19 rfl rfl)
theorem dX9_findsOrders_208 : decode cX9_findsOrders 208 = .ok (.ior, 1) := dk_128 (dk_at dksX9_findsOrders_8 20 rfl rfl)
theorem dX9_findsOrders_209 : decode cX9_findsOrders 209 = .ok (.istore_n 3, 1) := dk_62 (dk_at dksX9_findsOrders_8 21 rfl rfl)
theorem dX9_findsOrders_210 : decode cX9_findsOrders 210 = .ok (.iinc 4 1, 3) := dk_132 4 1 (dk_at dksX9_findsOrders_9 0 rfl rfl)
theorem dX9_findsOrders_213 : decode cX9_findsOrders 213 = .ok (.goto (-145), 3) := dk_167 255 111 (dk_at dksX9_findsOrders_9 3 rfl rfl)
theorem dX9_findsOrders_216 : decode cX9_findsOrders 216 = .ok (.aload_n 0, 1) := dk_42 (dk_at dksX9_findsOrders_9 6 rfl rfl)
theorem dX9_findsOrders_217 : decode cX9_findsOrders 217 = .ok (.dup, 1) := dk_89 (dk_at dksX9_findsOrders_9 7 rfl rfl)
theorem dX9_findsOrders_218 : decode cX9_findsOrders 218 = .ok (.getfield 604, 3) := dk_180 2 92 (dk_at dksX9_findsOrders_9 8 rfl rfl)
theorem dX9_findsOrders_221 : decode cX9_findsOrders 221 = .ok (.iconst 1, 1) := dk_4 (dk_at dksX9_findsOrders_9 11 rfl rfl)
theorem dX9_findsOrders_222 : decode cX9_findsOrders 222 = .ok (.iadd, 1) := dk_96 (dk_at dksX9_findsOrders_9 12 rfl rfl)
theorem dX9_findsOrders_223 : decode cX9_findsOrders 223 = .ok (.putfield 604, 3) := dk_181 2 92 (dk_at dksX9_findsOrders_9 13 rfl rfl)
theorem dX9_findsOrders_226 : decode cX9_findsOrders 226 = .ok (.aload_n 0, 1) := dk_42 (dk_at dksX9_findsOrders_9 16 rfl rfl)
theorem dX9_findsOrders_227 : decode cX9_findsOrders 227 = .ok (.getfield 42, 3) := dk_180 0 42 (dk_at dksX9_findsOrders_9 17 rfl rfl)
theorem dX9_findsOrders_230 : decode cX9_findsOrders 230 = .ok (.aload_n 0, 1) := dk_42 (dk_at dksX9_findsOrders_9 20 rfl rfl)
theorem dX9_findsOrders_231 : decode cX9_findsOrders 231 = .ok (.getfield 417, 3) := dk_180 1 161 (dk_at dksX9_findsOrders_9 21 rfl rfl)
theorem dX9_findsOrders_234 : decode cX9_findsOrders 234 = .ok (.getfield 394, 3) := dk_180 1 138 (dk_at dksX9_findsOrders_10 0 rfl rfl)
theorem dX9_findsOrders_237 : decode cX9_findsOrders 237 = .ok (.invokestatic 582, 3) := dk_184 2 70 (dk_at dksX9_findsOrders_10 3 rfl rfl)
theorem dX9_findsOrders_240 : decode cX9_findsOrders 240 = .ok (.istore_n 2, 1) := dk_61 (dk_at dksX9_findsOrders_10 6 rfl rfl)
theorem dX9_findsOrders_241 : decode cX9_findsOrders 241 = .ok (.goto (-189), 3) := dk_167 255 67 (dk_at dksX9_findsOrders_10 7 rfl rfl)
theorem dX9_findsOrders_244 : decode cX9_findsOrders 244 = .ok (.return_, 1) := dk_177 (dk_at dksX9_findsOrders_10 10 rfl rfl)
abbrev cX9_canBe : ByteArray := prog_20_method_120_code
def yX9_canBe : MethodName := ⟨RX9, "canBe", "()Z"⟩
def dkwX9_canBe_7 : List UInt8 := [184, 1, 231, 4, 100, 61, 42, 180, 0, 57, 29, 28, 79, 132, 3, 255, 167, 255, 225, 4, 172]
abbrev dktX9_canBe_7 : List UInt8 := dkwX9_canBe_7 ++ []
def dkwX9_canBe_6 : List UInt8 := [17, 0, 210, 46, 61, 27, 4, 100, 62, 29, 155, 0, 33, 28, 42, 42, 180, 0, 42, 29, 46, 182, 2, 89]
abbrev dktX9_canBe_6 : List UInt8 := dkwX9_canBe_6 ++ dktX9_canBe_7
def dkwX9_canBe_5 : List UInt8 := [161, 0, 5, 3, 172, 42, 180, 0, 54, 29, 28, 79, 132, 3, 1, 167, 255, 194, 42, 180, 0, 17]
abbrev dktX9_canBe_5 : List UInt8 := dkwX9_canBe_5 ++ dktX9_canBe_6
def dkwX9_canBe_4 : List UInt8 := [164, 0, 8, 21, 4, 167, 0, 6, 28, 4, 96, 61, 28, 42, 42, 180, 0, 42, 29, 46, 182, 2, 89]
abbrev dktX9_canBe_4 : List UInt8 := dkwX9_canBe_4 ++ dktX9_canBe_5
def dkwX9_canBe_3 : List UInt8 := [162, 0, 63, 42, 180, 1, 161, 180, 1, 141, 42, 180, 0, 42, 29, 46, 46, 54, 4, 21, 4, 28]
abbrev dktX9_canBe_3 : List UInt8 := dkwX9_canBe_3 ++ dktX9_canBe_4
def dkwX9_canBe_2 : List UInt8 := [153, 0, 5, 3, 172, 132, 3, 1, 167, 255, 220, 132, 2, 1, 167, 255, 207, 2, 61, 3, 62, 29, 27]
abbrev dktX9_canBe_2 : List UInt8 := dkwX9_canBe_2 ++ dktX9_canBe_3
def dkwX9_canBe_1 : List UInt8 := [180, 1, 161, 180, 1, 148, 42, 180, 0, 42, 28, 46, 46, 42, 180, 0, 42, 29, 46, 184, 1, 150]
abbrev dktX9_canBe_1 : List UInt8 := dkwX9_canBe_1 ++ dktX9_canBe_2
def dkwX9_canBe_0 : List UInt8 := [42, 180, 1, 161, 180, 1, 138, 60, 3, 61, 28, 27, 162, 0, 50, 3, 62, 29, 28, 162, 0, 37, 42]
abbrev dktX9_canBe_0 : List UInt8 := dkwX9_canBe_0 ++ dktX9_canBe_1
theorem dksX9_canBe_0 : cX9_canBe.data.toList.drop 0 = dktX9_canBe_0 := by decide +kernel
theorem dksX9_canBe_1 : cX9_canBe.data.toList.drop 23 = dktX9_canBe_1 := dk_seg dksX9_canBe_0 23 rfl rfl
theorem dksX9_canBe_2 : cX9_canBe.data.toList.drop 45 = dktX9_canBe_2 := dk_seg dksX9_canBe_1 22 rfl rfl
theorem dksX9_canBe_3 : cX9_canBe.data.toList.drop 68 = dktX9_canBe_3 := dk_seg dksX9_canBe_2 23 rfl rfl
theorem dksX9_canBe_4 : cX9_canBe.data.toList.drop 90 = dktX9_canBe_4 := dk_seg dksX9_canBe_3 22 rfl rfl
theorem dksX9_canBe_5 : cX9_canBe.data.toList.drop 113 = dktX9_canBe_5 := dk_seg dksX9_canBe_4 23 rfl rfl
theorem dksX9_canBe_6 : cX9_canBe.data.toList.drop 135 = dktX9_canBe_6 := dk_seg dksX9_canBe_5 22 rfl rfl
theorem dksX9_canBe_7 : cX9_canBe.data.toList.drop 159 = dktX9_canBe_7 := dk_seg dksX9_canBe_6 24 rfl rfl
theorem dX9_canBe_0 : decode cX9_canBe 0 = .ok (.aload_n 0, 1) := dk_42 (dk_at dksX9_canBe_0 0 rfl rfl)
theorem dX9_canBe_1 : decode cX9_canBe 1 = .ok (.getfield 417, 3) := dk_180 1 161 (dk_at dksX9_canBe_0 1 rfl rfl)
theorem dX9_canBe_4 : decode cX9_canBe 4 = .ok (.getfield 394, 3) := dk_180 1 138 (dk_at dksX9_canBe_0 4 rfl rfl)
theorem dX9_canBe_7 : decode cX9_canBe 7 = .ok (.istore_n 1, 1) := dk_60 (dk_at dksX9_canBe_0 7 rfl rfl)
theorem dX9_canBe_8 : decode cX9_canBe 8 = .ok (.iconst 0, 1) := dk_3 (dk_at dksX9_canBe_0 8 rfl rfl)
theorem dX9_canBe_9 : decode cX9_canBe 9 = .ok (.istore_n 2, 1) := dk_61 (dk_at dksX9_canBe_0 9 rfl rfl)
theorem dX9_canBe_10 : decode cX9_canBe 10 = .ok (.iload_n 2, 1) := dk_28 (dk_at dksX9_canBe_0 10 rfl rfl)
theorem dX9_canBe_11 : decode cX9_canBe 11 = .ok (.iload_n 1, 1) := dk_27 (dk_at dksX9_canBe_0 11 rfl rfl)
theorem dX9_canBe_12 : decode cX9_canBe 12 = .ok (.if_icmp .ge 50, 3) := dk_162 0 50 (dk_at dksX9_canBe_0 12 rfl rfl)
theorem dX9_canBe_15 : decode cX9_canBe 15 = .ok (.iconst 0, 1) := dk_3 (dk_at dksX9_canBe_0 15 rfl rfl)
theorem dX9_canBe_16 : decode cX9_canBe 16 = .ok (.istore_n 3, 1) := dk_62 (dk_at dksX9_canBe_0 16 rfl rfl)
theorem dX9_canBe_17 : decode cX9_canBe 17 = .ok (.iload_n 3, 1) := dk_29 (dk_at dksX9_canBe_0 17 rfl rfl)
theorem dX9_canBe_18 : decode cX9_canBe 18 = .ok (.iload_n 2, 1) := dk_28 (dk_at dksX9_canBe_0 18 rfl rfl)
theorem dX9_canBe_19 : decode cX9_canBe 19 = .ok (.if_icmp .ge 37, 3) := dk_162 0 37 (dk_at dksX9_canBe_0 19 rfl rfl)
theorem dX9_canBe_22 : decode cX9_canBe 22 = .ok (.aload_n 0, 1) := dk_42 (dk_at dksX9_canBe_0 22 rfl rfl)
theorem dX9_canBe_23 : decode cX9_canBe 23 = .ok (.getfield 417, 3) := dk_180 1 161 (dk_at dksX9_canBe_1 0 rfl rfl)
theorem dX9_canBe_26 : decode cX9_canBe 26 = .ok (.getfield 404, 3) := dk_180 1 148 (dk_at dksX9_canBe_1 3 rfl rfl)
theorem dX9_canBe_29 : decode cX9_canBe 29 = .ok (.aload_n 0, 1) := dk_42 (dk_at dksX9_canBe_1 6 rfl rfl)
theorem dX9_canBe_30 : decode cX9_canBe 30 = .ok (.getfield 42, 3) := dk_180 0 42 (dk_at dksX9_canBe_1 7 rfl rfl)
theorem dX9_canBe_33 : decode cX9_canBe 33 = .ok (.iload_n 2, 1) := dk_28 (dk_at dksX9_canBe_1 10 rfl rfl)
theorem dX9_canBe_34 : decode cX9_canBe 34 = .ok (.iaload, 1) := dk_46 (dk_at dksX9_canBe_1 11 rfl rfl)
theorem dX9_canBe_35 : decode cX9_canBe 35 = .ok (.iaload, 1) := dk_46 (dk_at dksX9_canBe_1 12 rfl rfl)
theorem dX9_canBe_36 : decode cX9_canBe 36 = .ok (.aload_n 0, 1) := dk_42 (dk_at dksX9_canBe_1 13 rfl rfl)
theorem dX9_canBe_37 : decode cX9_canBe 37 = .ok (.getfield 42, 3) := dk_180 0 42 (dk_at dksX9_canBe_1 14 rfl rfl)
theorem dX9_canBe_40 : decode cX9_canBe 40 = .ok (.iload_n 3, 1) := dk_29 (dk_at dksX9_canBe_1 17 rfl rfl)
theorem dX9_canBe_41 : decode cX9_canBe 41 = .ok (.iaload, 1) := dk_46 (dk_at dksX9_canBe_1 18 rfl rfl)
theorem dX9_canBe_42 : decode cX9_canBe 42 = .ok (.invokestatic 406, 3) := dk_184 1 150 (dk_at dksX9_canBe_1 19 rfl rfl)
theorem dX9_canBe_45 : decode cX9_canBe 45 = .ok (.ifCond .eq 5, 3) := dk_153 0 5 (dk_at dksX9_canBe_2 0 rfl rfl)
theorem dX9_canBe_48 : decode cX9_canBe 48 = .ok (.iconst 0, 1) := dk_3 (dk_at dksX9_canBe_2 3 rfl rfl)
theorem dX9_canBe_49 : decode cX9_canBe 49 = .ok (.ireturn, 1) := dk_172 (dk_at dksX9_canBe_2 4 rfl rfl)
theorem dX9_canBe_50 : decode cX9_canBe 50 = .ok (.iinc 3 1, 3) := dk_132 3 1 (dk_at dksX9_canBe_2 5 rfl rfl)
theorem dX9_canBe_53 : decode cX9_canBe 53 = .ok (.goto (-36), 3) := dk_167 255 220 (dk_at dksX9_canBe_2 8 rfl rfl)
theorem dX9_canBe_56 : decode cX9_canBe 56 = .ok (.iinc 2 1, 3) := dk_132 2 1 (dk_at dksX9_canBe_2 11 rfl rfl)
theorem dX9_canBe_59 : decode cX9_canBe 59 = .ok (.goto (-49), 3) := dk_167 255 207 (dk_at dksX9_canBe_2 14 rfl rfl)
theorem dX9_canBe_62 : decode cX9_canBe 62 = .ok (.iconst (-1), 1) := dk_2 (dk_at dksX9_canBe_2 17 rfl rfl)
theorem dX9_canBe_63 : decode cX9_canBe 63 = .ok (.istore_n 2, 1) := dk_61 (dk_at dksX9_canBe_2 18 rfl rfl)
theorem dX9_canBe_64 : decode cX9_canBe 64 = .ok (.iconst 0, 1) := dk_3 (dk_at dksX9_canBe_2 19 rfl rfl)
theorem dX9_canBe_65 : decode cX9_canBe 65 = .ok (.istore_n 3, 1) := dk_62 (dk_at dksX9_canBe_2 20 rfl rfl)
theorem dX9_canBe_66 : decode cX9_canBe 66 = .ok (.iload_n 3, 1) := dk_29 (dk_at dksX9_canBe_2 21 rfl rfl)
theorem dX9_canBe_67 : decode cX9_canBe 67 = .ok (.iload_n 1, 1) := dk_27 (dk_at dksX9_canBe_2 22 rfl rfl)
theorem dX9_canBe_68 : decode cX9_canBe 68 = .ok (.if_icmp .ge 63, 3) := dk_162 0 63 (dk_at dksX9_canBe_3 0 rfl rfl)
theorem dX9_canBe_71 : decode cX9_canBe 71 = .ok (.aload_n 0, 1) := dk_42 (dk_at dksX9_canBe_3 3 rfl rfl)
theorem dX9_canBe_72 : decode cX9_canBe 72 = .ok (.getfield 417, 3) := dk_180 1 161 (dk_at dksX9_canBe_3 4 rfl rfl)
theorem dX9_canBe_75 : decode cX9_canBe 75 = .ok (.getfield 397, 3) := dk_180 1 141 (dk_at dksX9_canBe_3 7 rfl rfl)
theorem dX9_canBe_78 : decode cX9_canBe 78 = .ok (.aload_n 0, 1) := dk_42 (dk_at dksX9_canBe_3 10 rfl rfl)
theorem dX9_canBe_79 : decode cX9_canBe 79 = .ok (.getfield 42, 3) := dk_180 0 42 (dk_at dksX9_canBe_3 11 rfl rfl)
theorem dX9_canBe_82 : decode cX9_canBe 82 = .ok (.iload_n 3, 1) := dk_29 (dk_at dksX9_canBe_3 14 rfl rfl)
theorem dX9_canBe_83 : decode cX9_canBe 83 = .ok (.iaload, 1) := dk_46 (dk_at dksX9_canBe_3 15 rfl rfl)
theorem dX9_canBe_84 : decode cX9_canBe 84 = .ok (.iaload, 1) := dk_46 (dk_at dksX9_canBe_3 16 rfl rfl)
theorem dX9_canBe_85 : decode cX9_canBe 85 = .ok (.istore 4, 2) := dk_54 4 (dk_at dksX9_canBe_3 17 rfl rfl)
theorem dX9_canBe_87 : decode cX9_canBe 87 = .ok (.iload 4, 2) := dk_21 4 (dk_at dksX9_canBe_3 19 rfl rfl)
theorem dX9_canBe_89 : decode cX9_canBe 89 = .ok (.iload_n 2, 1) := dk_28 (dk_at dksX9_canBe_3 21 rfl rfl)
theorem dX9_canBe_90 : decode cX9_canBe 90 = .ok (.if_icmp .le 8, 3) := dk_164 0 8 (dk_at dksX9_canBe_4 0 rfl rfl)
theorem dX9_canBe_93 : decode cX9_canBe 93 = .ok (.iload 4, 2) := dk_21 4 (dk_at dksX9_canBe_4 3 rfl rfl)
theorem dX9_canBe_95 : decode cX9_canBe 95 = .ok (.goto 6, 3) := dk_167 0 6 (dk_at dksX9_canBe_4 5 rfl rfl)
theorem dX9_canBe_98 : decode cX9_canBe 98 = .ok (.iload_n 2, 1) := dk_28 (dk_at dksX9_canBe_4 8 rfl rfl)
theorem dX9_canBe_99 : decode cX9_canBe 99 = .ok (.iconst 1, 1) := dk_4 (dk_at dksX9_canBe_4 9 rfl rfl)
theorem dX9_canBe_100 : decode cX9_canBe 100 = .ok (.iadd, 1) := dk_96 (dk_at dksX9_canBe_4 10 rfl rfl)
theorem dX9_canBe_101 : decode cX9_canBe 101 = .ok (.istore_n 2, 1) := dk_61 (dk_at dksX9_canBe_4 11 rfl rfl)
theorem dX9_canBe_102 : decode cX9_canBe 102 = .ok (.iload_n 2, 1) := dk_28 (dk_at dksX9_canBe_4 12 rfl rfl)
theorem dX9_canBe_103 : decode cX9_canBe 103 = .ok (.aload_n 0, 1) := dk_42 (dk_at dksX9_canBe_4 13 rfl rfl)
theorem dX9_canBe_104 : decode cX9_canBe 104 = .ok (.aload_n 0, 1) := dk_42 (dk_at dksX9_canBe_4 14 rfl rfl)
theorem dX9_canBe_105 : decode cX9_canBe 105 = .ok (.getfield 42, 3) := dk_180 0 42 (dk_at dksX9_canBe_4 15 rfl rfl)
theorem dX9_canBe_108 : decode cX9_canBe 108 = .ok (.iload_n 3, 1) := dk_29 (dk_at dksX9_canBe_4 18 rfl rfl)
theorem dX9_canBe_109 : decode cX9_canBe 109 = .ok (.iaload, 1) := dk_46 (dk_at dksX9_canBe_4 19 rfl rfl)
theorem dX9_canBe_110 : decode cX9_canBe 110 = .ok (.invokevirtual 601, 3) := dk_182 2 89 (dk_at dksX9_canBe_4 20 rfl rfl)
theorem dX9_canBe_113 : decode cX9_canBe 113 = .ok (.if_icmp .lt 5, 3) := dk_161 0 5 (dk_at dksX9_canBe_5 0 rfl rfl)
theorem dX9_canBe_116 : decode cX9_canBe 116 = .ok (.iconst 0, 1) := dk_3 (dk_at dksX9_canBe_5 3 rfl rfl)
theorem dX9_canBe_117 : decode cX9_canBe 117 = .ok (.ireturn, 1) := dk_172 (dk_at dksX9_canBe_5 4 rfl rfl)
theorem dX9_canBe_118 : decode cX9_canBe 118 = .ok (.aload_n 0, 1) := dk_42 (dk_at dksX9_canBe_5 5 rfl rfl)
theorem dX9_canBe_119 : decode cX9_canBe 119 = .ok (.getfield 54, 3) := dk_180 0 54 (dk_at dksX9_canBe_5 6 rfl rfl)
theorem dX9_canBe_122 : decode cX9_canBe 122 = .ok (.iload_n 3, 1) := dk_29 (dk_at dksX9_canBe_5 9 rfl rfl)
theorem dX9_canBe_123 : decode cX9_canBe 123 = .ok (.iload_n 2, 1) := dk_28 (dk_at dksX9_canBe_5 10 rfl rfl)
theorem dX9_canBe_124 : decode cX9_canBe 124 = .ok (.iastore, 1) := dk_79 (dk_at dksX9_canBe_5 11 rfl rfl)
theorem dX9_canBe_125 : decode cX9_canBe 125 = .ok (.iinc 3 1, 3) := dk_132 3 1 (dk_at dksX9_canBe_5 12 rfl rfl)
theorem dX9_canBe_128 : decode cX9_canBe 128 = .ok (.goto (-62), 3) := dk_167 255 194 (dk_at dksX9_canBe_5 15 rfl rfl)
theorem dX9_canBe_131 : decode cX9_canBe 131 = .ok (.aload_n 0, 1) := dk_42 (dk_at dksX9_canBe_5 18 rfl rfl)
theorem dX9_canBe_132 : decode cX9_canBe 132 = .ok (.getfield 17, 3) := dk_180 0 17 (dk_at dksX9_canBe_5 19 rfl rfl)
theorem dX9_canBe_135 : decode cX9_canBe 135 = .ok (.sipush 210, 3) := dk_17 0 210 (dk_at dksX9_canBe_6 0 rfl rfl)
theorem dX9_canBe_138 : decode cX9_canBe 138 = .ok (.iaload, 1) := dk_46 (dk_at dksX9_canBe_6 3 rfl rfl)
theorem dX9_canBe_139 : decode cX9_canBe 139 = .ok (.istore_n 2, 1) := dk_61 (dk_at dksX9_canBe_6 4 rfl rfl)
theorem dX9_canBe_140 : decode cX9_canBe 140 = .ok (.iload_n 1, 1) := dk_27 (dk_at dksX9_canBe_6 5 rfl rfl)
theorem dX9_canBe_141 : decode cX9_canBe 141 = .ok (.iconst 1, 1) := dk_4 (dk_at dksX9_canBe_6 6 rfl rfl)
theorem dX9_canBe_142 : decode cX9_canBe 142 = .ok (.isub, 1) := dk_100 (dk_at dksX9_canBe_6 7 rfl rfl)
theorem dX9_canBe_143 : decode cX9_canBe 143 = .ok (.istore_n 3, 1) := dk_62 (dk_at dksX9_canBe_6 8 rfl rfl)
theorem dX9_canBe_144 : decode cX9_canBe 144 = .ok (.iload_n 3, 1) := dk_29 (dk_at dksX9_canBe_6 9 rfl rfl)
theorem dX9_canBe_145 : decode cX9_canBe 145 = .ok (.ifCond .lt 33, 3) := dk_155 0 33 (dk_at dksX9_canBe_6 10 rfl rfl)
theorem dX9_canBe_148 : decode cX9_canBe 148 = .ok (.iload_n 2, 1) := dk_28 (dk_at dksX9_canBe_6 13 rfl rfl)
theorem dX9_canBe_149 : decode cX9_canBe 149 = .ok (.aload_n 0, 1) := dk_42 (dk_at dksX9_canBe_6 14 rfl rfl)
theorem dX9_canBe_150 : decode cX9_canBe 150 = .ok (.aload_n 0, 1) := dk_42 (dk_at dksX9_canBe_6 15 rfl rfl)
theorem dX9_canBe_151 : decode cX9_canBe 151 = .ok (.getfield 42, 3) := dk_180 0 42 (dk_at dksX9_canBe_6 16 rfl rfl)
theorem dX9_canBe_154 : decode cX9_canBe 154 = .ok (.iload_n 3, 1) := dk_29 (dk_at dksX9_canBe_6 19 rfl rfl)
theorem dX9_canBe_155 : decode cX9_canBe 155 = .ok (.iaload, 1) := dk_46 (dk_at dksX9_canBe_6 20 rfl rfl)
theorem dX9_canBe_156 : decode cX9_canBe 156 = .ok (.invokevirtual 601, 3) := dk_182 2 89 (dk_at dksX9_canBe_6 21 rfl rfl)
theorem dX9_canBe_159 : decode cX9_canBe 159 = .ok (.invokestatic 487, 3) := dk_184 1 231 (dk_at dksX9_canBe_7 0 rfl rfl)
theorem dX9_canBe_162 : decode cX9_canBe 162 = .ok (.iconst 1, 1) := dk_4 (dk_at dksX9_canBe_7 3 rfl rfl)
theorem dX9_canBe_163 : decode cX9_canBe 163 = .ok (.isub, 1) := dk_100 (dk_at dksX9_canBe_7 4 rfl rfl)
theorem dX9_canBe_164 : decode cX9_canBe 164 = .ok (.istore_n 2, 1) := dk_61 (dk_at dksX9_canBe_7 5 rfl rfl)
theorem dX9_canBe_165 : decode cX9_canBe 165 = .ok (.aload_n 0, 1) := dk_42 (dk_at dksX9_canBe_7 6 rfl rfl)
theorem dX9_canBe_166 : decode cX9_canBe 166 = .ok (.getfield 57, 3) := dk_180 0 57 (dk_at dksX9_canBe_7 7 rfl rfl)
theorem dX9_canBe_169 : decode cX9_canBe 169 = .ok (.iload_n 3, 1) := dk_29 (dk_at dksX9_canBe_7 10 rfl rfl)
theorem dX9_canBe_170 : decode cX9_canBe 170 = .ok (.iload_n 2, 1) := dk_28 (dk_at dksX9_canBe_7 11 rfl rfl)
theorem dX9_canBe_171 : decode cX9_canBe 171 = .ok (.iastore, 1) := dk_79 (dk_at dksX9_canBe_7 12 rfl rfl)
theorem dX9_canBe_172 : decode cX9_canBe 172 = .ok (.iinc 3 (-1), 3) := dk_132 3 255 (dk_at dksX9_canBe_7 13 rfl rfl)
theorem dX9_canBe_175 : decode cX9_canBe 175 = .ok (.goto (-31), 3) := dk_167 255 225 (dk_at dksX9_canBe_7 16 rfl rfl)
theorem dX9_canBe_178 : decode cX9_canBe 178 = .ok (.iconst 1, 1) := dk_4 (dk_at dksX9_canBe_7 19 rfl rfl)
theorem dX9_canBe_179 : decode cX9_canBe 179 = .ok (.ireturn, 1) := dk_172 (dk_at dksX9_canBe_7 20 rfl rfl)
abbrev cX9_before : ByteArray := prog_20_method_121_code
def yX9_before : MethodName := ⟨RX9, "before", "(I)I"⟩
def dkwX9_before_1 : List UInt8 := [42, 180, 0, 17, 17, 0, 210, 46, 42, 180, 1, 161, 180, 1, 143, 27, 46, 184, 1, 231, 172]
abbrev dktX9_before_1 : List UInt8 := dkwX9_before_1 ++ []
def dkwX9_before_0 : List UInt8 := [42, 180, 1, 161, 180, 1, 143, 27, 46, 2, 160, 0, 14, 42, 180, 0, 17, 17, 0, 210, 46, 167, 0, 23]
abbrev dktX9_before_0 : List UInt8 := dkwX9_before_0 ++ dktX9_before_1
theorem dksX9_before_0 : cX9_before.data.toList.drop 0 = dktX9_before_0 := by decide +kernel
theorem dksX9_before_1 : cX9_before.data.toList.drop 24 = dktX9_before_1 := dk_seg dksX9_before_0 24 rfl rfl
theorem dX9_before_0 : decode cX9_before 0 = .ok (.aload_n 0, 1) := dk_42 (dk_at dksX9_before_0 0 rfl rfl)
theorem dX9_before_1 : decode cX9_before 1 = .ok (.getfield 417, 3) := dk_180 1 161 (dk_at dksX9_before_0 1 rfl rfl)
theorem dX9_before_4 : decode cX9_before 4 = .ok (.getfield 399, 3) := dk_180 1 143 (dk_at dksX9_before_0 4 rfl rfl)
theorem dX9_before_7 : decode cX9_before 7 = .ok (.iload_n 1, 1) := dk_27 (dk_at dksX9_before_0 7 rfl rfl)
theorem dX9_before_8 : decode cX9_before 8 = .ok (.iaload, 1) := dk_46 (dk_at dksX9_before_0 8 rfl rfl)
theorem dX9_before_9 : decode cX9_before 9 = .ok (.iconst (-1), 1) := dk_2 (dk_at dksX9_before_0 9 rfl rfl)
theorem dX9_before_10 : decode cX9_before 10 = .ok (.if_icmp .ne 14, 3) := dk_160 0 14 (dk_at dksX9_before_0 10 rfl rfl)
theorem dX9_before_13 : decode cX9_before 13 = .ok (.aload_n 0, 1) := dk_42 (dk_at dksX9_before_0 13 rfl rfl)
theorem dX9_before_14 : decode cX9_before 14 = .ok (.getfield 17, 3) := dk_180 0 17 (dk_at dksX9_before_0 14 rfl rfl)
theorem dX9_before_17 : decode cX9_before 17 = .ok (.sipush 210, 3) := dk_17 0 210 (dk_at dksX9_before_0 17 rfl rfl)
theorem dX9_before_20 : decode cX9_before 20 = .ok (.iaload, 1) := dk_46 (dk_at dksX9_before_0 20 rfl rfl)
theorem dX9_before_21 : decode cX9_before 21 = .ok (.goto 23, 3) := dk_167 0 23 (dk_at dksX9_before_0 21 rfl rfl)
theorem dX9_before_24 : decode cX9_before 24 = .ok (.aload_n 0, 1) := dk_42 (dk_at dksX9_before_1 0 rfl rfl)
theorem dX9_before_25 : decode cX9_before 25 = .ok (.getfield 17, 3) := dk_180 0 17 (dk_at dksX9_before_1 1 rfl rfl)
theorem dX9_before_28 : decode cX9_before 28 = .ok (.sipush 210, 3) := dk_17 0 210 (dk_at dksX9_before_1 4 rfl rfl)
theorem dX9_before_31 : decode cX9_before 31 = .ok (.iaload, 1) := dk_46 (dk_at dksX9_before_1 7 rfl rfl)
theorem dX9_before_32 : decode cX9_before 32 = .ok (.aload_n 0, 1) := dk_42 (dk_at dksX9_before_1 8 rfl rfl)
theorem dX9_before_33 : decode cX9_before 33 = .ok (.getfield 417, 3) := dk_180 1 161 (dk_at dksX9_before_1 9 rfl rfl)
theorem dX9_before_36 : decode cX9_before 36 = .ok (.getfield 399, 3) := dk_180 1 143 (dk_at dksX9_before_1 12 rfl rfl)
theorem dX9_before_39 : decode cX9_before 39 = .ok (.iload_n 1, 1) := dk_27 (dk_at dksX9_before_1 15 rfl rfl)
theorem dX9_before_40 : decode cX9_before 40 = .ok (.iaload, 1) := dk_46 (dk_at dksX9_before_1 16 rfl rfl)
theorem dX9_before_41 : decode cX9_before 41 = .ok (.invokestatic 487, 3) := dk_184 1 231 (dk_at dksX9_before_1 17 rfl rfl)
theorem dX9_before_44 : decode cX9_before 44 = .ok (.ireturn, 1) := dk_172 (dk_at dksX9_before_1 20 rfl rfl)
abbrev cX9_order : ByteArray := prog_20_method_124_code
def yX9_order : MethodName := ⟨RX9, "order", "(II)I"⟩
def dkwX9_order_2 : List UInt8 := [167, 0, 8, 42, 4, 182, 0, 69, 172]
abbrev dktX9_order_2 : List UInt8 := dkwX9_order_2 ++ []
def dkwX9_order_1 : List UInt8 := [27, 182, 2, 98, 27, 42, 180, 2, 92, 162, 0, 16, 42, 42, 180, 0, 60, 28, 46, 182, 0, 73]
abbrev dktX9_order_1 : List UInt8 := dkwX9_order_1 ++ dktX9_order_2
def dkwX9_order_0 : List UInt8 := [42, 3, 181, 0, 63, 42, 28, 182, 2, 101, 153, 0, 7, 27, 156, 0, 9, 42, 4, 182, 0, 69, 172, 42]
abbrev dktX9_order_0 : List UInt8 := dkwX9_order_0 ++ dktX9_order_1
theorem dksX9_order_0 : cX9_order.data.toList.drop 0 = dktX9_order_0 := by decide +kernel
theorem dksX9_order_1 : cX9_order.data.toList.drop 24 = dktX9_order_1 := dk_seg dksX9_order_0 24 rfl rfl
theorem dksX9_order_2 : cX9_order.data.toList.drop 46 = dktX9_order_2 := dk_seg dksX9_order_1 22 rfl rfl
theorem dX9_order_0 : decode cX9_order 0 = .ok (.aload_n 0, 1) := dk_42 (dk_at dksX9_order_0 0 rfl rfl)
theorem dX9_order_1 : decode cX9_order 1 = .ok (.iconst 0, 1) := dk_3 (dk_at dksX9_order_0 1 rfl rfl)
theorem dX9_order_2 : decode cX9_order 2 = .ok (.putfield 63, 3) := dk_181 0 63 (dk_at dksX9_order_0 2 rfl rfl)
theorem dX9_order_5 : decode cX9_order 5 = .ok (.aload_n 0, 1) := dk_42 (dk_at dksX9_order_0 5 rfl rfl)
theorem dX9_order_6 : decode cX9_order 6 = .ok (.iload_n 2, 1) := dk_28 (dk_at dksX9_order_0 6 rfl rfl)
theorem dX9_order_7 : decode cX9_order 7 = .ok (.invokevirtual 613, 3) := dk_182 2 101 (dk_at dksX9_order_0 7 rfl rfl)
theorem dX9_order_10 : decode cX9_order 10 = .ok (.ifCond .eq 7, 3) := dk_153 0 7 (dk_at dksX9_order_0 10 rfl rfl)
theorem dX9_order_13 : decode cX9_order 13 = .ok (.iload_n 1, 1) := dk_27 (dk_at dksX9_order_0 13 rfl rfl)
theorem dX9_order_14 : decode cX9_order 14 = .ok (.ifCond .ge 9, 3) := dk_156 0 9 (dk_at dksX9_order_0 14 rfl rfl)
theorem dX9_order_17 : decode cX9_order 17 = .ok (.aload_n 0, 1) := dk_42 (dk_at dksX9_order_0 17 rfl rfl)
theorem dX9_order_18 : decode cX9_order 18 = .ok (.iconst 1, 1) := dk_4 (dk_at dksX9_order_0 18 rfl rfl)
theorem dX9_order_19 : decode cX9_order 19 = .ok (.invokevirtual 69, 3) := dk_182 0 69 (dk_at dksX9_order_0 19 rfl rfl)
theorem dX9_order_22 : decode cX9_order 22 = .ok (.ireturn, 1) := dk_172 (dk_at dksX9_order_0 22 rfl rfl)
theorem dX9_order_23 : decode cX9_order 23 = .ok (.aload_n 0, 1) := dk_42 (dk_at dksX9_order_0 23 rfl rfl)
theorem dX9_order_24 : decode cX9_order 24 = .ok (.iload_n 1, 1) := dk_27 (dk_at dksX9_order_1 0 rfl rfl)
theorem dX9_order_25 : decode cX9_order 25 = .ok (.invokevirtual 610, 3) := dk_182 2 98 (dk_at dksX9_order_1 1 rfl rfl)
theorem dX9_order_28 : decode cX9_order 28 = .ok (.iload_n 1, 1) := dk_27 (dk_at dksX9_order_1 4 rfl rfl)
theorem dX9_order_29 : decode cX9_order 29 = .ok (.aload_n 0, 1) := dk_42 (dk_at dksX9_order_1 5 rfl rfl)
theorem dX9_order_30 : decode cX9_order 30 = .ok (.getfield 604, 3) := dk_180 2 92 (dk_at dksX9_order_1 6 rfl rfl)
theorem dX9_order_33 : decode cX9_order 33 = .ok (.if_icmp .ge 16, 3) := dk_162 0 16 (dk_at dksX9_order_1 9 rfl rfl)
theorem dX9_order_36 : decode cX9_order 36 = .ok (.aload_n 0, 1) := dk_42 (dk_at dksX9_order_1 12 rfl rfl)
theorem dX9_order_37 : decode cX9_order 37 = .ok (.aload_n 0, 1) := dk_42 (dk_at dksX9_order_1 13 rfl rfl)
theorem dX9_order_38 : decode cX9_order 38 = .ok (.getfield 60, 3) := dk_180 0 60 (dk_at dksX9_order_1 14 rfl rfl)
theorem dX9_order_41 : decode cX9_order 41 = .ok (.iload_n 2, 1) := dk_28 (dk_at dksX9_order_1 17 rfl rfl)
theorem dX9_order_42 : decode cX9_order 42 = .ok (.iaload, 1) := dk_46 (dk_at dksX9_order_1 18 rfl rfl)
theorem dX9_order_43 : decode cX9_order 43 = .ok (.invokevirtual 73, 3) := dk_182 0 73 (dk_at dksX9_order_1 19 rfl rfl)
theorem dX9_order_46 : decode cX9_order 46 = .ok (.goto 8, 3) := dk_167 0 8 (dk_at dksX9_order_2 0 rfl rfl)
theorem dX9_order_49 : decode cX9_order 49 = .ok (.aload_n 0, 1) := dk_42 (dk_at dksX9_order_2 3 rfl rfl)
theorem dX9_order_50 : decode cX9_order 50 = .ok (.iconst 1, 1) := dk_4 (dk_at dksX9_order_2 4 rfl rfl)
theorem dX9_order_51 : decode cX9_order 51 = .ok (.invokevirtual 69, 3) := dk_182 0 69 (dk_at dksX9_order_2 5 rfl rfl)
theorem dX9_order_54 : decode cX9_order 54 = .ok (.ireturn, 1) := dk_172 (dk_at dksX9_order_2 8 rfl rfl)
abbrev cX9_isWall : ByteArray := prog_20_method_79_code
def yX9_isWall : MethodName := ⟨RX9, "isWall", "(I)Z"⟩
def dkwX9_isWall_1 : List UInt8 := [167, 0, 4, 3, 172]
abbrev dktX9_isWall_1 : List UInt8 := dkwX9_isWall_1 ++ []
def dkwX9_isWall_0 : List UInt8 := [42, 180, 1, 161, 198, 0, 22, 27, 155, 0, 18, 27, 42, 180, 1, 161, 180, 1, 138, 162, 0, 7, 4]
abbrev dktX9_isWall_0 : List UInt8 := dkwX9_isWall_0 ++ dktX9_isWall_1
theorem dksX9_isWall_0 : cX9_isWall.data.toList.drop 0 = dktX9_isWall_0 := by decide +kernel
theorem dksX9_isWall_1 : cX9_isWall.data.toList.drop 23 = dktX9_isWall_1 := dk_seg dksX9_isWall_0 23 rfl rfl
theorem dX9_isWall_0 : decode cX9_isWall 0 = .ok (.aload_n 0, 1) := dk_42 (dk_at dksX9_isWall_0 0 rfl rfl)
theorem dX9_isWall_1 : decode cX9_isWall 1 = .ok (.getfield 417, 3) := dk_180 1 161 (dk_at dksX9_isWall_0 1 rfl rfl)
theorem dX9_isWall_4 : decode cX9_isWall 4 = .ok (.ifnull 22, 3) := dk_198 0 22 (dk_at dksX9_isWall_0 4 rfl rfl)
theorem dX9_isWall_7 : decode cX9_isWall 7 = .ok (.iload_n 1, 1) := dk_27 (dk_at dksX9_isWall_0 7 rfl rfl)
theorem dX9_isWall_8 : decode cX9_isWall 8 = .ok (.ifCond .lt 18, 3) := dk_155 0 18 (dk_at dksX9_isWall_0 8 rfl rfl)
theorem dX9_isWall_11 : decode cX9_isWall 11 = .ok (.iload_n 1, 1) := dk_27 (dk_at dksX9_isWall_0 11 rfl rfl)
theorem dX9_isWall_12 : decode cX9_isWall 12 = .ok (.aload_n 0, 1) := dk_42 (dk_at dksX9_isWall_0 12 rfl rfl)
theorem dX9_isWall_13 : decode cX9_isWall 13 = .ok (.getfield 417, 3) := dk_180 1 161 (dk_at dksX9_isWall_0 13 rfl rfl)
theorem dX9_isWall_16 : decode cX9_isWall 16 = .ok (.getfield 394, 3) := dk_180 1 138 (dk_at dksX9_isWall_0 16 rfl rfl)
theorem dX9_isWall_19 : decode cX9_isWall 19 = .ok (.if_icmp .ge 7, 3) := dk_162 0 7 (dk_at dksX9_isWall_0 19 rfl rfl)
theorem dX9_isWall_22 : decode cX9_isWall 22 = .ok (.iconst 1, 1) := dk_4 (dk_at dksX9_isWall_0 22 rfl rfl)
theorem dX9_isWall_23 : decode cX9_isWall 23 = .ok (.goto 4, 3) := dk_167 0 4 (dk_at dksX9_isWall_1 0 rfl rfl)
theorem dX9_isWall_26 : decode cX9_isWall 26 = .ok (.iconst 0, 1) := dk_3 (dk_at dksX9_isWall_1 3 rfl rfl)
theorem dX9_isWall_27 : decode cX9_isWall 27 = .ok (.ireturn, 1) := dk_172 (dk_at dksX9_isWall_1 4 rfl rfl)
abbrev cX9_soonest : ByteArray := prog_20_method_125_code
def yX9_soonest : MethodName := ⟨RX9, "soonest", "(I)I"⟩
def dkwX9_soonest_1 : List UInt8 := [42, 42, 180, 0, 45, 27, 46, 182, 0, 73, 172]
abbrev dktX9_soonest_1 : List UInt8 := dkwX9_soonest_1 ++ []
def dkwX9_soonest_0 : List UInt8 := [42, 3, 181, 0, 63, 42, 27, 182, 2, 101, 154, 0, 9, 42, 4, 182, 0, 69, 172, 42, 2, 182, 2, 98]
abbrev dktX9_soonest_0 : List UInt8 := dkwX9_soonest_0 ++ dktX9_soonest_1
theorem dksX9_soonest_0 : cX9_soonest.data.toList.drop 0 = dktX9_soonest_0 := by decide +kernel
theorem dksX9_soonest_1 : cX9_soonest.data.toList.drop 24 = dktX9_soonest_1 := dk_seg dksX9_soonest_0 24 rfl rfl
theorem dX9_soonest_0 : decode cX9_soonest 0 = .ok (.aload_n 0, 1) := dk_42 (dk_at dksX9_soonest_0 0 rfl rfl)
theorem dX9_soonest_1 : decode cX9_soonest 1 = .ok (.iconst 0, 1) := dk_3 (dk_at dksX9_soonest_0 1 rfl rfl)
theorem dX9_soonest_2 : decode cX9_soonest 2 = .ok (.putfield 63, 3) := dk_181 0 63 (dk_at dksX9_soonest_0 2 rfl rfl)
theorem dX9_soonest_5 : decode cX9_soonest 5 = .ok (.aload_n 0, 1) := dk_42 (dk_at dksX9_soonest_0 5 rfl rfl)
theorem dX9_soonest_6 : decode cX9_soonest 6 = .ok (.iload_n 1, 1) := dk_27 (dk_at dksX9_soonest_0 6 rfl rfl)
theorem dX9_soonest_7 : decode cX9_soonest 7 = .ok (.invokevirtual 613, 3) := dk_182 2 101 (dk_at dksX9_soonest_0 7 rfl rfl)
theorem dX9_soonest_10 : decode cX9_soonest 10 = .ok (.ifCond .ne 9, 3) := dk_154 0 9 (dk_at dksX9_soonest_0 10 rfl rfl)
theorem dX9_soonest_13 : decode cX9_soonest 13 = .ok (.aload_n 0, 1) := dk_42 (dk_at dksX9_soonest_0 13 rfl rfl)
theorem dX9_soonest_14 : decode cX9_soonest 14 = .ok (.iconst 1, 1) := dk_4 (dk_at dksX9_soonest_0 14 rfl rfl)
theorem dX9_soonest_15 : decode cX9_soonest 15 = .ok (.invokevirtual 69, 3) := dk_182 0 69 (dk_at dksX9_soonest_0 15 rfl rfl)
theorem dX9_soonest_18 : decode cX9_soonest 18 = .ok (.ireturn, 1) := dk_172 (dk_at dksX9_soonest_0 18 rfl rfl)
theorem dX9_soonest_19 : decode cX9_soonest 19 = .ok (.aload_n 0, 1) := dk_42 (dk_at dksX9_soonest_0 19 rfl rfl)
theorem dX9_soonest_20 : decode cX9_soonest 20 = .ok (.iconst (-1), 1) := dk_2 (dk_at dksX9_soonest_0 20 rfl rfl)
theorem dX9_soonest_21 : decode cX9_soonest 21 = .ok (.invokevirtual 610, 3) := dk_182 2 98 (dk_at dksX9_soonest_0 21 rfl rfl)
theorem dX9_soonest_24 : decode cX9_soonest 24 = .ok (.aload_n 0, 1) := dk_42 (dk_at dksX9_soonest_1 0 rfl rfl)
theorem dX9_soonest_25 : decode cX9_soonest 25 = .ok (.aload_n 0, 1) := dk_42 (dk_at dksX9_soonest_1 1 rfl rfl)
theorem dX9_soonest_26 : decode cX9_soonest 26 = .ok (.getfield 45, 3) := dk_180 0 45 (dk_at dksX9_soonest_1 2 rfl rfl)
theorem dX9_soonest_29 : decode cX9_soonest 29 = .ok (.iload_n 1, 1) := dk_27 (dk_at dksX9_soonest_1 5 rfl rfl)
theorem dX9_soonest_30 : decode cX9_soonest 30 = .ok (.iaload, 1) := dk_46 (dk_at dksX9_soonest_1 6 rfl rfl)
theorem dX9_soonest_31 : decode cX9_soonest 31 = .ok (.invokevirtual 73, 3) := dk_182 0 73 (dk_at dksX9_soonest_1 7 rfl rfl)
theorem dX9_soonest_34 : decode cX9_soonest 34 = .ok (.ireturn, 1) := dk_172 (dk_at dksX9_soonest_1 10 rfl rfl)
abbrev cX9_latest : ByteArray := prog_20_method_126_code
def yX9_latest : MethodName := ⟨RX9, "latest", "(I)I"⟩
def dkwX9_latest_1 : List UInt8 := [42, 42, 180, 0, 48, 27, 46, 182, 0, 73, 172]
abbrev dktX9_latest_1 : List UInt8 := dkwX9_latest_1 ++ []
def dkwX9_latest_0 : List UInt8 := [42, 3, 181, 0, 63, 42, 27, 182, 2, 101, 154, 0, 9, 42, 4, 182, 0, 69, 172, 42, 2, 182, 2, 98]
abbrev dktX9_latest_0 : List UInt8 := dkwX9_latest_0 ++ dktX9_latest_1
theorem dksX9_latest_0 : cX9_latest.data.toList.drop 0 = dktX9_latest_0 := by decide +kernel
theorem dksX9_latest_1 : cX9_latest.data.toList.drop 24 = dktX9_latest_1 := dk_seg dksX9_latest_0 24 rfl rfl
theorem dX9_latest_0 : decode cX9_latest 0 = .ok (.aload_n 0, 1) := dk_42 (dk_at dksX9_latest_0 0 rfl rfl)
theorem dX9_latest_1 : decode cX9_latest 1 = .ok (.iconst 0, 1) := dk_3 (dk_at dksX9_latest_0 1 rfl rfl)
theorem dX9_latest_2 : decode cX9_latest 2 = .ok (.putfield 63, 3) := dk_181 0 63 (dk_at dksX9_latest_0 2 rfl rfl)
theorem dX9_latest_5 : decode cX9_latest 5 = .ok (.aload_n 0, 1) := dk_42 (dk_at dksX9_latest_0 5 rfl rfl)
theorem dX9_latest_6 : decode cX9_latest 6 = .ok (.iload_n 1, 1) := dk_27 (dk_at dksX9_latest_0 6 rfl rfl)
theorem dX9_latest_7 : decode cX9_latest 7 = .ok (.invokevirtual 613, 3) := dk_182 2 101 (dk_at dksX9_latest_0 7 rfl rfl)
theorem dX9_latest_10 : decode cX9_latest 10 = .ok (.ifCond .ne 9, 3) := dk_154 0 9 (dk_at dksX9_latest_0 10 rfl rfl)
theorem dX9_latest_13 : decode cX9_latest 13 = .ok (.aload_n 0, 1) := dk_42 (dk_at dksX9_latest_0 13 rfl rfl)
theorem dX9_latest_14 : decode cX9_latest 14 = .ok (.iconst 1, 1) := dk_4 (dk_at dksX9_latest_0 14 rfl rfl)
theorem dX9_latest_15 : decode cX9_latest 15 = .ok (.invokevirtual 69, 3) := dk_182 0 69 (dk_at dksX9_latest_0 15 rfl rfl)
theorem dX9_latest_18 : decode cX9_latest 18 = .ok (.ireturn, 1) := dk_172 (dk_at dksX9_latest_0 18 rfl rfl)
theorem dX9_latest_19 : decode cX9_latest 19 = .ok (.aload_n 0, 1) := dk_42 (dk_at dksX9_latest_0 19 rfl rfl)
theorem dX9_latest_20 : decode cX9_latest 20 = .ok (.iconst (-1), 1) := dk_2 (dk_at dksX9_latest_0 20 rfl rfl)
theorem dX9_latest_21 : decode cX9_latest 21 = .ok (.invokevirtual 610, 3) := dk_182 2 98 (dk_at dksX9_latest_0 21 rfl rfl)
theorem dX9_latest_24 : decode cX9_latest 24 = .ok (.aload_n 0, 1) := dk_42 (dk_at dksX9_latest_1 0 rfl rfl)
theorem dX9_latest_25 : decode cX9_latest 25 = .ok (.aload_n 0, 1) := dk_42 (dk_at dksX9_latest_1 1 rfl rfl)
theorem dX9_latest_26 : decode cX9_latest 26 = .ok (.getfield 48, 3) := dk_180 0 48 (dk_at dksX9_latest_1 2 rfl rfl)
theorem dX9_latest_29 : decode cX9_latest 29 = .ok (.iload_n 1, 1) := dk_27 (dk_at dksX9_latest_1 5 rfl rfl)
theorem dX9_latest_30 : decode cX9_latest 30 = .ok (.iaload, 1) := dk_46 (dk_at dksX9_latest_1 6 rfl rfl)
theorem dX9_latest_31 : decode cX9_latest 31 = .ok (.invokevirtual 73, 3) := dk_182 0 73 (dk_at dksX9_latest_1 7 rfl rfl)
theorem dX9_latest_34 : decode cX9_latest 34 = .ok (.ireturn, 1) := dk_172 (dk_at dksX9_latest_1 10 rfl rfl)
abbrev cX9_surely : ByteArray := prog_20_method_127_code
def yX9_surely : MethodName := ⟨RX9, "surely", "(II)I"⟩
def dkwX9_surely_2 : List UInt8 := [180, 0, 51, 28, 46, 27, 184, 1, 150, 153, 0, 7, 4, 167, 0, 4, 3, 182, 0, 73, 172]
abbrev dktX9_surely_2 : List UInt8 := dkwX9_surely_2 ++ []
def dkwX9_surely_1 : List UInt8 := [160, 0, 9, 42, 4, 182, 0, 69, 172, 42, 2, 182, 2, 98, 42, 42, 180, 2, 92, 158, 0, 20, 42]
abbrev dktX9_surely_1 : List UInt8 := dkwX9_surely_1 ++ dktX9_surely_2
def dkwX9_surely_0 : List UInt8 := [42, 3, 181, 0, 63, 42, 27, 182, 2, 101, 153, 0, 16, 42, 28, 182, 2, 101, 153, 0, 8, 27, 28]
abbrev dktX9_surely_0 : List UInt8 := dkwX9_surely_0 ++ dktX9_surely_1
theorem dksX9_surely_0 : cX9_surely.data.toList.drop 0 = dktX9_surely_0 := by decide +kernel
theorem dksX9_surely_1 : cX9_surely.data.toList.drop 23 = dktX9_surely_1 := dk_seg dksX9_surely_0 23 rfl rfl
theorem dksX9_surely_2 : cX9_surely.data.toList.drop 46 = dktX9_surely_2 := dk_seg dksX9_surely_1 23 rfl rfl
theorem dX9_surely_0 : decode cX9_surely 0 = .ok (.aload_n 0, 1) := dk_42 (dk_at dksX9_surely_0 0 rfl rfl)
theorem dX9_surely_1 : decode cX9_surely 1 = .ok (.iconst 0, 1) := dk_3 (dk_at dksX9_surely_0 1 rfl rfl)
theorem dX9_surely_2 : decode cX9_surely 2 = .ok (.putfield 63, 3) := dk_181 0 63 (dk_at dksX9_surely_0 2 rfl rfl)
theorem dX9_surely_5 : decode cX9_surely 5 = .ok (.aload_n 0, 1) := dk_42 (dk_at dksX9_surely_0 5 rfl rfl)
theorem dX9_surely_6 : decode cX9_surely 6 = .ok (.iload_n 1, 1) := dk_27 (dk_at dksX9_surely_0 6 rfl rfl)
theorem dX9_surely_7 : decode cX9_surely 7 = .ok (.invokevirtual 613, 3) := dk_182 2 101 (dk_at dksX9_surely_0 7 rfl rfl)
theorem dX9_surely_10 : decode cX9_surely 10 = .ok (.ifCond .eq 16, 3) := dk_153 0 16 (dk_at dksX9_surely_0 10 rfl rfl)
theorem dX9_surely_13 : decode cX9_surely 13 = .ok (.aload_n 0, 1) := dk_42 (dk_at dksX9_surely_0 13 rfl rfl)
theorem dX9_surely_14 : decode cX9_surely 14 = .ok (.iload_n 2, 1) := dk_28 (dk_at dksX9_surely_0 14 rfl rfl)
theorem dX9_surely_15 : decode cX9_surely 15 = .ok (.invokevirtual 613, 3) := dk_182 2 101 (dk_at dksX9_surely_0 15 rfl rfl)
theorem dX9_surely_18 : decode cX9_surely 18 = .ok (.ifCond .eq 8, 3) := dk_153 0 8 (dk_at dksX9_surely_0 18 rfl rfl)
theorem dX9_surely_21 : decode cX9_surely 21 = .ok (.iload_n 1, 1) := dk_27 (dk_at dksX9_surely_0 21 rfl rfl)
theorem dX9_surely_22 : decode cX9_surely 22 = .ok (.iload_n 2, 1) := dk_28 (dk_at dksX9_surely_0 22 rfl rfl)
theorem dX9_surely_23 : decode cX9_surely 23 = .ok (.if_icmp .ne 9, 3) := dk_160 0 9 (dk_at dksX9_surely_1 0 rfl rfl)
theorem dX9_surely_26 : decode cX9_surely 26 = .ok (.aload_n 0, 1) := dk_42 (dk_at dksX9_surely_1 3 rfl rfl)
theorem dX9_surely_27 : decode cX9_surely 27 = .ok (.iconst 1, 1) := dk_4 (dk_at dksX9_surely_1 4 rfl rfl)
theorem dX9_surely_28 : decode cX9_surely 28 = .ok (.invokevirtual 69, 3) := dk_182 0 69 (dk_at dksX9_surely_1 5 rfl rfl)
theorem dX9_surely_31 : decode cX9_surely 31 = .ok (.ireturn, 1) := dk_172 (dk_at dksX9_surely_1 8 rfl rfl)
theorem dX9_surely_32 : decode cX9_surely 32 = .ok (.aload_n 0, 1) := dk_42 (dk_at dksX9_surely_1 9 rfl rfl)
theorem dX9_surely_33 : decode cX9_surely 33 = .ok (.iconst (-1), 1) := dk_2 (dk_at dksX9_surely_1 10 rfl rfl)
theorem dX9_surely_34 : decode cX9_surely 34 = .ok (.invokevirtual 610, 3) := dk_182 2 98 (dk_at dksX9_surely_1 11 rfl rfl)
theorem dX9_surely_37 : decode cX9_surely 37 = .ok (.aload_n 0, 1) := dk_42 (dk_at dksX9_surely_1 14 rfl rfl)
theorem dX9_surely_38 : decode cX9_surely 38 = .ok (.aload_n 0, 1) := dk_42 (dk_at dksX9_surely_1 15 rfl rfl)
theorem dX9_surely_39 : decode cX9_surely 39 = .ok (.getfield 604, 3) := dk_180 2 92 (dk_at dksX9_surely_1 16 rfl rfl)
theorem dX9_surely_42 : decode cX9_surely 42 = .ok (.ifCond .le 20, 3) := dk_158 0 20 (dk_at dksX9_surely_1 19 rfl rfl)
theorem dX9_surely_45 : decode cX9_surely 45 = .ok (.aload_n 0, 1) := dk_42 (dk_at dksX9_surely_1 22 rfl rfl)
theorem dX9_surely_46 : decode cX9_surely 46 = .ok (.getfield 51, 3) := dk_180 0 51 (dk_at dksX9_surely_2 0 rfl rfl)
theorem dX9_surely_49 : decode cX9_surely 49 = .ok (.iload_n 2, 1) := dk_28 (dk_at dksX9_surely_2 3 rfl rfl)
theorem dX9_surely_50 : decode cX9_surely 50 = .ok (.iaload, 1) := dk_46 (dk_at dksX9_surely_2 4 rfl rfl)
theorem dX9_surely_51 : decode cX9_surely 51 = .ok (.iload_n 1, 1) := dk_27 (dk_at dksX9_surely_2 5 rfl rfl)
theorem dX9_surely_52 : decode cX9_surely 52 = .ok (.invokestatic 406, 3) := dk_184 1 150 (dk_at dksX9_surely_2 6 rfl rfl)
theorem dX9_surely_55 : decode cX9_surely 55 = .ok (.ifCond .eq 7, 3) := dk_153 0 7 (dk_at dksX9_surely_2 9 rfl rfl)
theorem dX9_surely_58 : decode cX9_surely 58 = .ok (.iconst 1, 1) := dk_4 (dk_at dksX9_surely_2 12 rfl rfl)
theorem dX9_surely_59 : decode cX9_surely 59 = .ok (.goto 4, 3) := dk_167 0 4 (dk_at dksX9_surely_2 13 rfl rfl)
theorem dX9_surely_62 : decode cX9_surely 62 = .ok (.iconst 0, 1) := dk_3 (dk_at dksX9_surely_2 16 rfl rfl)
theorem dX9_surely_63 : decode cX9_surely 63 = .ok (.invokevirtual 73, 3) := dk_182 0 73 (dk_at dksX9_surely_2 17 rfl rfl)
theorem dX9_surely_66 : decode cX9_surely 66 = .ok (.ireturn, 1) := dk_172 (dk_at dksX9_surely_2 20 rfl rfl)
abbrev cX9_years : ByteArray := prog_20_method_129_code
def yX9_years : MethodName := ⟨RX9, "years", "(I)I"⟩
def dkwX9_years_4 : List UInt8 := [184, 2, 60, 182, 0, 73, 172]
abbrev dktX9_years_4 : List UInt8 := dkwX9_years_4 ++ []
def dkwX9_years_3 : List UInt8 := [162, 0, 17, 42, 42, 180, 0, 17, 182, 2, 2, 132, 2, 1, 167, 255, 240, 42, 42, 180, 0, 17]
abbrev dktX9_years_3 : List UInt8 := dkwX9_years_3 ++ dktX9_years_4
def dkwX9_years_2 : List UInt8 := [17, 3, 231, 164, 0, 9, 42, 6, 182, 0, 69, 172, 42, 182, 2, 104, 42, 182, 1, 255, 3, 61, 28, 27]
abbrev dktX9_years_2 : List UInt8 := dkwX9_years_2 ++ dktX9_years_3
def dkwX9_years_1 : List UInt8 := [184, 0, 141, 154, 0, 9, 42, 5, 182, 0, 69, 172, 42, 180, 0, 17, 17, 0, 210, 46, 27, 96]
abbrev dktX9_years_1 : List UInt8 := dkwX9_years_1 ++ dktX9_years_2
def dkwX9_years_0 : List UInt8 := [42, 3, 181, 0, 63, 42, 180, 1, 161, 199, 0, 9, 42, 4, 182, 0, 69, 172, 27, 4, 16, 20]
abbrev dktX9_years_0 : List UInt8 := dkwX9_years_0 ++ dktX9_years_1
theorem dksX9_years_0 : cX9_years.data.toList.drop 0 = dktX9_years_0 := by decide +kernel
theorem dksX9_years_1 : cX9_years.data.toList.drop 22 = dktX9_years_1 := dk_seg dksX9_years_0 22 rfl rfl
theorem dksX9_years_2 : cX9_years.data.toList.drop 44 = dktX9_years_2 := dk_seg dksX9_years_1 22 rfl rfl
theorem dksX9_years_3 : cX9_years.data.toList.drop 68 = dktX9_years_3 := dk_seg dksX9_years_2 24 rfl rfl
theorem dksX9_years_4 : cX9_years.data.toList.drop 90 = dktX9_years_4 := dk_seg dksX9_years_3 22 rfl rfl
theorem dX9_years_0 : decode cX9_years 0 = .ok (.aload_n 0, 1) := dk_42 (dk_at dksX9_years_0 0 rfl rfl)
theorem dX9_years_1 : decode cX9_years 1 = .ok (.iconst 0, 1) := dk_3 (dk_at dksX9_years_0 1 rfl rfl)
theorem dX9_years_2 : decode cX9_years 2 = .ok (.putfield 63, 3) := dk_181 0 63 (dk_at dksX9_years_0 2 rfl rfl)
theorem dX9_years_5 : decode cX9_years 5 = .ok (.aload_n 0, 1) := dk_42 (dk_at dksX9_years_0 5 rfl rfl)
theorem dX9_years_6 : decode cX9_years 6 = .ok (.getfield 417, 3) := dk_180 1 161 (dk_at dksX9_years_0 6 rfl rfl)
theorem dX9_years_9 : decode cX9_years 9 = .ok (.ifnonnull 9, 3) := dk_199 0 9 (dk_at dksX9_years_0 9 rfl rfl)
theorem dX9_years_12 : decode cX9_years 12 = .ok (.aload_n 0, 1) := dk_42 (dk_at dksX9_years_0 12 rfl rfl)
theorem dX9_years_13 : decode cX9_years 13 = .ok (.iconst 1, 1) := dk_4 (dk_at dksX9_years_0 13 rfl rfl)
theorem dX9_years_14 : decode cX9_years 14 = .ok (.invokevirtual 69, 3) := dk_182 0 69 (dk_at dksX9_years_0 14 rfl rfl)
theorem dX9_years_17 : decode cX9_years 17 = .ok (.ireturn, 1) := dk_172 (dk_at dksX9_years_0 17 rfl rfl)
theorem dX9_years_18 : decode cX9_years 18 = .ok (.iload_n 1, 1) := dk_27 (dk_at dksX9_years_0 18 rfl rfl)
theorem dX9_years_19 : decode cX9_years 19 = .ok (.iconst 1, 1) := dk_4 (dk_at dksX9_years_0 19 rfl rfl)
theorem dX9_years_20 : decode cX9_years 20 = .ok (.bipush 20, 2) := dk_16 20 (dk_at dksX9_years_0 20 rfl rfl)
theorem dX9_years_22 : decode cX9_years 22 = .ok (.invokestatic 141, 3) := dk_184 0 141 (dk_at dksX9_years_1 0 rfl rfl)
theorem dX9_years_25 : decode cX9_years 25 = .ok (.ifCond .ne 9, 3) := dk_154 0 9 (dk_at dksX9_years_1 3 rfl rfl)
theorem dX9_years_28 : decode cX9_years 28 = .ok (.aload_n 0, 1) := dk_42 (dk_at dksX9_years_1 6 rfl rfl)
theorem dX9_years_29 : decode cX9_years 29 = .ok (.iconst 2, 1) := dk_5 (dk_at dksX9_years_1 7 rfl rfl)
theorem dX9_years_30 : decode cX9_years 30 = .ok (.invokevirtual 69, 3) := dk_182 0 69 (dk_at dksX9_years_1 8 rfl rfl)
theorem dX9_years_33 : decode cX9_years 33 = .ok (.ireturn, 1) := dk_172 (dk_at dksX9_years_1 11 rfl rfl)
theorem dX9_years_34 : decode cX9_years 34 = .ok (.aload_n 0, 1) := dk_42 (dk_at dksX9_years_1 12 rfl rfl)
theorem dX9_years_35 : decode cX9_years 35 = .ok (.getfield 17, 3) := dk_180 0 17 (dk_at dksX9_years_1 13 rfl rfl)
theorem dX9_years_38 : decode cX9_years 38 = .ok (.sipush 210, 3) := dk_17 0 210 (dk_at dksX9_years_1 16 rfl rfl)
theorem dX9_years_41 : decode cX9_years 41 = .ok (.iaload, 1) := dk_46 (dk_at dksX9_years_1 19 rfl rfl)
theorem dX9_years_42 : decode cX9_years 42 = .ok (.iload_n 1, 1) := dk_27 (dk_at dksX9_years_1 20 rfl rfl)
theorem dX9_years_43 : decode cX9_years 43 = .ok (.iadd, 1) := dk_96 (dk_at dksX9_years_1 21 rfl rfl)
theorem dX9_years_44 : decode cX9_years 44 = .ok (.sipush 999, 3) := dk_17 3 231 (dk_at dksX9_years_2 0 rfl rfl)
theorem dX9_years_47 : decode cX9_years 47 = .ok (.if_icmp .le 9, 3) := dk_164 0 9 (dk_at dksX9_years_2 3 rfl rfl)
theorem dX9_years_50 : decode cX9_years 50 = .ok (.aload_n 0, 1) := dk_42 (dk_at dksX9_years_2 6 rfl rfl)
theorem dX9_years_51 : decode cX9_years 51 = .ok (.iconst 3, 1) := dk_6 (dk_at dksX9_years_2 7 rfl rfl)
theorem dX9_years_52 : decode cX9_years 52 = .ok (.invokevirtual 69, 3) := dk_182 0 69 (dk_at dksX9_years_2 8 rfl rfl)
theorem dX9_years_55 : decode cX9_years 55 = .ok (.ireturn, 1) := dk_172 (dk_at dksX9_years_2 11 rfl rfl)
theorem dX9_years_56 : decode cX9_years 56 = .ok (.aload_n 0, 1) := dk_42 (dk_at dksX9_years_2 12 rfl rfl)
theorem dX9_years_57 : decode cX9_years 57 = .ok (.invokevirtual 616, 3) := dk_182 2 104 (dk_at dksX9_years_2 13 rfl rfl)
theorem dX9_years_60 : decode cX9_years 60 = .ok (.aload_n 0, 1) := dk_42 (dk_at dksX9_years_2 16 rfl rfl)
theorem dX9_years_61 : decode cX9_years 61 = .ok (.invokevirtual 511, 3) := dk_182 1 255 (dk_at dksX9_years_2 17 rfl rfl)
theorem dX9_years_64 : decode cX9_years 64 = .ok (.iconst 0, 1) := dk_3 (dk_at dksX9_years_2 20 rfl rfl)
theorem dX9_years_65 : decode cX9_years 65 = .ok (.istore_n 2, 1) := dk_61 (dk_at dksX9_years_2 21 rfl rfl)
theorem dX9_years_66 : decode cX9_years 66 = .ok (.iload_n 2, 1) := dk_28 (dk_at dksX9_years_2 22 rfl rfl)
theorem dX9_years_67 : decode cX9_years 67 = .ok (.iload_n 1, 1) := dk_27 (dk_at dksX9_years_2 23 rfl rfl)
theorem dX9_years_68 : decode cX9_years 68 = .ok (.if_icmp .ge 17, 3) := dk_162 0 17 (dk_at dksX9_years_3 0 rfl rfl)
theorem dX9_years_71 : decode cX9_years 71 = .ok (.aload_n 0, 1) := dk_42 (dk_at dksX9_years_3 3 rfl rfl)
theorem dX9_years_72 : decode cX9_years 72 = .ok (.aload_n 0, 1) := dk_42 (dk_at dksX9_years_3 4 rfl rfl)
theorem dX9_years_73 : decode cX9_years 73 = .ok (.getfield 17, 3) := dk_180 0 17 (dk_at dksX9_years_3 5 rfl rfl)
theorem dX9_years_76 : decode cX9_years 76 = .ok (.invokevirtual 514, 3) := dk_182 2 2 (dk_at dksX9_years_3 8 rfl rfl)
theorem dX9_years_79 : decode cX9_years 79 = .ok (.iinc 2 1, 3) := dk_132 2 1 (dk_at dksX9_years_3 11 rfl rfl)
theorem dX9_years_82 : decode cX9_years 82 = .ok (.goto (-16), 3) := dk_167 255 240 (dk_at dksX9_years_3 14 rfl rfl)
theorem dX9_years_85 : decode cX9_years 85 = .ok (.aload_n 0, 1) := dk_42 (dk_at dksX9_years_3 17 rfl rfl)
theorem dX9_years_86 : decode cX9_years 86 = .ok (.aload_n 0, 1) := dk_42 (dk_at dksX9_years_3 18 rfl rfl)
theorem dX9_years_87 : decode cX9_years 87 = .ok (.getfield 17, 3) := dk_180 0 17 (dk_at dksX9_years_3 19 rfl rfl)
theorem dX9_years_90 : decode cX9_years 90 = .ok (.invokestatic 572, 3) := dk_184 2 60 (dk_at dksX9_years_4 0 rfl rfl)
theorem dX9_years_93 : decode cX9_years 93 = .ok (.invokevirtual 73, 3) := dk_182 0 73 (dk_at dksX9_years_4 3 rfl rfl)
theorem dX9_years_96 : decode cX9_years 96 = .ok (.ireturn, 1) := dk_172 (dk_at dksX9_years_4 6 rfl rfl)
abbrev cX9_keeps : ByteArray := prog_20_method_128_code
def yX9_keeps : MethodName := ⟨RX9, "keeps", "()V"⟩
def dkwX9_keeps_4 : List UInt8 := [181, 1, 163, 177]
abbrev dktX9_keeps_4 : List UInt8 := dkwX9_keeps_4 ++ []
def dkwX9_keeps_3 : List UInt8 := [27, 96, 42, 180, 0, 17, 27, 46, 79, 132, 1, 1, 167, 255, 225, 42, 89, 180, 1, 163, 4, 96]
abbrev dktX9_keeps_3 : List UInt8 := dkwX9_keeps_3 ++ dktX9_keeps_4
def dkwX9_keeps_2 : List UInt8 := [181, 1, 163, 3, 60, 27, 17, 0, 212, 162, 0, 30, 42, 180, 0, 24, 17, 0, 212, 42, 180, 1, 163, 104]
abbrev dktX9_keeps_2 : List UInt8 := dkwX9_keeps_2 ++ dktX9_keeps_3
def dkwX9_keeps_1 : List UInt8 := [180, 0, 24, 27, 17, 0, 212, 96, 46, 79, 132, 1, 1, 167, 255, 230, 42, 89, 180, 1, 163, 4, 100]
abbrev dktX9_keeps_1 : List UInt8 := dkwX9_keeps_1 ++ dktX9_keeps_2
def dkwX9_keeps_0 : List UInt8 := [42, 180, 1, 163, 16, 10, 160, 0, 44, 3, 60, 27, 17, 7, 116, 162, 0, 25, 42, 180, 0, 24, 27, 42]
abbrev dktX9_keeps_0 : List UInt8 := dkwX9_keeps_0 ++ dktX9_keeps_1
theorem dksX9_keeps_0 : cX9_keeps.data.toList.drop 0 = dktX9_keeps_0 := by decide +kernel
theorem dksX9_keeps_1 : cX9_keeps.data.toList.drop 24 = dktX9_keeps_1 := dk_seg dksX9_keeps_0 24 rfl rfl
theorem dksX9_keeps_2 : cX9_keeps.data.toList.drop 47 = dktX9_keeps_2 := dk_seg dksX9_keeps_1 23 rfl rfl
theorem dksX9_keeps_3 : cX9_keeps.data.toList.drop 71 = dktX9_keeps_3 := dk_seg dksX9_keeps_2 24 rfl rfl
theorem dksX9_keeps_4 : cX9_keeps.data.toList.drop 93 = dktX9_keeps_4 := dk_seg dksX9_keeps_3 22 rfl rfl
theorem dX9_keeps_0 : decode cX9_keeps 0 = .ok (.aload_n 0, 1) := dk_42 (dk_at dksX9_keeps_0 0 rfl rfl)
theorem dX9_keeps_1 : decode cX9_keeps 1 = .ok (.getfield 419, 3) := dk_180 1 163 (dk_at dksX9_keeps_0 1 rfl rfl)
theorem dX9_keeps_4 : decode cX9_keeps 4 = .ok (.bipush 10, 2) := dk_16 10 (dk_at dksX9_keeps_0 4 rfl rfl)
theorem dX9_keeps_6 : decode cX9_keeps 6 = .ok (.if_icmp .ne 44, 3) := dk_160 0 44 (dk_at dksX9_keeps_0 6 rfl rfl)
theorem dX9_keeps_9 : decode cX9_keeps 9 = .ok (.iconst 0, 1) := dk_3 (dk_at dksX9_keeps_0 9 rfl rfl)
theorem dX9_keeps_10 : decode cX9_keeps 10 = .ok (.istore_n 1, 1) := dk_60 (dk_at dksX9_keeps_0 10 rfl rfl)
theorem dX9_keeps_11 : decode cX9_keeps 11 = .ok (.iload_n 1, 1) := dk_27 (dk_at dksX9_keeps_0 11 rfl rfl)
theorem dX9_keeps_12 : decode cX9_keeps 12 = .ok (.sipush 1908, 3) := dk_17 7 116 (dk_at dksX9_keeps_0 12 rfl rfl)
theorem dX9_keeps_15 : decode cX9_keeps 15 = .ok (.if_icmp .ge 25, 3) := dk_162 0 25 (dk_at dksX9_keeps_0 15 rfl rfl)
theorem dX9_keeps_18 : decode cX9_keeps 18 = .ok (.aload_n 0, 1) := dk_42 (dk_at dksX9_keeps_0 18 rfl rfl)
theorem dX9_keeps_19 : decode cX9_keeps 19 = .ok (.getfield 24, 3) := dk_180 0 24 (dk_at dksX9_keeps_0 19 rfl rfl)
theorem dX9_keeps_22 : decode cX9_keeps 22 = .ok (.iload_n 1, 1) := dk_27 (dk_at dksX9_keeps_0 22 rfl rfl)
theorem dX9_keeps_23 : decode cX9_keeps 23 = .ok (.aload_n 0, 1) := dk_42 (dk_at dksX9_keeps_0 23 rfl rfl)
theorem dX9_keeps_24 : decode cX9_keeps 24 = .ok (.getfield 24, 3) := dk_180 0 24 (dk_at dksX9_keeps_1 0 rfl rfl)
theorem dX9_keeps_27 : decode cX9_keeps 27 = .ok (.iload_n 1, 1) := dk_27 (dk_at dksX9_keeps_1 3 rfl rfl)
theorem dX9_keeps_28 : decode cX9_keeps 28 = .ok (.sipush 212, 3) := dk_17 0 212 (dk_at dksX9_keeps_1 4 rfl rfl)
theorem dX9_keeps_31 : decode cX9_keeps 31 = .ok (.iadd, 1) := dk_96 (dk_at dksX9_keeps_1 7 rfl rfl)
theorem dX9_keeps_32 : decode cX9_keeps 32 = .ok (.iaload, 1) := dk_46 (dk_at dksX9_keeps_1 8 rfl rfl)
theorem dX9_keeps_33 : decode cX9_keeps 33 = .ok (.iastore, 1) := dk_79 (dk_at dksX9_keeps_1 9 rfl rfl)
theorem dX9_keeps_34 : decode cX9_keeps 34 = .ok (.iinc 1 1, 3) := dk_132 1 1 (dk_at dksX9_keeps_1 10 rfl rfl)
theorem dX9_keeps_37 : decode cX9_keeps 37 = .ok (.goto (-26), 3) := dk_167 255 230 (dk_at dksX9_keeps_1 13 rfl rfl)
theorem dX9_keeps_40 : decode cX9_keeps 40 = .ok (.aload_n 0, 1) := dk_42 (dk_at dksX9_keeps_1 16 rfl rfl)
theorem dX9_keeps_41 : decode cX9_keeps 41 = .ok (.dup, 1) := dk_89 (dk_at dksX9_keeps_1 17 rfl rfl)
theorem dX9_keeps_42 : decode cX9_keeps 42 = .ok (.getfield 419, 3) := dk_180 1 163 (dk_at dksX9_keeps_1 18 rfl rfl)
theorem dX9_keeps_45 : decode cX9_keeps 45 = .ok (.iconst 1, 1) := dk_4 (dk_at dksX9_keeps_1 21 rfl rfl)
theorem dX9_keeps_46 : decode cX9_keeps 46 = .ok (.isub, 1) := dk_100 (dk_at dksX9_keeps_1 22 rfl rfl)
theorem dX9_keeps_47 : decode cX9_keeps 47 = .ok (.putfield 419, 3) := dk_181 1 163 (dk_at dksX9_keeps_2 0 rfl rfl)
theorem dX9_keeps_50 : decode cX9_keeps 50 = .ok (.iconst 0, 1) := dk_3 (dk_at dksX9_keeps_2 3 rfl rfl)
theorem dX9_keeps_51 : decode cX9_keeps 51 = .ok (.istore_n 1, 1) := dk_60 (dk_at dksX9_keeps_2 4 rfl rfl)
theorem dX9_keeps_52 : decode cX9_keeps 52 = .ok (.iload_n 1, 1) := dk_27 (dk_at dksX9_keeps_2 5 rfl rfl)
theorem dX9_keeps_53 : decode cX9_keeps 53 = .ok (.sipush 212, 3) := dk_17 0 212 (dk_at dksX9_keeps_2 6 rfl rfl)
theorem dX9_keeps_56 : decode cX9_keeps 56 = .ok (.if_icmp .ge 30, 3) := dk_162 0 30 (dk_at dksX9_keeps_2 9 rfl rfl)
theorem dX9_keeps_59 : decode cX9_keeps 59 = .ok (.aload_n 0, 1) := dk_42 (dk_at dksX9_keeps_2 12 rfl rfl)
theorem dX9_keeps_60 : decode cX9_keeps 60 = .ok (.getfield 24, 3) := dk_180 0 24 (dk_at dksX9_keeps_2 13 rfl rfl)
theorem dX9_keeps_63 : decode cX9_keeps 63 = .ok (.sipush 212, 3) := dk_17 0 212 (dk_at dksX9_keeps_2 16 rfl rfl)
theorem dX9_keeps_66 : decode cX9_keeps 66 = .ok (.aload_n 0, 1) := dk_42 (dk_at dksX9_keeps_2 19 rfl rfl)
theorem dX9_keeps_67 : decode cX9_keeps 67 = .ok (.getfield 419, 3) := dk_180 1 163 (dk_at dksX9_keeps_2 20 rfl rfl)
theorem dX9_keeps_70 : decode cX9_keeps 70 = .ok (.imul, 1) := dk_104 (dk_at dksX9_keeps_2 23 rfl rfl)
theorem dX9_keeps_71 : decode cX9_keeps 71 = .ok (.iload_n 1, 1) := dk_27 (dk_at dksX9_keeps_3 0 rfl rfl)
theorem dX9_keeps_72 : decode cX9_keeps 72 = .ok (.iadd, 1) := dk_96 (dk_at dksX9_keeps_3 1 rfl rfl)
theorem dX9_keeps_73 : decode cX9_keeps 73 = .ok (.aload_n 0, 1) := dk_42 (dk_at dksX9_keeps_3 2 rfl rfl)
theorem dX9_keeps_74 : decode cX9_keeps 74 = .ok (.getfield 17, 3) := dk_180 0 17 (dk_at dksX9_keeps_3 3 rfl rfl)
theorem dX9_keeps_77 : decode cX9_keeps 77 = .ok (.iload_n 1, 1) := dk_27 (dk_at dksX9_keeps_3 6 rfl rfl)
theorem dX9_keeps_78 : decode cX9_keeps 78 = .ok (.iaload, 1) := dk_46 (dk_at dksX9_keeps_3 7 rfl rfl)
theorem dX9_keeps_79 : decode cX9_keeps 79 = .ok (.iastore, 1) := dk_79 (dk_at dksX9_keeps_3 8 rfl rfl)
theorem dX9_keeps_80 : decode cX9_keeps 80 = .ok (.iinc 1 1, 3) := dk_132 1 1 (dk_at dksX9_keeps_3 9 rfl rfl)
theorem dX9_keeps_83 : decode cX9_keeps 83 = .ok (.goto (-31), 3) := dk_167 255 225 (dk_at dksX9_keeps_3 12 rfl rfl)
theorem dX9_keeps_86 : decode cX9_keeps 86 = .ok (.aload_n 0, 1) := dk_42 (dk_at dksX9_keeps_3 15 rfl rfl)
theorem dX9_keeps_87 : decode cX9_keeps 87 = .ok (.dup, 1) := dk_89 (dk_at dksX9_keeps_3 16 rfl rfl)
theorem dX9_keeps_88 : decode cX9_keeps 88 = .ok (.getfield 419, 3) := dk_180 1 163 (dk_at dksX9_keeps_3 17 rfl rfl)
theorem dX9_keeps_91 : decode cX9_keeps 91 = .ok (.iconst 1, 1) := dk_4 (dk_at dksX9_keeps_3 20 rfl rfl)
theorem dX9_keeps_92 : decode cX9_keeps 92 = .ok (.iadd, 1) := dk_96 (dk_at dksX9_keeps_3 21 rfl rfl)
theorem dX9_keeps_93 : decode cX9_keeps 93 = .ok (.putfield 419, 3) := dk_181 1 163 (dk_at dksX9_keeps_4 0 rfl rfl)
theorem dX9_keeps_96 : decode cX9_keeps 96 = .ok (.return_, 1) := dk_177 (dk_at dksX9_keeps_4 3 rfl rfl)
abbrev cX9_build : ByteArray := prog_20_method_130_code
def yX9_build : MethodName := ⟨RX9, "build", "(IIIII)I"⟩
def dkwX9_build_9 : List UInt8 := [182, 0, 73, 172]
abbrev dktX9_build_9 : List UInt8 := dkwX9_build_9 ++ []
def dkwX9_build_8 : List UInt8 := [180, 0, 17, 27, 28, 29, 21, 4, 21, 5, 42, 180, 0, 17, 17, 0, 210, 46, 184, 1, 128, 42, 21, 7]
abbrev dktX9_build_8 : List UInt8 := dkwX9_build_8 ++ dktX9_build_9
def dkwX9_build_7 : List UInt8 := [182, 0, 69, 172, 42, 182, 2, 104, 42, 180, 0, 17, 16, 8, 27, 96, 92, 46, 21, 7, 100, 79, 42]
abbrev dktX9_build_7 : List UInt8 := dkwX9_build_7 ++ dktX9_build_8
def dkwX9_build_6 : List UInt8 := [182, 1, 245, 54, 7, 42, 180, 0, 17, 16, 8, 27, 96, 46, 21, 7, 162, 0, 10, 42, 16, 6]
abbrev dktX9_build_6 : List UInt8 := dkwX9_build_6 ++ dktX9_build_7
def dkwX9_build_5 : List UInt8 := [21, 6, 29, 21, 4, 184, 1, 215, 154, 0, 9, 42, 8, 182, 0, 69, 172, 42, 42, 180, 0, 17, 27, 28]
abbrev dktX9_build_5 : List UInt8 := dkwX9_build_5 ++ dktX9_build_6
def dkwX9_build_4 : List UInt8 := [180, 1, 161, 42, 180, 0, 17, 27, 184, 1, 119, 153, 0, 23, 42, 180, 1, 161, 42, 180, 0, 17, 27]
abbrev dktX9_build_4 : List UInt8 := dkwX9_build_4 ++ dktX9_build_5
def dkwX9_build_3 : List UInt8 := [184, 0, 141, 153, 0, 14, 21, 5, 3, 16, 99, 184, 0, 141, 154, 0, 9, 42, 5, 182, 0, 69, 172, 42]
abbrev dktX9_build_3 : List UInt8 := dkwX9_build_3 ++ dktX9_build_4
def dkwX9_build_2 : List UInt8 := [21, 6, 16, 6, 164, 0, 9, 42, 6, 182, 0, 69, 172, 21, 4, 3, 5, 21, 6, 104, 5, 100]
abbrev dktX9_build_2 : List UInt8 := dkwX9_build_2 ++ dktX9_build_3
def dkwX9_build_1 : List UInt8 := [184, 0, 141, 154, 0, 9, 42, 4, 182, 0, 69, 172, 42, 180, 0, 17, 3, 27, 96, 46, 4, 96, 54, 6]
abbrev dktX9_build_1 : List UInt8 := dkwX9_build_1 ++ dktX9_build_2
def dkwX9_build_0 : List UInt8 := [42, 3, 181, 0, 63, 42, 27, 182, 2, 6, 153, 0, 20, 42, 28, 182, 2, 37, 153, 0, 12, 29, 3, 6]
abbrev dktX9_build_0 : List UInt8 := dkwX9_build_0 ++ dktX9_build_1
theorem dksX9_build_0 : cX9_build.data.toList.drop 0 = dktX9_build_0 := by decide +kernel
theorem dksX9_build_1 : cX9_build.data.toList.drop 24 = dktX9_build_1 := dk_seg dksX9_build_0 24 rfl rfl
theorem dksX9_build_2 : cX9_build.data.toList.drop 48 = dktX9_build_2 := dk_seg dksX9_build_1 24 rfl rfl
theorem dksX9_build_3 : cX9_build.data.toList.drop 70 = dktX9_build_3 := dk_seg dksX9_build_2 22 rfl rfl
theorem dksX9_build_4 : cX9_build.data.toList.drop 94 = dktX9_build_4 := dk_seg dksX9_build_3 24 rfl rfl
theorem dksX9_build_5 : cX9_build.data.toList.drop 117 = dktX9_build_5 := dk_seg dksX9_build_4 23 rfl rfl
theorem dksX9_build_6 : cX9_build.data.toList.drop 141 = dktX9_build_6 := dk_seg dksX9_build_5 24 rfl rfl
theorem dksX9_build_7 : cX9_build.data.toList.drop 163 = dktX9_build_7 := dk_seg dksX9_build_6 22 rfl rfl
theorem dksX9_build_8 : cX9_build.data.toList.drop 186 = dktX9_build_8 := dk_seg dksX9_build_7 23 rfl rfl
theorem dksX9_build_9 : cX9_build.data.toList.drop 210 = dktX9_build_9 := dk_seg dksX9_build_8 24 rfl rfl
theorem dX9_build_0 : decode cX9_build 0 = .ok (.aload_n 0, 1) := dk_42 (dk_at dksX9_build_0 0 rfl rfl)
theorem dX9_build_1 : decode cX9_build 1 = .ok (.iconst 0, 1) := dk_3 (dk_at dksX9_build_0 1 rfl rfl)
theorem dX9_build_2 : decode cX9_build 2 = .ok (.putfield 63, 3) := dk_181 0 63 (dk_at dksX9_build_0 2 rfl rfl)
theorem dX9_build_5 : decode cX9_build 5 = .ok (.aload_n 0, 1) := dk_42 (dk_at dksX9_build_0 5 rfl rfl)
theorem dX9_build_6 : decode cX9_build 6 = .ok (.iload_n 1, 1) := dk_27 (dk_at dksX9_build_0 6 rfl rfl)
theorem dX9_build_7 : decode cX9_build 7 = .ok (.invokevirtual 518, 3) := dk_182 2 6 (dk_at dksX9_build_0 7 rfl rfl)
theorem dX9_build_10 : decode cX9_build 10 = .ok (.ifCond .eq 20, 3) := dk_153 0 20 (dk_at dksX9_build_0 10 rfl rfl)
theorem dX9_build_13 : decode cX9_build 13 = .ok (.aload_n 0, 1) := dk_42 (dk_at dksX9_build_0 13 rfl rfl)
theorem dX9_build_14 : decode cX9_build 14 = .ok (.iload_n 2, 1) := dk_28 (dk_at dksX9_build_0 14 rfl rfl)
theorem dX9_build_15 : decode cX9_build 15 = .ok (.invokevirtual 549, 3) := dk_182 2 37 (dk_at dksX9_build_0 15 rfl rfl)
theorem dX9_build_18 : decode cX9_build 18 = .ok (.ifCond .eq 12, 3) := dk_153 0 12 (dk_at dksX9_build_0 18 rfl rfl)
theorem dX9_build_21 : decode cX9_build 21 = .ok (.iload_n 3, 1) := dk_29 (dk_at dksX9_build_0 21 rfl rfl)
theorem dX9_build_22 : decode cX9_build 22 = .ok (.iconst 0, 1) := dk_3 (dk_at dksX9_build_0 22 rfl rfl)
theorem dX9_build_23 : decode cX9_build 23 = .ok (.iconst 3, 1) := dk_6 (dk_at dksX9_build_0 23 rfl rfl)
theorem dX9_build_24 : decode cX9_build 24 = .ok (.invokestatic 141, 3) := dk_184 0 141 (dk_at dksX9_build_1 0 rfl rfl)
theorem dX9_build_27 : decode cX9_build 27 = .ok (.ifCond .ne 9, 3) := dk_154 0 9 (dk_at dksX9_build_1 3 rfl rfl)
theorem dX9_build_30 : decode cX9_build 30 = .ok (.aload_n 0, 1) := dk_42 (dk_at dksX9_build_1 6 rfl rfl)
theorem dX9_build_31 : decode cX9_build 31 = .ok (.iconst 1, 1) := dk_4 (dk_at dksX9_build_1 7 rfl rfl)
theorem dX9_build_32 : decode cX9_build 32 = .ok (.invokevirtual 69, 3) := dk_182 0 69 (dk_at dksX9_build_1 8 rfl rfl)
theorem dX9_build_35 : decode cX9_build 35 = .ok (.ireturn, 1) := dk_172 (dk_at dksX9_build_1 11 rfl rfl)
theorem dX9_build_36 : decode cX9_build 36 = .ok (.aload_n 0, 1) := dk_42 (dk_at dksX9_build_1 12 rfl rfl)
theorem dX9_build_37 : decode cX9_build 37 = .ok (.getfield 17, 3) := dk_180 0 17 (dk_at dksX9_build_1 13 rfl rfl)
theorem dX9_build_40 : decode cX9_build 40 = .ok (.iconst 0, 1) := dk_3 (dk_at dksX9_build_1 16 rfl rfl)
theorem dX9_build_41 : decode cX9_build 41 = .ok (.iload_n 1, 1) := dk_27 (dk_at dksX9_build_1 17 rfl rfl)
theorem dX9_build_42 : decode cX9_build 42 = .ok (.iadd, 1) := dk_96 (dk_at dksX9_build_1 18 rfl rfl)
theorem dX9_build_43 : decode cX9_build 43 = .ok (.iaload, 1) := dk_46 (dk_at dksX9_build_1 19 rfl rfl)
theorem dX9_build_44 : decode cX9_build 44 = .ok (.iconst 1, 1) := dk_4 (dk_at dksX9_build_1 20 rfl rfl)
theorem dX9_build_45 : decode cX9_build 45 = .ok (.iadd, 1) := dk_96 (dk_at dksX9_build_1 21 rfl rfl)
theorem dX9_build_46 : decode cX9_build 46 = .ok (.istore 6, 2) := dk_54 6 (dk_at dksX9_build_1 22 rfl rfl)
theorem dX9_build_48 : decode cX9_build 48 = .ok (.iload 6, 2) := dk_21 6 (dk_at dksX9_build_2 0 rfl rfl)
theorem dX9_build_50 : decode cX9_build 50 = .ok (.bipush 6, 2) := dk_16 6 (dk_at dksX9_build_2 2 rfl rfl)
theorem dX9_build_52 : decode cX9_build 52 = .ok (.if_icmp .le 9, 3) := dk_164 0 9 (dk_at dksX9_build_2 4 rfl rfl)
theorem dX9_build_55 : decode cX9_build 55 = .ok (.aload_n 0, 1) := dk_42 (dk_at dksX9_build_2 7 rfl rfl)
theorem dX9_build_56 : decode cX9_build 56 = .ok (.iconst 3, 1) := dk_6 (dk_at dksX9_build_2 8 rfl rfl)
theorem dX9_build_57 : decode cX9_build 57 = .ok (.invokevirtual 69, 3) := dk_182 0 69 (dk_at dksX9_build_2 9 rfl rfl)
theorem dX9_build_60 : decode cX9_build 60 = .ok (.ireturn, 1) := dk_172 (dk_at dksX9_build_2 12 rfl rfl)
theorem dX9_build_61 : decode cX9_build 61 = .ok (.iload 4, 2) := dk_21 4 (dk_at dksX9_build_2 13 rfl rfl)
theorem dX9_build_63 : decode cX9_build 63 = .ok (.iconst 0, 1) := dk_3 (dk_at dksX9_build_2 15 rfl rfl)
theorem dX9_build_64 : decode cX9_build 64 = .ok (.iconst 2, 1) := dk_5 (dk_at dksX9_build_2 16 rfl rfl)
theorem dX9_build_65 : decode cX9_build 65 = .ok (.iload 6, 2) := dk_21 6 (dk_at dksX9_build_2 17 rfl rfl)
theorem dX9_build_67 : decode cX9_build 67 = .ok (.imul, 1) := dk_104 (dk_at dksX9_build_2 19 rfl rfl)
theorem dX9_build_68 : decode cX9_build 68 = .ok (.iconst 2, 1) := dk_5 (dk_at dksX9_build_2 20 rfl rfl)
theorem dX9_build_69 : decode cX9_build 69 = .ok (.isub, 1) := dk_100 (dk_at dksX9_build_2 21 rfl rfl)
theorem dX9_build_70 : decode cX9_build 70 = .ok (.invokestatic 141, 3) := dk_184 0 141 (dk_at dksX9_build_3 0 rfl rfl)
theorem dX9_build_73 : decode cX9_build 73 = .ok (.ifCond .eq 14, 3) := dk_153 0 14 (dk_at dksX9_build_3 3 rfl rfl)
theorem dX9_build_76 : decode cX9_build 76 = .ok (.iload 5, 2) := dk_21 5 (dk_at dksX9_build_3 6 rfl rfl)
theorem dX9_build_78 : decode cX9_build 78 = .ok (.iconst 0, 1) := dk_3 (dk_at dksX9_build_3 8 rfl rfl)
theorem dX9_build_79 : decode cX9_build 79 = .ok (.bipush 99, 2) := dk_16 99 (dk_at dksX9_build_3 9 rfl rfl)
theorem dX9_build_81 : decode cX9_build 81 = .ok (.invokestatic 141, 3) := dk_184 0 141 (dk_at dksX9_build_3 11 rfl rfl)
theorem dX9_build_84 : decode cX9_build 84 = .ok (.ifCond .ne 9, 3) := dk_154 0 9 (dk_at dksX9_build_3 14 rfl rfl)
theorem dX9_build_87 : decode cX9_build 87 = .ok (.aload_n 0, 1) := dk_42 (dk_at dksX9_build_3 17 rfl rfl)
theorem dX9_build_88 : decode cX9_build 88 = .ok (.iconst 2, 1) := dk_5 (dk_at dksX9_build_3 18 rfl rfl)
theorem dX9_build_89 : decode cX9_build 89 = .ok (.invokevirtual 69, 3) := dk_182 0 69 (dk_at dksX9_build_3 19 rfl rfl)
theorem dX9_build_92 : decode cX9_build 92 = .ok (.ireturn, 1) := dk_172 (dk_at dksX9_build_3 22 rfl rfl)
theorem dX9_build_93 : decode cX9_build 93 = .ok (.aload_n 0, 1) := dk_42 (dk_at dksX9_build_3 23 rfl rfl)
theorem dX9_build_94 : decode cX9_build 94 = .ok (.getfield 417, 3) := dk_180 1 161 (dk_at dksX9_build_4 0 rfl rfl)
theorem dX9_build_97 : decode cX9_build 97 = .ok (.aload_n 0, 1) := dk_42 (dk_at dksX9_build_4 3 rfl rfl)
theorem dX9_build_98 : decode cX9_build 98 = .ok (.getfield 17, 3) := dk_180 0 17 (dk_at dksX9_build_4 4 rfl rfl)
theorem dX9_build_101 : decode cX9_build 101 = .ok (.iload_n 1, 1) := dk_27 (dk_at dksX9_build_4 7 rfl rfl)
theorem dX9_build_102 : decode cX9_build 102 = .ok (.invokestatic 375, 3) := dk_184 1 119 (dk_at dksX9_build_4 8 rfl rfl)
theorem dX9_build_105 : decode cX9_build 105 = .ok (.ifCond .eq 23, 3) := dk_153 0 23 (dk_at dksX9_build_4 11 rfl rfl)
theorem dX9_build_108 : decode cX9_build 108 = .ok (.aload_n 0, 1) := dk_42 (dk_at dksX9_build_4 14 rfl rfl)
theorem dX9_build_109 : decode cX9_build 109 = .ok (.getfield 417, 3) := dk_180 1 161 (dk_at dksX9_build_4 15 rfl rfl)
theorem dX9_build_112 : decode cX9_build 112 = .ok (.aload_n 0, 1) := dk_42 (dk_at dksX9_build_4 18 rfl rfl)
theorem dX9_build_113 : decode cX9_build 113 = .ok (.getfield 17, 3) := dk_180 0 17 (dk_at dksX9_build_4 19 rfl rfl)
theorem dX9_build_116 : decode cX9_build 116 = .ok (.iload_n 1, 1) := dk_27 (dk_at dksX9_build_4 22 rfl rfl)
theorem dX9_build_117 : decode cX9_build 117 = .ok (.iload 6, 2) := dk_21 6 (dk_at dksX9_build_5 0 rfl rfl)
theorem dX9_build_119 : decode cX9_build 119 = .ok (.iload_n 3, 1) := dk_29 (dk_at dksX9_build_5 2 rfl rfl)
theorem dX9_build_120 : decode cX9_build 120 = .ok (.iload 4, 2) := dk_21 4 (dk_at dksX9_build_5 3 rfl rfl)
theorem dX9_build_122 : decode cX9_build 122 = .ok (.invokestatic 471, 3) := dk_184 1 215 (dk_at dksX9_build_5 5 rfl rfl)
theorem dX9_build_125 : decode cX9_build 125 = .ok (.ifCond .ne 9, 3) := dk_154 0 9 (dk_at dksX9_build_5 8 rfl rfl)
theorem dX9_build_128 : decode cX9_build 128 = .ok (.aload_n 0, 1) := dk_42 (dk_at dksX9_build_5 11 rfl rfl)
theorem dX9_build_129 : decode cX9_build 129 = .ok (.iconst 5, 1) := dk_8 (dk_at dksX9_build_5 12 rfl rfl)
theorem dX9_build_130 : decode cX9_build 130 = .ok (.invokevirtual 69, 3) := dk_182 0 69 (dk_at dksX9_build_5 13 rfl rfl)
theorem dX9_build_133 : decode cX9_build 133 = .ok (.ireturn, 1) := dk_172 (dk_at dksX9_build_5 16 rfl rfl)
theorem dX9_build_134 : decode cX9_build 134 = .ok (.aload_n 0, 1) := dk_42 (dk_at dksX9_build_5 17 rfl rfl)
theorem dX9_build_135 : decode cX9_build 135 = .ok (.aload_n 0, 1) := dk_42 (dk_at dksX9_build_5 18 rfl rfl)
theorem dX9_build_136 : decode cX9_build 136 = .ok (.getfield 17, 3) := dk_180 0 17 (dk_at dksX9_build_5 19 rfl rfl)
theorem dX9_build_139 : decode cX9_build 139 = .ok (.iload_n 1, 1) := dk_27 (dk_at dksX9_build_5 22 rfl rfl)
theorem dX9_build_140 : decode cX9_build 140 = .ok (.iload_n 2, 1) := dk_28 (dk_at dksX9_build_5 23 rfl rfl)
theorem dX9_build_141 : decode cX9_build 141 = .ok (.invokevirtual 501, 3) := dk_182 1 245 (dk_at dksX9_build_6 0 rfl rfl)
theorem dX9_build_144 : decode cX9_build 144 = .ok (.istore 7, 2) := dk_54 7 (dk_at dksX9_build_6 3 rfl rfl)
theorem dX9_build_146 : decode cX9_build 146 = .ok (.aload_n 0, 1) := dk_42 (dk_at dksX9_build_6 5 rfl rfl)
theorem dX9_build_147 : decode cX9_build 147 = .ok (.getfield 17, 3) := dk_180 0 17 (dk_at dksX9_build_6 6 rfl rfl)
theorem dX9_build_150 : decode cX9_build 150 = .ok (.bipush 8, 2) := dk_16 8 (dk_at dksX9_build_6 9 rfl rfl)
theorem dX9_build_152 : decode cX9_build 152 = .ok (.iload_n 1, 1) := dk_27 (dk_at dksX9_build_6 11 rfl rfl)
theorem dX9_build_153 : decode cX9_build 153 = .ok (.iadd, 1) := dk_96 (dk_at dksX9_build_6 12 rfl rfl)
theorem dX9_build_154 : decode cX9_build 154 = .ok (.iaload, 1) := dk_46 (dk_at dksX9_build_6 13 rfl rfl)
theorem dX9_build_155 : decode cX9_build 155 = .ok (.iload 7, 2) := dk_21 7 (dk_at dksX9_build_6 14 rfl rfl)
theorem dX9_build_157 : decode cX9_build 157 = .ok (.if_icmp .ge 10, 3) := dk_162 0 10 (dk_at dksX9_build_6 16 rfl rfl)
theorem dX9_build_160 : decode cX9_build 160 = .ok (.aload_n 0, 1) := dk_42 (dk_at dksX9_build_6 19 rfl rfl)
theorem dX9_build_161 : decode cX9_build 161 = .ok (.bipush 6, 2) := dk_16 6 (dk_at dksX9_build_6 20 rfl rfl)
theorem dX9_build_163 : decode cX9_build 163 = .ok (.invokevirtual 69, 3) := dk_182 0 69 (dk_at dksX9_build_7 0 rfl rfl)
theorem dX9_build_166 : decode cX9_build 166 = .ok (.ireturn, 1) := dk_172 (dk_at dksX9_build_7 3 rfl rfl)
theorem dX9_build_167 : decode cX9_build 167 = .ok (.aload_n 0, 1) := dk_42 (dk_at dksX9_build_7 4 rfl rfl)
theorem dX9_build_168 : decode cX9_build 168 = .ok (.invokevirtual 616, 3) := dk_182 2 104 (dk_at dksX9_build_7 5 rfl rfl)
theorem dX9_build_171 : decode cX9_build 171 = .ok (.aload_n 0, 1) := dk_42 (dk_at dksX9_build_7 8 rfl rfl)
theorem dX9_build_172 : decode cX9_build 172 = .ok (.getfield 17, 3) := dk_180 0 17 (dk_at dksX9_build_7 9 rfl rfl)
theorem dX9_build_175 : decode cX9_build 175 = .ok (.bipush 8, 2) := dk_16 8 (dk_at dksX9_build_7 12 rfl rfl)
theorem dX9_build_177 : decode cX9_build 177 = .ok (.iload_n 1, 1) := dk_27 (dk_at dksX9_build_7 14 rfl rfl)
theorem dX9_build_178 : decode cX9_build 178 = .ok (.iadd, 1) := dk_96 (dk_at dksX9_build_7 15 rfl rfl)
theorem dX9_build_179 : decode cX9_build 179 = .ok (.dup2, 1) := dk_92 (dk_at dksX9_build_7 16 rfl rfl)
theorem dX9_build_180 : decode cX9_build 180 = .ok (.iaload, 1) := dk_46 (dk_at dksX9_build_7 17 rfl rfl)
theorem dX9_build_181 : decode cX9_build 181 = .ok (.iload 7, 2) := dk_21 7 (dk_at dksX9_build_7 18 rfl rfl)
theorem dX9_build_183 : decode cX9_build 183 = .ok (.isub, 1) := dk_100 (dk_at dksX9_build_7 20 rfl rfl)
theorem dX9_build_184 : decode cX9_build 184 = .ok (.iastore, 1) := dk_79 (dk_at dksX9_build_7 21 rfl rfl)
theorem dX9_build_185 : decode cX9_build 185 = .ok (.aload_n 0, 1) := dk_42 (dk_at dksX9_build_7 22 rfl rfl)
theorem dX9_build_186 : decode cX9_build 186 = .ok (.getfield 17, 3) := dk_180 0 17 (dk_at dksX9_build_8 0 rfl rfl)
theorem dX9_build_189 : decode cX9_build 189 = .ok (.iload_n 1, 1) := dk_27 (dk_at dksX9_build_8 3 rfl rfl)
theorem dX9_build_190 : decode cX9_build 190 = .ok (.iload_n 2, 1) := dk_28 (dk_at dksX9_build_8 4 rfl rfl)
theorem dX9_build_191 : decode cX9_build 191 = .ok (.iload_n 3, 1) := dk_29 (dk_at dksX9_build_8 5 rfl rfl)
theorem dX9_build_192 : decode cX9_build 192 = .ok (.iload 4, 2) := dk_21 4 (dk_at dksX9_build_8 6 rfl rfl)
theorem dX9_build_194 : decode cX9_build 194 = .ok (.iload 5, 2) := dk_21 5 (dk_at dksX9_build_8 8 rfl rfl)
theorem dX9_build_196 : decode cX9_build 196 = .ok (.aload_n 0, 1) := dk_42 (dk_at dksX9_build_8 10 rfl rfl)
theorem dX9_build_197 : decode cX9_build 197 = .ok (.getfield 17, 3) := dk_180 0 17 (dk_at dksX9_build_8 11 rfl rfl)
theorem dX9_build_200 : decode cX9_build 200 = .ok (.sipush 210, 3) := dk_17 0 210 (dk_at dksX9_build_8 14 rfl rfl)
theorem dX9_build_203 : decode cX9_build 203 = .ok (.iaload, 1) := dk_46 (dk_at dksX9_build_8 17 rfl rfl)
theorem dX9_build_204 : decode cX9_build 204 = .ok (.invokestatic 384, 3) := dk_184 1 128 (dk_at dksX9_build_8 18 rfl rfl)
theorem dX9_build_207 : decode cX9_build 207 = .ok (.aload_n 0, 1) := dk_42 (dk_at dksX9_build_8 21 rfl rfl)
theorem dX9_build_208 : decode cX9_build 208 = .ok (.iload 7, 2) := dk_21 7 (dk_at dksX9_build_8 22 rfl rfl)
theorem dX9_build_210 : decode cX9_build 210 = .ok (.invokevirtual 73, 3) := dk_182 0 73 (dk_at dksX9_build_9 0 rfl rfl)
theorem dX9_build_213 : decode cX9_build 213 = .ok (.ireturn, 1) := dk_172 (dk_at dksX9_build_9 3 rfl rfl)
abbrev cX9_fill : ByteArray := prog_20_method_131_code
def yX9_fill : MethodName := ⟨RX9, "fill", "(II)Z"⟩
def dkwX9_fill_3 : List UInt8 := [180, 0, 17, 27, 28, 16, 6, 184, 1, 169, 4, 79, 42, 182, 2, 110, 172]
abbrev dktX9_fill_3 : List UInt8 := dkwX9_fill_3 ++ []
def dkwX9_fill_2 : List UInt8 := [159, 0, 12, 42, 27, 28, 182, 2, 86, 153, 0, 9, 42, 8, 182, 2, 107, 172, 42, 182, 2, 104, 42]
abbrev dktX9_fill_2 : List UInt8 := dkwX9_fill_2 ++ dktX9_fill_3
def dkwX9_fill_1 : List UInt8 := [27, 28, 16, 6, 184, 1, 169, 46, 4, 159, 0, 27, 42, 180, 0, 17, 27, 28, 8, 184, 1, 169, 46, 4]
abbrev dktX9_fill_1 : List UInt8 := dkwX9_fill_1 ++ dktX9_fill_2
def dkwX9_fill_0 : List UInt8 := [42, 3, 181, 0, 63, 42, 27, 28, 182, 2, 25, 154, 0, 9, 42, 4, 182, 2, 107, 172, 42, 180, 0, 17]
abbrev dktX9_fill_0 : List UInt8 := dkwX9_fill_0 ++ dktX9_fill_1
theorem dksX9_fill_0 : cX9_fill.data.toList.drop 0 = dktX9_fill_0 := by decide +kernel
theorem dksX9_fill_1 : cX9_fill.data.toList.drop 24 = dktX9_fill_1 := dk_seg dksX9_fill_0 24 rfl rfl
theorem dksX9_fill_2 : cX9_fill.data.toList.drop 48 = dktX9_fill_2 := dk_seg dksX9_fill_1 24 rfl rfl
theorem dksX9_fill_3 : cX9_fill.data.toList.drop 71 = dktX9_fill_3 := dk_seg dksX9_fill_2 23 rfl rfl
theorem dX9_fill_0 : decode cX9_fill 0 = .ok (.aload_n 0, 1) := dk_42 (dk_at dksX9_fill_0 0 rfl rfl)
theorem dX9_fill_1 : decode cX9_fill 1 = .ok (.iconst 0, 1) := dk_3 (dk_at dksX9_fill_0 1 rfl rfl)
theorem dX9_fill_2 : decode cX9_fill 2 = .ok (.putfield 63, 3) := dk_181 0 63 (dk_at dksX9_fill_0 2 rfl rfl)
theorem dX9_fill_5 : decode cX9_fill 5 = .ok (.aload_n 0, 1) := dk_42 (dk_at dksX9_fill_0 5 rfl rfl)
theorem dX9_fill_6 : decode cX9_fill 6 = .ok (.iload_n 1, 1) := dk_27 (dk_at dksX9_fill_0 6 rfl rfl)
theorem dX9_fill_7 : decode cX9_fill 7 = .ok (.iload_n 2, 1) := dk_28 (dk_at dksX9_fill_0 7 rfl rfl)
theorem dX9_fill_8 : decode cX9_fill 8 = .ok (.invokevirtual 537, 3) := dk_182 2 25 (dk_at dksX9_fill_0 8 rfl rfl)
theorem dX9_fill_11 : decode cX9_fill 11 = .ok (.ifCond .ne 9, 3) := dk_154 0 9 (dk_at dksX9_fill_0 11 rfl rfl)
theorem dX9_fill_14 : decode cX9_fill 14 = .ok (.aload_n 0, 1) := dk_42 (dk_at dksX9_fill_0 14 rfl rfl)
theorem dX9_fill_15 : decode cX9_fill 15 = .ok (.iconst 1, 1) := dk_4 (dk_at dksX9_fill_0 15 rfl rfl)
theorem dX9_fill_16 : decode cX9_fill 16 = .ok (.invokevirtual 619, 3) := dk_182 2 107 (dk_at dksX9_fill_0 16 rfl rfl)
theorem dX9_fill_19 : decode cX9_fill 19 = .ok (.ireturn, 1) := dk_172 (dk_at dksX9_fill_0 19 rfl rfl)
theorem dX9_fill_20 : decode cX9_fill 20 = .ok (.aload_n 0, 1) := dk_42 (dk_at dksX9_fill_0 20 rfl rfl)
theorem dX9_fill_21 : decode cX9_fill 21 = .ok (.getfield 17, 3) := dk_180 0 17 (dk_at dksX9_fill_0 21 rfl rfl)
theorem dX9_fill_24 : decode cX9_fill 24 = .ok (.iload_n 1, 1) := dk_27 (dk_at dksX9_fill_1 0 rfl rfl)
theorem dX9_fill_25 : decode cX9_fill 25 = .ok (.iload_n 2, 1) := dk_28 (dk_at dksX9_fill_1 1 rfl rfl)
theorem dX9_fill_26 : decode cX9_fill 26 = .ok (.bipush 6, 2) := dk_16 6 (dk_at dksX9_fill_1 2 rfl rfl)
theorem dX9_fill_28 : decode cX9_fill 28 = .ok (.invokestatic 425, 3) := dk_184 1 169 (dk_at dksX9_fill_1 4 rfl rfl)
theorem dX9_fill_31 : decode cX9_fill 31 = .ok (.iaload, 1) := dk_46 (dk_at dksX9_fill_1 7 rfl rfl)
theorem dX9_fill_32 : decode cX9_fill 32 = .ok (.iconst 1, 1) := dk_4 (dk_at dksX9_fill_1 8 rfl rfl)
theorem dX9_fill_33 : decode cX9_fill 33 = .ok (.if_icmp .eq 27, 3) := dk_159 0 27 (dk_at dksX9_fill_1 9 rfl rfl)
theorem dX9_fill_36 : decode cX9_fill 36 = .ok (.aload_n 0, 1) := dk_42 (dk_at dksX9_fill_1 12 rfl rfl)
theorem dX9_fill_37 : decode cX9_fill 37 = .ok (.getfield 17, 3) := dk_180 0 17 (dk_at dksX9_fill_1 13 rfl rfl)
theorem dX9_fill_40 : decode cX9_fill 40 = .ok (.iload_n 1, 1) := dk_27 (dk_at dksX9_fill_1 16 rfl rfl)
theorem dX9_fill_41 : decode cX9_fill 41 = .ok (.iload_n 2, 1) := dk_28 (dk_at dksX9_fill_1 17 rfl rfl)
theorem dX9_fill_42 : decode cX9_fill 42 = .ok (.iconst 5, 1) := dk_8 (dk_at dksX9_fill_1 18 rfl rfl)
theorem dX9_fill_43 : decode cX9_fill 43 = .ok (.invokestatic 425, 3) := dk_184 1 169 (dk_at dksX9_fill_1 19 rfl rfl)
theorem dX9_fill_46 : decode cX9_fill 46 = .ok (.iaload, 1) := dk_46 (dk_at dksX9_fill_1 22 rfl rfl)
theorem dX9_fill_47 : decode cX9_fill 47 = .ok (.iconst 1, 1) := dk_4 (dk_at dksX9_fill_1 23 rfl rfl)
theorem dX9_fill_48 : decode cX9_fill 48 = .ok (.if_icmp .eq 12, 3) := dk_159 0 12 (dk_at dksX9_fill_2 0 rfl rfl)
theorem dX9_fill_51 : decode cX9_fill 51 = .ok (.aload_n 0, 1) := dk_42 (dk_at dksX9_fill_2 3 rfl rfl)
theorem dX9_fill_52 : decode cX9_fill 52 = .ok (.iload_n 1, 1) := dk_27 (dk_at dksX9_fill_2 4 rfl rfl)
theorem dX9_fill_53 : decode cX9_fill 53 = .ok (.iload_n 2, 1) := dk_28 (dk_at dksX9_fill_2 5 rfl rfl)
theorem dX9_fill_54 : decode cX9_fill 54 = .ok (.invokevirtual 598, 3) := dk_182 2 86 (dk_at dksX9_fill_2 6 rfl rfl)
theorem dX9_fill_57 : decode cX9_fill 57 = .ok (.ifCond .eq 9, 3) := dk_153 0 9 (dk_at dksX9_fill_2 9 rfl rfl)
theorem dX9_fill_60 : decode cX9_fill 60 = .ok (.aload_n 0, 1) := dk_42 (dk_at dksX9_fill_2 12 rfl rfl)
theorem dX9_fill_61 : decode cX9_fill 61 = .ok (.iconst 5, 1) := dk_8 (dk_at dksX9_fill_2 13 rfl rfl)
theorem dX9_fill_62 : decode cX9_fill 62 = .ok (.invokevirtual 619, 3) := dk_182 2 107 (dk_at dksX9_fill_2 14 rfl rfl)
theorem dX9_fill_65 : decode cX9_fill 65 = .ok (.ireturn, 1) := dk_172 (dk_at dksX9_fill_2 17 rfl rfl)
theorem dX9_fill_66 : decode cX9_fill 66 = .ok (.aload_n 0, 1) := dk_42 (dk_at dksX9_fill_2 18 rfl rfl)
theorem dX9_fill_67 : decode cX9_fill 67 = .ok (.invokevirtual 616, 3) := dk_182 2 104 (dk_at dksX9_fill_2 19 rfl rfl)
theorem dX9_fill_70 : decode cX9_fill 70 = .ok (.aload_n 0, 1) := dk_42 (dk_at dksX9_fill_2 22 rfl rfl)
theorem dX9_fill_71 : decode cX9_fill 71 = .ok (.getfield 17, 3) := dk_180 0 17 (dk_at dksX9_fill_3 0 rfl rfl)
theorem dX9_fill_74 : decode cX9_fill 74 = .ok (.iload_n 1, 1) := dk_27 (dk_at dksX9_fill_3 3 rfl rfl)
theorem dX9_fill_75 : decode cX9_fill 75 = .ok (.iload_n 2, 1) := dk_28 (dk_at dksX9_fill_3 4 rfl rfl)
theorem dX9_fill_76 : decode cX9_fill 76 = .ok (.bipush 6, 2) := dk_16 6 (dk_at dksX9_fill_3 5 rfl rfl)
theorem dX9_fill_78 : decode cX9_fill 78 = .ok (.invokestatic 425, 3) := dk_184 1 169 (dk_at dksX9_fill_3 7 rfl rfl)
theorem dX9_fill_81 : decode cX9_fill 81 = .ok (.iconst 1, 1) := dk_4 (dk_at dksX9_fill_3 10 rfl rfl)
theorem dX9_fill_82 : decode cX9_fill 82 = .ok (.iastore, 1) := dk_79 (dk_at dksX9_fill_3 11 rfl rfl)
theorem dX9_fill_83 : decode cX9_fill 83 = .ok (.aload_n 0, 1) := dk_42 (dk_at dksX9_fill_3 12 rfl rfl)
theorem dX9_fill_84 : decode cX9_fill 84 = .ok (.invokevirtual 622, 3) := dk_182 2 110 (dk_at dksX9_fill_3 13 rfl rfl)
theorem dX9_fill_87 : decode cX9_fill 87 = .ok (.ireturn, 1) := dk_172 (dk_at dksX9_fill_3 16 rfl rfl)
abbrev cX9_denied : ByteArray := prog_20_method_4_code
def yX9_denied : MethodName := ⟨RX9, "denied", "(I)Z"⟩
def dkwX9_denied_0 : List UInt8 := [42, 27, 182, 0, 69, 87, 3, 172]
abbrev dktX9_denied_0 : List UInt8 := dkwX9_denied_0 ++ []
theorem dksX9_denied_0 : cX9_denied.data.toList.drop 0 = dktX9_denied_0 := by decide +kernel
theorem dX9_denied_0 : decode cX9_denied 0 = .ok (.aload_n 0, 1) := dk_42 (dk_at dksX9_denied_0 0 rfl rfl)
theorem dX9_denied_1 : decode cX9_denied 1 = .ok (.iload_n 1, 1) := dk_27 (dk_at dksX9_denied_0 1 rfl rfl)
theorem dX9_denied_2 : decode cX9_denied 2 = .ok (.invokevirtual 69, 3) := dk_182 0 69 (dk_at dksX9_denied_0 2 rfl rfl)
theorem dX9_denied_5 : decode cX9_denied 5 = .ok (.pop, 1) := dk_87 (dk_at dksX9_denied_0 5 rfl rfl)
theorem dX9_denied_6 : decode cX9_denied 6 = .ok (.iconst 0, 1) := dk_3 (dk_at dksX9_denied_0 6 rfl rfl)
theorem dX9_denied_7 : decode cX9_denied 7 = .ok (.ireturn, 1) := dk_172 (dk_at dksX9_denied_0 7 rfl rfl)
abbrev cX9_granted : ByteArray := prog_20_method_6_code
def yX9_granted : MethodName := ⟨RX9, "granted", "()Z"⟩
def dkwX9_granted_0 : List UInt8 := [42, 3, 182, 0, 73, 87, 4, 172]
abbrev dktX9_granted_0 : List UInt8 := dkwX9_granted_0 ++ []
theorem dksX9_granted_0 : cX9_granted.data.toList.drop 0 = dktX9_granted_0 := by decide +kernel
theorem dX9_granted_0 : decode cX9_granted 0 = .ok (.aload_n 0, 1) := dk_42 (dk_at dksX9_granted_0 0 rfl rfl)
theorem dX9_granted_1 : decode cX9_granted 1 = .ok (.iconst 0, 1) := dk_3 (dk_at dksX9_granted_0 1 rfl rfl)
theorem dX9_granted_2 : decode cX9_granted 2 = .ok (.invokevirtual 73, 3) := dk_182 0 73 (dk_at dksX9_granted_0 2 rfl rfl)
theorem dX9_granted_5 : decode cX9_granted 5 = .ok (.pop, 1) := dk_87 (dk_at dksX9_granted_0 5 rfl rfl)
theorem dX9_granted_6 : decode cX9_granted 6 = .ok (.iconst 1, 1) := dk_4 (dk_at dksX9_granted_0 6 rfl rfl)
theorem dX9_granted_7 : decode cX9_granted 7 = .ok (.ireturn, 1) := dk_172 (dk_at dksX9_granted_0 7 rfl rfl)
abbrev cX9_take : ByteArray := prog_20_method_132_code
def yX9_take : MethodName := ⟨RX9, "take", "(I)I"⟩
def dkwX9_take_5 : List UInt8 := [172]
abbrev dktX9_take_5 : List UInt8 := dkwX9_take_5 ++ []
def dkwX9_take_4 : List UInt8 := [8, 184, 1, 169, 4, 79, 42, 180, 0, 17, 27, 28, 16, 6, 184, 1, 169, 3, 79, 42, 29, 182, 0, 73]
abbrev dktX9_take_4 : List UInt8 := dkwX9_take_4 ++ dktX9_take_5
def dkwX9_take_3 : List UInt8 := [17, 3, 231, 42, 180, 0, 17, 16, 8, 27, 96, 46, 29, 96, 184, 1, 231, 79, 42, 180, 0, 17, 27, 28]
abbrev dktX9_take_3 : List UInt8 := dkwX9_take_3 ++ dktX9_take_4
def dkwX9_take_2 : List UInt8 := [8, 182, 0, 69, 172, 42, 182, 2, 104, 42, 27, 28, 182, 2, 83, 62, 42, 180, 0, 17, 16, 8, 27, 96]
abbrev dktX9_take_2 : List UInt8 := dkwX9_take_2 ++ dktX9_take_3
def dkwX9_take_1 : List UInt8 := [61, 28, 16, 254, 160, 0, 10, 42, 16, 6, 182, 0, 69, 172, 42, 27, 28, 182, 2, 86, 153, 0, 9, 42]
abbrev dktX9_take_1 : List UInt8 := dkwX9_take_1 ++ dktX9_take_2
def dkwX9_take_0 : List UInt8 := [42, 3, 181, 0, 63, 42, 27, 182, 2, 6, 154, 0, 9, 42, 4, 182, 0, 69, 172, 42, 27, 182, 2, 80]
abbrev dktX9_take_0 : List UInt8 := dkwX9_take_0 ++ dktX9_take_1
theorem dksX9_take_0 : cX9_take.data.toList.drop 0 = dktX9_take_0 := by decide +kernel
theorem dksX9_take_1 : cX9_take.data.toList.drop 24 = dktX9_take_1 := dk_seg dksX9_take_0 24 rfl rfl
theorem dksX9_take_2 : cX9_take.data.toList.drop 48 = dktX9_take_2 := dk_seg dksX9_take_1 24 rfl rfl
theorem dksX9_take_3 : cX9_take.data.toList.drop 72 = dktX9_take_3 := dk_seg dksX9_take_2 24 rfl rfl
theorem dksX9_take_4 : cX9_take.data.toList.drop 96 = dktX9_take_4 := dk_seg dksX9_take_3 24 rfl rfl
theorem dksX9_take_5 : cX9_take.data.toList.drop 120 = dktX9_take_5 := dk_seg dksX9_take_4 24 rfl rfl
theorem dX9_take_0 : decode cX9_take 0 = .ok (.aload_n 0, 1) := dk_42 (dk_at dksX9_take_0 0 rfl rfl)
theorem dX9_take_1 : decode cX9_take 1 = .ok (.iconst 0, 1) := dk_3 (dk_at dksX9_take_0 1 rfl rfl)
theorem dX9_take_2 : decode cX9_take 2 = .ok (.putfield 63, 3) := dk_181 0 63 (dk_at dksX9_take_0 2 rfl rfl)
theorem dX9_take_5 : decode cX9_take 5 = .ok (.aload_n 0, 1) := dk_42 (dk_at dksX9_take_0 5 rfl rfl)
theorem dX9_take_6 : decode cX9_take 6 = .ok (.iload_n 1, 1) := dk_27 (dk_at dksX9_take_0 6 rfl rfl)
theorem dX9_take_7 : decode cX9_take 7 = .ok (.invokevirtual 518, 3) := dk_182 2 6 (dk_at dksX9_take_0 7 rfl rfl)
theorem dX9_take_10 : decode cX9_take 10 = .ok (.ifCond .ne 9, 3) := dk_154 0 9 (dk_at dksX9_take_0 10 rfl rfl)
theorem dX9_take_13 : decode cX9_take 13 = .ok (.aload_n 0, 1) := dk_42 (dk_at dksX9_take_0 13 rfl rfl)
theorem dX9_take_14 : decode cX9_take 14 = .ok (.iconst 1, 1) := dk_4 (dk_at dksX9_take_0 14 rfl rfl)
theorem dX9_take_15 : decode cX9_take 15 = .ok (.invokevirtual 69, 3) := dk_182 0 69 (dk_at dksX9_take_0 15 rfl rfl)
theorem dX9_take_18 : decode cX9_take 18 = .ok (.ireturn, 1) := dk_172 (dk_at dksX9_take_0 18 rfl rfl)
theorem dX9_take_19 : decode cX9_take 19 = .ok (.aload_n 0, 1) := dk_42 (dk_at dksX9_take_0 19 rfl rfl)
theorem dX9_take_20 : decode cX9_take 20 = .ok (.iload_n 1, 1) := dk_27 (dk_at dksX9_take_0 20 rfl rfl)
theorem dX9_take_21 : decode cX9_take 21 = .ok (.invokevirtual 592, 3) := dk_182 2 80 (dk_at dksX9_take_0 21 rfl rfl)
theorem dX9_take_24 : decode cX9_take 24 = .ok (.istore_n 2, 1) := dk_61 (dk_at dksX9_take_1 0 rfl rfl)
theorem dX9_take_25 : decode cX9_take 25 = .ok (.iload_n 2, 1) := dk_28 (dk_at dksX9_take_1 1 rfl rfl)
theorem dX9_take_26 : decode cX9_take 26 = .ok (.bipush (-2), 2) := dk_16 254 (dk_at dksX9_take_1 2 rfl rfl)
theorem dX9_take_28 : decode cX9_take 28 = .ok (.if_icmp .ne 10, 3) := dk_160 0 10 (dk_at dksX9_take_1 4 rfl rfl)
theorem dX9_take_31 : decode cX9_take 31 = .ok (.aload_n 0, 1) := dk_42 (dk_at dksX9_take_1 7 rfl rfl)
theorem dX9_take_32 : decode cX9_take 32 = .ok (.bipush 6, 2) := dk_16 6 (dk_at dksX9_take_1 8 rfl rfl)
theorem dX9_take_34 : decode cX9_take 34 = .ok (.invokevirtual 69, 3) := dk_182 0 69 (dk_at dksX9_take_1 10 rfl rfl)
theorem dX9_take_37 : decode cX9_take 37 = .ok (.ireturn, 1) := dk_172 (dk_at dksX9_take_1 13 rfl rfl)
theorem dX9_take_38 : decode cX9_take 38 = .ok (.aload_n 0, 1) := dk_42 (dk_at dksX9_take_1 14 rfl rfl)
theorem dX9_take_39 : decode cX9_take 39 = .ok (.iload_n 1, 1) := dk_27 (dk_at dksX9_take_1 15 rfl rfl)
theorem dX9_take_40 : decode cX9_take 40 = .ok (.iload_n 2, 1) := dk_28 (dk_at dksX9_take_1 16 rfl rfl)
theorem dX9_take_41 : decode cX9_take 41 = .ok (.invokevirtual 598, 3) := dk_182 2 86 (dk_at dksX9_take_1 17 rfl rfl)
theorem dX9_take_44 : decode cX9_take 44 = .ok (.ifCond .eq 9, 3) := dk_153 0 9 (dk_at dksX9_take_1 20 rfl rfl)
theorem dX9_take_47 : decode cX9_take 47 = .ok (.aload_n 0, 1) := dk_42 (dk_at dksX9_take_1 23 rfl rfl)
theorem dX9_take_48 : decode cX9_take 48 = .ok (.iconst 5, 1) := dk_8 (dk_at dksX9_take_2 0 rfl rfl)
theorem dX9_take_49 : decode cX9_take 49 = .ok (.invokevirtual 69, 3) := dk_182 0 69 (dk_at dksX9_take_2 1 rfl rfl)
theorem dX9_take_52 : decode cX9_take 52 = .ok (.ireturn, 1) := dk_172 (dk_at dksX9_take_2 4 rfl rfl)
theorem dX9_take_53 : decode cX9_take 53 = .ok (.aload_n 0, 1) := dk_42 (dk_at dksX9_take_2 5 rfl rfl)
theorem dX9_take_54 : decode cX9_take 54 = .ok (.invokevirtual 616, 3) := dk_182 2 104 (dk_at dksX9_take_2 6 rfl rfl)
theorem dX9_take_57 : decode cX9_take 57 = .ok (.aload_n 0, 1) := dk_42 (dk_at dksX9_take_2 9 rfl rfl)
theorem dX9_take_58 : decode cX9_take 58 = .ok (.iload_n 1, 1) := dk_27 (dk_at dksX9_take_2 10 rfl rfl)
theorem dX9_take_59 : decode cX9_take 59 = .ok (.iload_n 2, 1) := dk_28 (dk_at dksX9_take_2 11 rfl rfl)
theorem dX9_take_60 : decode cX9_take 60 = .ok (.invokevirtual 595, 3) := dk_182 2 83 (dk_at dksX9_take_2 12 rfl rfl)
theorem dX9_take_63 : decode cX9_take 63 = .ok (.istore_n 3, 1) := dk_62 (dk_at dksX9_take_2 15 rfl rfl)
theorem dX9_take_64 : decode cX9_take 64 = .ok (.aload_n 0, 1) := dk_42 (dk_at dksX9_take_2 16 rfl rfl)
theorem dX9_take_65 : decode cX9_take 65 = .ok (.getfield 17, 3) := dk_180 0 17 (dk_at dksX9_take_2 17 rfl rfl)
theorem dX9_take_68 : decode cX9_take 68 = .ok (.bipush 8, 2) := dk_16 8 (dk_at dksX9_take_2 20 rfl rfl)
theorem dX9_take_70 : decode cX9_take 70 = .ok (.iload_n 1, 1) := dk_27 (dk_at dksX9_take_2 22 rfl rfl)
theorem dX9_take_71 : decode cX9_take 71 = .ok (.iadd, 1) := dk_96 (dk_at dksX9_take_2 23 rfl rfl)
theorem dX9_take_72 : decode cX9_take 72 = .ok (.sipush 999, 3) := dk_17 3 231 (dk_at dksX9_take_3 0 rfl rfl)
theorem dX9_take_75 : decode cX9_take 75 = .ok (.aload_n 0, 1) := dk_42 (dk_at dksX9_take_3 3 rfl rfl)
theorem dX9_take_76 : decode cX9_take 76 = .ok (.getfield 17, 3) := dk_180 0 17 (dk_at dksX9_take_3 4 rfl rfl)
theorem dX9_take_79 : decode cX9_take 79 = .ok (.bipush 8, 2) := dk_16 8 (dk_at dksX9_take_3 7 rfl rfl)
theorem dX9_take_81 : decode cX9_take 81 = .ok (.iload_n 1, 1) := dk_27 (dk_at dksX9_take_3 9 rfl rfl)
theorem dX9_take_82 : decode cX9_take 82 = .ok (.iadd, 1) := dk_96 (dk_at dksX9_take_3 10 rfl rfl)
theorem dX9_take_83 : decode cX9_take 83 = .ok (.iaload, 1) := dk_46 (dk_at dksX9_take_3 11 rfl rfl)
theorem dX9_take_84 : decode cX9_take 84 = .ok (.iload_n 3, 1) := dk_29 (dk_at dksX9_take_3 12 rfl rfl)
theorem dX9_take_85 : decode cX9_take 85 = .ok (.iadd, 1) := dk_96 (dk_at dksX9_take_3 13 rfl rfl)
theorem dX9_take_86 : decode cX9_take 86 = .ok (.invokestatic 487, 3) := dk_184 1 231 (dk_at dksX9_take_3 14 rfl rfl)
theorem dX9_take_89 : decode cX9_take 89 = .ok (.iastore, 1) := dk_79 (dk_at dksX9_take_3 17 rfl rfl)
theorem dX9_take_90 : decode cX9_take 90 = .ok (.aload_n 0, 1) := dk_42 (dk_at dksX9_take_3 18 rfl rfl)
theorem dX9_take_91 : decode cX9_take 91 = .ok (.getfield 17, 3) := dk_180 0 17 (dk_at dksX9_take_3 19 rfl rfl)
theorem dX9_take_94 : decode cX9_take 94 = .ok (.iload_n 1, 1) := dk_27 (dk_at dksX9_take_3 22 rfl rfl)
theorem dX9_take_95 : decode cX9_take 95 = .ok (.iload_n 2, 1) := dk_28 (dk_at dksX9_take_3 23 rfl rfl)
theorem dX9_take_96 : decode cX9_take 96 = .ok (.iconst 5, 1) := dk_8 (dk_at dksX9_take_4 0 rfl rfl)
theorem dX9_take_97 : decode cX9_take 97 = .ok (.invokestatic 425, 3) := dk_184 1 169 (dk_at dksX9_take_4 1 rfl rfl)
theorem dX9_take_100 : decode cX9_take 100 = .ok (.iconst 1, 1) := dk_4 (dk_at dksX9_take_4 4 rfl rfl)
theorem dX9_take_101 : decode cX9_take 101 = .ok (.iastore, 1) := dk_79 (dk_at dksX9_take_4 5 rfl rfl)
theorem dX9_take_102 : decode cX9_take 102 = .ok (.aload_n 0, 1) := dk_42 (dk_at dksX9_take_4 6 rfl rfl)
theorem dX9_take_103 : decode cX9_take 103 = .ok (.getfield 17, 3) := dk_180 0 17 (dk_at dksX9_take_4 7 rfl rfl)
theorem dX9_take_106 : decode cX9_take 106 = .ok (.iload_n 1, 1) := dk_27 (dk_at dksX9_take_4 10 rfl rfl)
theorem dX9_take_107 : decode cX9_take 107 = .ok (.iload_n 2, 1) := dk_28 (dk_at dksX9_take_4 11 rfl rfl)
theorem dX9_take_108 : decode cX9_take 108 = .ok (.bipush 6, 2) := dk_16 6 (dk_at dksX9_take_4 12 rfl rfl)
theorem dX9_take_110 : decode cX9_take 110 = .ok (.invokestatic 425, 3) := dk_184 1 169 (dk_at dksX9_take_4 14 rfl rfl)
theorem dX9_take_113 : decode cX9_take 113 = .ok (.iconst 0, 1) := dk_3 (dk_at dksX9_take_4 17 rfl rfl)
theorem dX9_take_114 : decode cX9_take 114 = .ok (.iastore, 1) := dk_79 (dk_at dksX9_take_4 18 rfl rfl)
theorem dX9_take_115 : decode cX9_take 115 = .ok (.aload_n 0, 1) := dk_42 (dk_at dksX9_take_4 19 rfl rfl)
theorem dX9_take_116 : decode cX9_take 116 = .ok (.iload_n 3, 1) := dk_29 (dk_at dksX9_take_4 20 rfl rfl)
theorem dX9_take_117 : decode cX9_take 117 = .ok (.invokevirtual 73, 3) := dk_182 0 73 (dk_at dksX9_take_4 21 rfl rfl)
theorem dX9_take_120 : decode cX9_take 120 = .ok (.ireturn, 1) := dk_172 (dk_at dksX9_take_5 0 rfl rfl)
abbrev cX9_lock : ByteArray := prog_20_method_133_code
def yX9_lock : MethodName := ⟨RX9, "lock", "(III)Z"⟩
def dkwX9_lock_3 : List UInt8 := [79, 42, 182, 2, 110, 172]
abbrev dktX9_lock_3 : List UInt8 := dkwX9_lock_3 ++ []
def dkwX9_lock_2 : List UInt8 := [160, 0, 9, 42, 8, 182, 2, 107, 172, 42, 182, 2, 104, 42, 180, 0, 17, 27, 28, 6, 184, 1, 169, 29]
abbrev dktX9_lock_2 : List UInt8 := dkwX9_lock_2 ++ dktX9_lock_3
def dkwX9_lock_1 : List UInt8 := [184, 0, 141, 154, 0, 9, 42, 5, 182, 2, 107, 172, 42, 180, 0, 17, 27, 28, 6, 184, 1, 169, 46, 29]
abbrev dktX9_lock_1 : List UInt8 := dkwX9_lock_1 ++ dktX9_lock_2
def dkwX9_lock_0 : List UInt8 := [42, 3, 181, 0, 63, 42, 27, 28, 182, 2, 25, 154, 0, 9, 42, 4, 182, 2, 107, 172, 29, 3, 16, 99]
abbrev dktX9_lock_0 : List UInt8 := dkwX9_lock_0 ++ dktX9_lock_1
theorem dksX9_lock_0 : cX9_lock.data.toList.drop 0 = dktX9_lock_0 := by decide +kernel
theorem dksX9_lock_1 : cX9_lock.data.toList.drop 24 = dktX9_lock_1 := dk_seg dksX9_lock_0 24 rfl rfl
theorem dksX9_lock_2 : cX9_lock.data.toList.drop 48 = dktX9_lock_2 := dk_seg dksX9_lock_1 24 rfl rfl
theorem dksX9_lock_3 : cX9_lock.data.toList.drop 72 = dktX9_lock_3 := dk_seg dksX9_lock_2 24 rfl rfl
theorem dX9_lock_0 : decode cX9_lock 0 = .ok (.aload_n 0, 1) := dk_42 (dk_at dksX9_lock_0 0 rfl rfl)
theorem dX9_lock_1 : decode cX9_lock 1 = .ok (.iconst 0, 1) := dk_3 (dk_at dksX9_lock_0 1 rfl rfl)
theorem dX9_lock_2 : decode cX9_lock 2 = .ok (.putfield 63, 3) := dk_181 0 63 (dk_at dksX9_lock_0 2 rfl rfl)
theorem dX9_lock_5 : decode cX9_lock 5 = .ok (.aload_n 0, 1) := dk_42 (dk_at dksX9_lock_0 5 rfl rfl)
theorem dX9_lock_6 : decode cX9_lock 6 = .ok (.iload_n 1, 1) := dk_27 (dk_at dksX9_lock_0 6 rfl rfl)
theorem dX9_lock_7 : decode cX9_lock 7 = .ok (.iload_n 2, 1) := dk_28 (dk_at dksX9_lock_0 7 rfl rfl)
theorem dX9_lock_8 : decode cX9_lock 8 = .ok (.invokevirtual 537, 3) := dk_182 2 25 (dk_at dksX9_lock_0 8 rfl rfl)
theorem dX9_lock_11 : decode cX9_lock 11 = .ok (.ifCond .ne 9, 3) := dk_154 0 9 (dk_at dksX9_lock_0 11 rfl rfl)
theorem dX9_lock_14 : decode cX9_lock 14 = .ok (.aload_n 0, 1) := dk_42 (dk_at dksX9_lock_0 14 rfl rfl)
theorem dX9_lock_15 : decode cX9_lock 15 = .ok (.iconst 1, 1) := dk_4 (dk_at dksX9_lock_0 15 rfl rfl)
theorem dX9_lock_16 : decode cX9_lock 16 = .ok (.invokevirtual 619, 3) := dk_182 2 107 (dk_at dksX9_lock_0 16 rfl rfl)
theorem dX9_lock_19 : decode cX9_lock 19 = .ok (.ireturn, 1) := dk_172 (dk_at dksX9_lock_0 19 rfl rfl)
theorem dX9_lock_20 : decode cX9_lock 20 = .ok (.iload_n 3, 1) := dk_29 (dk_at dksX9_lock_0 20 rfl rfl)
theorem dX9_lock_21 : decode cX9_lock 21 = .ok (.iconst 0, 1) := dk_3 (dk_at dksX9_lock_0 21 rfl rfl)
theorem dX9_lock_22 : decode cX9_lock 22 = .ok (.bipush 99, 2) := dk_16 99 (dk_at dksX9_lock_0 22 rfl rfl)
theorem dX9_lock_24 : decode cX9_lock 24 = .ok (.invokestatic 141, 3) := dk_184 0 141 (dk_at dksX9_lock_1 0 rfl rfl)
theorem dX9_lock_27 : decode cX9_lock 27 = .ok (.ifCond .ne 9, 3) := dk_154 0 9 (dk_at dksX9_lock_1 3 rfl rfl)
theorem dX9_lock_30 : decode cX9_lock 30 = .ok (.aload_n 0, 1) := dk_42 (dk_at dksX9_lock_1 6 rfl rfl)
theorem dX9_lock_31 : decode cX9_lock 31 = .ok (.iconst 2, 1) := dk_5 (dk_at dksX9_lock_1 7 rfl rfl)
theorem dX9_lock_32 : decode cX9_lock 32 = .ok (.invokevirtual 619, 3) := dk_182 2 107 (dk_at dksX9_lock_1 8 rfl rfl)
theorem dX9_lock_35 : decode cX9_lock 35 = .ok (.ireturn, 1) := dk_172 (dk_at dksX9_lock_1 11 rfl rfl)
theorem dX9_lock_36 : decode cX9_lock 36 = .ok (.aload_n 0, 1) := dk_42 (dk_at dksX9_lock_1 12 rfl rfl)
theorem dX9_lock_37 : decode cX9_lock 37 = .ok (.getfield 17, 3) := dk_180 0 17 (dk_at dksX9_lock_1 13 rfl rfl)
theorem dX9_lock_40 : decode cX9_lock 40 = .ok (.iload_n 1, 1) := dk_27 (dk_at dksX9_lock_1 16 rfl rfl)
theorem dX9_lock_41 : decode cX9_lock 41 = .ok (.iload_n 2, 1) := dk_28 (dk_at dksX9_lock_1 17 rfl rfl)
theorem dX9_lock_42 : decode cX9_lock 42 = .ok (.iconst 3, 1) := dk_6 (dk_at dksX9_lock_1 18 rfl rfl)
theorem dX9_lock_43 : decode cX9_lock 43 = .ok (.invokestatic 425, 3) := dk_184 1 169 (dk_at dksX9_lock_1 19 rfl rfl)
theorem dX9_lock_46 : decode cX9_lock 46 = .ok (.iaload, 1) := dk_46 (dk_at dksX9_lock_1 22 rfl rfl)
theorem dX9_lock_47 : decode cX9_lock 47 = .ok (.iload_n 3, 1) := dk_29 (dk_at dksX9_lock_1 23 rfl rfl)
theorem dX9_lock_48 : decode cX9_lock 48 = .ok (.if_icmp .ne 9, 3) := dk_160 0 9 (dk_at dksX9_lock_2 0 rfl rfl)
theorem dX9_lock_51 : decode cX9_lock 51 = .ok (.aload_n 0, 1) := dk_42 (dk_at dksX9_lock_2 3 rfl rfl)
theorem dX9_lock_52 : decode cX9_lock 52 = .ok (.iconst 5, 1) := dk_8 (dk_at dksX9_lock_2 4 rfl rfl)
theorem dX9_lock_53 : decode cX9_lock 53 = .ok (.invokevirtual 619, 3) := dk_182 2 107 (dk_at dksX9_lock_2 5 rfl rfl)
theorem dX9_lock_56 : decode cX9_lock 56 = .ok (.ireturn, 1) := dk_172 (dk_at dksX9_lock_2 8 rfl rfl)
theorem dX9_lock_57 : decode cX9_lock 57 = .ok (.aload_n 0, 1) := dk_42 (dk_at dksX9_lock_2 9 rfl rfl)
theorem dX9_lock_58 : decode cX9_lock 58 = .ok (.invokevirtual 616, 3) := dk_182 2 104 (dk_at dksX9_lock_2 10 rfl rfl)
theorem dX9_lock_61 : decode cX9_lock 61 = .ok (.aload_n 0, 1) := dk_42 (dk_at dksX9_lock_2 13 rfl rfl)
theorem dX9_lock_62 : decode cX9_lock 62 = .ok (.getfield 17, 3) := dk_180 0 17 (dk_at dksX9_lock_2 14 rfl rfl)
theorem dX9_lock_65 : decode cX9_lock 65 = .ok (.iload_n 1, 1) := dk_27 (dk_at dksX9_lock_2 17 rfl rfl)
theorem dX9_lock_66 : decode cX9_lock 66 = .ok (.iload_n 2, 1) := dk_28 (dk_at dksX9_lock_2 18 rfl rfl)
theorem dX9_lock_67 : decode cX9_lock 67 = .ok (.iconst 3, 1) := dk_6 (dk_at dksX9_lock_2 19 rfl rfl)
theorem dX9_lock_68 : decode cX9_lock 68 = .ok (.invokestatic 425, 3) := dk_184 1 169 (dk_at dksX9_lock_2 20 rfl rfl)
theorem dX9_lock_71 : decode cX9_lock 71 = .ok (.iload_n 3, 1) := dk_29 (dk_at dksX9_lock_2 23 rfl rfl)
theorem dX9_lock_72 : decode cX9_lock 72 = .ok (.iastore, 1) := dk_79 (dk_at dksX9_lock_3 0 rfl rfl)
theorem dX9_lock_73 : decode cX9_lock 73 = .ok (.aload_n 0, 1) := dk_42 (dk_at dksX9_lock_3 1 rfl rfl)
theorem dX9_lock_74 : decode cX9_lock 74 = .ok (.invokevirtual 622, 3) := dk_182 2 110 (dk_at dksX9_lock_3 2 rfl rfl)
theorem dX9_lock_77 : decode cX9_lock 77 = .ok (.ireturn, 1) := dk_172 (dk_at dksX9_lock_3 5 rfl rfl)
abbrev cX9_move : ByteArray := prog_20_method_134_code
def yX9_move : MethodName := ⟨RX9, "move", "(II)Z"⟩
def dkwX9_move_5 : List UInt8 := [182, 2, 110, 172]
abbrev dktX9_move_5 : List UInt8 := dkwX9_move_5 ++ []
def dkwX9_move_4 : List UInt8 := [42, 8, 182, 2, 107, 172, 42, 182, 2, 104, 42, 180, 0, 17, 17, 0, 204, 27, 96, 28, 79, 42]
abbrev dktX9_move_4 : List UInt8 := dkwX9_move_4 ++ dktX9_move_5
def dkwX9_move_3 : List UInt8 := [184, 1, 169, 46, 4, 159, 0, 19, 42, 180, 0, 17, 29, 28, 16, 6, 184, 1, 169, 46, 4, 160, 0, 9]
abbrev dktX9_move_3 : List UInt8 := dkwX9_move_3 ++ dktX9_move_4
def dkwX9_move_2 : List UInt8 := [180, 0, 17, 17, 0, 204, 27, 96, 46, 28, 159, 0, 38, 28, 158, 0, 40, 42, 180, 0, 17, 29, 28, 8]
abbrev dktX9_move_2 : List UInt8 := dkwX9_move_2 ++ dktX9_move_3
def dkwX9_move_1 : List UInt8 := [182, 2, 28, 154, 0, 9, 42, 4, 182, 2, 107, 172, 42, 180, 1, 161, 180, 1, 135, 27, 46, 62, 42]
abbrev dktX9_move_1 : List UInt8 := dkwX9_move_1 ++ dktX9_move_2
def dkwX9_move_0 : List UInt8 := [42, 3, 181, 0, 63, 42, 27, 182, 2, 34, 153, 0, 20, 42, 42, 180, 1, 161, 180, 1, 135, 27, 46, 28]
abbrev dktX9_move_0 : List UInt8 := dkwX9_move_0 ++ dktX9_move_1
theorem dksX9_move_0 : cX9_move.data.toList.drop 0 = dktX9_move_0 := by decide +kernel
theorem dksX9_move_1 : cX9_move.data.toList.drop 24 = dktX9_move_1 := dk_seg dksX9_move_0 24 rfl rfl
theorem dksX9_move_2 : cX9_move.data.toList.drop 47 = dktX9_move_2 := dk_seg dksX9_move_1 23 rfl rfl
theorem dksX9_move_3 : cX9_move.data.toList.drop 71 = dktX9_move_3 := dk_seg dksX9_move_2 24 rfl rfl
theorem dksX9_move_4 : cX9_move.data.toList.drop 95 = dktX9_move_4 := dk_seg dksX9_move_3 24 rfl rfl
theorem dksX9_move_5 : cX9_move.data.toList.drop 117 = dktX9_move_5 := dk_seg dksX9_move_4 22 rfl rfl
theorem dX9_move_0 : decode cX9_move 0 = .ok (.aload_n 0, 1) := dk_42 (dk_at dksX9_move_0 0 rfl rfl)
theorem dX9_move_1 : decode cX9_move 1 = .ok (.iconst 0, 1) := dk_3 (dk_at dksX9_move_0 1 rfl rfl)
theorem dX9_move_2 : decode cX9_move 2 = .ok (.putfield 63, 3) := dk_181 0 63 (dk_at dksX9_move_0 2 rfl rfl)
theorem dX9_move_5 : decode cX9_move 5 = .ok (.aload_n 0, 1) := dk_42 (dk_at dksX9_move_0 5 rfl rfl)
theorem dX9_move_6 : decode cX9_move 6 = .ok (.iload_n 1, 1) := dk_27 (dk_at dksX9_move_0 6 rfl rfl)
theorem dX9_move_7 : decode cX9_move 7 = .ok (.invokevirtual 546, 3) := dk_182 2 34 (dk_at dksX9_move_0 7 rfl rfl)
theorem dX9_move_10 : decode cX9_move 10 = .ok (.ifCond .eq 20, 3) := dk_153 0 20 (dk_at dksX9_move_0 10 rfl rfl)
theorem dX9_move_13 : decode cX9_move 13 = .ok (.aload_n 0, 1) := dk_42 (dk_at dksX9_move_0 13 rfl rfl)
theorem dX9_move_14 : decode cX9_move 14 = .ok (.aload_n 0, 1) := dk_42 (dk_at dksX9_move_0 14 rfl rfl)
theorem dX9_move_15 : decode cX9_move 15 = .ok (.getfield 417, 3) := dk_180 1 161 (dk_at dksX9_move_0 15 rfl rfl)
theorem dX9_move_18 : decode cX9_move 18 = .ok (.getfield 391, 3) := dk_180 1 135 (dk_at dksX9_move_0 18 rfl rfl)
theorem dX9_move_21 : decode cX9_move 21 = .ok (.iload_n 1, 1) := dk_27 (dk_at dksX9_move_0 21 rfl rfl)
theorem dX9_move_22 : decode cX9_move 22 = .ok (.iaload, 1) := dk_46 (dk_at dksX9_move_0 22 rfl rfl)
theorem dX9_move_23 : decode cX9_move 23 = .ok (.iload_n 2, 1) := dk_28 (dk_at dksX9_move_0 23 rfl rfl)
theorem dX9_move_24 : decode cX9_move 24 = .ok (.invokevirtual 540, 3) := dk_182 2 28 (dk_at dksX9_move_1 0 rfl rfl)
theorem dX9_move_27 : decode cX9_move 27 = .ok (.ifCond .ne 9, 3) := dk_154 0 9 (dk_at dksX9_move_1 3 rfl rfl)
theorem dX9_move_30 : decode cX9_move 30 = .ok (.aload_n 0, 1) := dk_42 (dk_at dksX9_move_1 6 rfl rfl)
theorem dX9_move_31 : decode cX9_move 31 = .ok (.iconst 1, 1) := dk_4 (dk_at dksX9_move_1 7 rfl rfl)
theorem dX9_move_32 : decode cX9_move 32 = .ok (.invokevirtual 619, 3) := dk_182 2 107 (dk_at dksX9_move_1 8 rfl rfl)
theorem dX9_move_35 : decode cX9_move 35 = .ok (.ireturn, 1) := dk_172 (dk_at dksX9_move_1 11 rfl rfl)
theorem dX9_move_36 : decode cX9_move 36 = .ok (.aload_n 0, 1) := dk_42 (dk_at dksX9_move_1 12 rfl rfl)
theorem dX9_move_37 : decode cX9_move 37 = .ok (.getfield 417, 3) := dk_180 1 161 (dk_at dksX9_move_1 13 rfl rfl)
theorem dX9_move_40 : decode cX9_move 40 = .ok (.getfield 391, 3) := dk_180 1 135 (dk_at dksX9_move_1 16 rfl rfl)
theorem dX9_move_43 : decode cX9_move 43 = .ok (.iload_n 1, 1) := dk_27 (dk_at dksX9_move_1 19 rfl rfl)
theorem dX9_move_44 : decode cX9_move 44 = .ok (.iaload, 1) := dk_46 (dk_at dksX9_move_1 20 rfl rfl)
theorem dX9_move_45 : decode cX9_move 45 = .ok (.istore_n 3, 1) := dk_62 (dk_at dksX9_move_1 21 rfl rfl)
theorem dX9_move_46 : decode cX9_move 46 = .ok (.aload_n 0, 1) := dk_42 (dk_at dksX9_move_1 22 rfl rfl)
theorem dX9_move_47 : decode cX9_move 47 = .ok (.getfield 17, 3) := dk_180 0 17 (dk_at dksX9_move_2 0 rfl rfl)
theorem dX9_move_50 : decode cX9_move 50 = .ok (.sipush 204, 3) := dk_17 0 204 (dk_at dksX9_move_2 3 rfl rfl)
theorem dX9_move_53 : decode cX9_move 53 = .ok (.iload_n 1, 1) := dk_27 (dk_at dksX9_move_2 6 rfl rfl)
theorem dX9_move_54 : decode cX9_move 54 = .ok (.iadd, 1) := dk_96 (dk_at dksX9_move_2 7 rfl rfl)
theorem dX9_move_55 : decode cX9_move 55 = .ok (.iaload, 1) := dk_46 (dk_at dksX9_move_2 8 rfl rfl)
theorem dX9_move_56 : decode cX9_move 56 = .ok (.iload_n 2, 1) := dk_28 (dk_at dksX9_move_2 9 rfl rfl)
theorem dX9_move_57 : decode cX9_move 57 = .ok (.if_icmp .eq 38, 3) := dk_159 0 38 (dk_at dksX9_move_2 10 rfl rfl)
theorem dX9_move_60 : decode cX9_move 60 = .ok (.iload_n 2, 1) := dk_28 (dk_at dksX9_move_2 13 rfl rfl)
theorem dX9_move_61 : decode cX9_move 61 = .ok (.ifCond .le 40, 3) := dk_158 0 40 (dk_at dksX9_move_2 14 rfl rfl)
theorem dX9_move_64 : decode cX9_move 64 = .ok (.aload_n 0, 1) := dk_42 (dk_at dksX9_move_2 17 rfl rfl)
theorem dX9_move_65 : decode cX9_move 65 = .ok (.getfield 17, 3) := dk_180 0 17 (dk_at dksX9_move_2 18 rfl rfl)
theorem dX9_move_68 : decode cX9_move 68 = .ok (.iload_n 3, 1) := dk_29 (dk_at dksX9_move_2 21 rfl rfl)
theorem dX9_move_69 : decode cX9_move 69 = .ok (.iload_n 2, 1) := dk_28 (dk_at dksX9_move_2 22 rfl rfl)
theorem dX9_move_70 : decode cX9_move 70 = .ok (.iconst 5, 1) := dk_8 (dk_at dksX9_move_2 23 rfl rfl)
theorem dX9_move_71 : decode cX9_move 71 = .ok (.invokestatic 425, 3) := dk_184 1 169 (dk_at dksX9_move_3 0 rfl rfl)
theorem dX9_move_74 : decode cX9_move 74 = .ok (.iaload, 1) := dk_46 (dk_at dksX9_move_3 3 rfl rfl)
theorem dX9_move_75 : decode cX9_move 75 = .ok (.iconst 1, 1) := dk_4 (dk_at dksX9_move_3 4 rfl rfl)
theorem dX9_move_76 : decode cX9_move 76 = .ok (.if_icmp .eq 19, 3) := dk_159 0 19 (dk_at dksX9_move_3 5 rfl rfl)
theorem dX9_move_79 : decode cX9_move 79 = .ok (.aload_n 0, 1) := dk_42 (dk_at dksX9_move_3 8 rfl rfl)
theorem dX9_move_80 : decode cX9_move 80 = .ok (.getfield 17, 3) := dk_180 0 17 (dk_at dksX9_move_3 9 rfl rfl)
theorem dX9_move_83 : decode cX9_move 83 = .ok (.iload_n 3, 1) := dk_29 (dk_at dksX9_move_3 12 rfl rfl)
theorem dX9_move_84 : decode cX9_move 84 = .ok (.iload_n 2, 1) := dk_28 (dk_at dksX9_move_3 13 rfl rfl)
theorem dX9_move_85 : decode cX9_move 85 = .ok (.bipush 6, 2) := dk_16 6 (dk_at dksX9_move_3 14 rfl rfl)
theorem dX9_move_87 : decode cX9_move 87 = .ok (.invokestatic 425, 3) := dk_184 1 169 (dk_at dksX9_move_3 16 rfl rfl)
theorem dX9_move_90 : decode cX9_move 90 = .ok (.iaload, 1) := dk_46 (dk_at dksX9_move_3 19 rfl rfl)
theorem dX9_move_91 : decode cX9_move 91 = .ok (.iconst 1, 1) := dk_4 (dk_at dksX9_move_3 20 rfl rfl)
theorem dX9_move_92 : decode cX9_move 92 = .ok (.if_icmp .ne 9, 3) := dk_160 0 9 (dk_at dksX9_move_3 21 rfl rfl)
theorem dX9_move_95 : decode cX9_move 95 = .ok (.aload_n 0, 1) := dk_42 (dk_at dksX9_move_4 0 rfl rfl)
theorem dX9_move_96 : decode cX9_move 96 = .ok (.iconst 5, 1) := dk_8 (dk_at dksX9_move_4 1 rfl rfl)
theorem dX9_move_97 : decode cX9_move 97 = .ok (.invokevirtual 619, 3) := dk_182 2 107 (dk_at dksX9_move_4 2 rfl rfl)
theorem dX9_move_100 : decode cX9_move 100 = .ok (.ireturn, 1) := dk_172 (dk_at dksX9_move_4 5 rfl rfl)
theorem dX9_move_101 : decode cX9_move 101 = .ok (.aload_n 0, 1) := dk_42 (dk_at dksX9_move_4 6 rfl rfl)
theorem dX9_move_102 : decode cX9_move 102 = .ok (.invokevirtual 616, 3) := dk_182 2 104 (dk_at dksX9_move_4 7 rfl rfl)
theorem dX9_move_105 : decode cX9_move 105 = .ok (.aload_n 0, 1) := dk_42 (dk_at dksX9_move_4 10 rfl rfl)
theorem dX9_move_106 : decode cX9_move 106 = .ok (.getfield 17, 3) := dk_180 0 17 (dk_at dksX9_move_4 11 rfl rfl)
theorem dX9_move_109 : decode cX9_move 109 = .ok (.sipush 204, 3) := dk_17 0 204 (dk_at dksX9_move_4 14 rfl rfl)
theorem dX9_move_112 : decode cX9_move 112 = .ok (.iload_n 1, 1) := dk_27 (dk_at dksX9_move_4 17 rfl rfl)
theorem dX9_move_113 : decode cX9_move 113 = .ok (.iadd, 1) := dk_96 (dk_at dksX9_move_4 18 rfl rfl)
theorem dX9_move_114 : decode cX9_move 114 = .ok (.iload_n 2, 1) := dk_28 (dk_at dksX9_move_4 19 rfl rfl)
theorem dX9_move_115 : decode cX9_move 115 = .ok (.iastore, 1) := dk_79 (dk_at dksX9_move_4 20 rfl rfl)
theorem dX9_move_116 : decode cX9_move 116 = .ok (.aload_n 0, 1) := dk_42 (dk_at dksX9_move_4 21 rfl rfl)
theorem dX9_move_117 : decode cX9_move 117 = .ok (.invokevirtual 622, 3) := dk_182 2 110 (dk_at dksX9_move_5 0 rfl rfl)
theorem dX9_move_120 : decode cX9_move 120 = .ok (.ireturn, 1) := dk_172 (dk_at dksX9_move_5 3 rfl rfl)
abbrev cX9_give : ByteArray := prog_20_method_135_code
def yX9_give : MethodName := ⟨RX9, "give", "(III)Z"⟩
def dkwX9_give_4 : List UInt8 := [180, 0, 17, 16, 8, 28, 96, 92, 46, 29, 96, 79, 42, 182, 2, 110, 172]
abbrev dktX9_give_4 : List UInt8 := dkwX9_give_4 ++ []
def dkwX9_give_3 : List UInt8 := [182, 2, 107, 172, 42, 182, 2, 104, 42, 180, 0, 17, 16, 8, 27, 96, 92, 46, 29, 100, 79, 42]
abbrev dktX9_give_3 : List UInt8 := dkwX9_give_3 ++ dktX9_give_4
def dkwX9_give_2 : List UInt8 := [153, 0, 20, 42, 180, 0, 17, 16, 8, 28, 96, 46, 29, 96, 17, 3, 231, 164, 0, 9, 42, 5]
abbrev dktX9_give_2 : List UInt8 := dkwX9_give_2 ++ dktX9_give_3
def dkwX9_give_1 : List UInt8 := [160, 0, 9, 42, 4, 182, 2, 107, 172, 29, 4, 42, 180, 0, 17, 16, 8, 27, 96, 46, 184, 0, 141]
abbrev dktX9_give_1 : List UInt8 := dkwX9_give_1 ++ dktX9_give_2
def dkwX9_give_0 : List UInt8 := [42, 3, 181, 0, 63, 42, 27, 182, 2, 6, 153, 0, 16, 42, 28, 182, 2, 6, 153, 0, 8, 27, 28]
abbrev dktX9_give_0 : List UInt8 := dkwX9_give_0 ++ dktX9_give_1
theorem dksX9_give_0 : cX9_give.data.toList.drop 0 = dktX9_give_0 := by decide +kernel
theorem dksX9_give_1 : cX9_give.data.toList.drop 23 = dktX9_give_1 := dk_seg dksX9_give_0 23 rfl rfl
theorem dksX9_give_2 : cX9_give.data.toList.drop 46 = dktX9_give_2 := dk_seg dksX9_give_1 23 rfl rfl
theorem dksX9_give_3 : cX9_give.data.toList.drop 68 = dktX9_give_3 := dk_seg dksX9_give_2 22 rfl rfl
theorem dksX9_give_4 : cX9_give.data.toList.drop 90 = dktX9_give_4 := dk_seg dksX9_give_3 22 rfl rfl
theorem dX9_give_0 : decode cX9_give 0 = .ok (.aload_n 0, 1) := dk_42 (dk_at dksX9_give_0 0 rfl rfl)
theorem dX9_give_1 : decode cX9_give 1 = .ok (.iconst 0, 1) := dk_3 (dk_at dksX9_give_0 1 rfl rfl)
theorem dX9_give_2 : decode cX9_give 2 = .ok (.putfield 63, 3) := dk_181 0 63 (dk_at dksX9_give_0 2 rfl rfl)
theorem dX9_give_5 : decode cX9_give 5 = .ok (.aload_n 0, 1) := dk_42 (dk_at dksX9_give_0 5 rfl rfl)
theorem dX9_give_6 : decode cX9_give 6 = .ok (.iload_n 1, 1) := dk_27 (dk_at dksX9_give_0 6 rfl rfl)
theorem dX9_give_7 : decode cX9_give 7 = .ok (.invokevirtual 518, 3) := dk_182 2 6 (dk_at dksX9_give_0 7 rfl rfl)
theorem dX9_give_10 : decode cX9_give 10 = .ok (.ifCond .eq 16, 3) := dk_153 0 16 (dk_at dksX9_give_0 10 rfl rfl)
theorem dX9_give_13 : decode cX9_give 13 = .ok (.aload_n 0, 1) := dk_42 (dk_at dksX9_give_0 13 rfl rfl)
theorem dX9_give_14 : decode cX9_give 14 = .ok (.iload_n 2, 1) := dk_28 (dk_at dksX9_give_0 14 rfl rfl)
theorem dX9_give_15 : decode cX9_give 15 = .ok (.invokevirtual 518, 3) := dk_182 2 6 (dk_at dksX9_give_0 15 rfl rfl)
theorem dX9_give_18 : decode cX9_give 18 = .ok (.ifCond .eq 8, 3) := dk_153 0 8 (dk_at dksX9_give_0 18 rfl rfl)
theorem dX9_give_21 : decode cX9_give 21 = .ok (.iload_n 1, 1) := dk_27 (dk_at dksX9_give_0 21 rfl rfl)
theorem dX9_give_22 : decode cX9_give 22 = .ok (.iload_n 2, 1) := dk_28 (dk_at dksX9_give_0 22 rfl rfl)
theorem dX9_give_23 : decode cX9_give 23 = .ok (.if_icmp .ne 9, 3) := dk_160 0 9 (dk_at dksX9_give_1 0 rfl rfl)
theorem dX9_give_26 : decode cX9_give 26 = .ok (.aload_n 0, 1) := dk_42 (dk_at dksX9_give_1 3 rfl rfl)
theorem dX9_give_27 : decode cX9_give 27 = .ok (.iconst 1, 1) := dk_4 (dk_at dksX9_give_1 4 rfl rfl)
theorem dX9_give_28 : decode cX9_give 28 = .ok (.invokevirtual 619, 3) := dk_182 2 107 (dk_at dksX9_give_1 5 rfl rfl)
theorem dX9_give_31 : decode cX9_give 31 = .ok (.ireturn, 1) := dk_172 (dk_at dksX9_give_1 8 rfl rfl)
theorem dX9_give_32 : decode cX9_give 32 = .ok (.iload_n 3, 1) := dk_29 (dk_at dksX9_give_1 9 rfl rfl)
theorem dX9_give_33 : decode cX9_give 33 = .ok (.iconst 1, 1) := dk_4 (dk_at dksX9_give_1 10 rfl rfl)
theorem dX9_give_34 : decode cX9_give 34 = .ok (.aload_n 0, 1) := dk_42 (dk_at dksX9_give_1 11 rfl rfl)
theorem dX9_give_35 : decode cX9_give 35 = .ok (.getfield 17, 3) := dk_180 0 17 (dk_at dksX9_give_1 12 rfl rfl)
theorem dX9_give_38 : decode cX9_give 38 = .ok (.bipush 8, 2) := dk_16 8 (dk_at dksX9_give_1 15 rfl rfl)
theorem dX9_give_40 : decode cX9_give 40 = .ok (.iload_n 1, 1) := dk_27 (dk_at dksX9_give_1 17 rfl rfl)
theorem dX9_give_41 : decode cX9_give 41 = .ok (.iadd, 1) := dk_96 (dk_at dksX9_give_1 18 rfl rfl)
theorem dX9_give_42 : decode cX9_give 42 = .ok (.iaload, 1) := dk_46 (dk_at dksX9_give_1 19 rfl rfl)
theorem dX9_give_43 : decode cX9_give 43 = .ok (.invokestatic 141, 3) := dk_184 0 141 (dk_at dksX9_give_1 20 rfl rfl)
theorem dX9_give_46 : decode cX9_give 46 = .ok (.ifCond .eq 20, 3) := dk_153 0 20 (dk_at dksX9_give_2 0 rfl rfl)
theorem dX9_give_49 : decode cX9_give 49 = .ok (.aload_n 0, 1) := dk_42 (dk_at dksX9_give_2 3 rfl rfl)
theorem dX9_give_50 : decode cX9_give 50 = .ok (.getfield 17, 3) := dk_180 0 17 (dk_at dksX9_give_2 4 rfl rfl)
theorem dX9_give_53 : decode cX9_give 53 = .ok (.bipush 8, 2) := dk_16 8 (dk_at dksX9_give_2 7 rfl rfl)
theorem dX9_give_55 : decode cX9_give 55 = .ok (.iload_n 2, 1) := dk_28 (dk_at dksX9_give_2 9 rfl rfl)
theorem dX9_give_56 : decode cX9_give 56 = .ok (.iadd, 1) := dk_96 (dk_at dksX9_give_2 10 rfl rfl)
theorem dX9_give_57 : decode cX9_give 57 = .ok (.iaload, 1) := dk_46 (dk_at dksX9_give_2 11 rfl rfl)
theorem dX9_give_58 : decode cX9_give 58 = .ok (.iload_n 3, 1) := dk_29 (dk_at dksX9_give_2 12 rfl rfl)
theorem dX9_give_59 : decode cX9_give 59 = .ok (.iadd, 1) := dk_96 (dk_at dksX9_give_2 13 rfl rfl)
theorem dX9_give_60 : decode cX9_give 60 = .ok (.sipush 999, 3) := dk_17 3 231 (dk_at dksX9_give_2 14 rfl rfl)
theorem dX9_give_63 : decode cX9_give 63 = .ok (.if_icmp .le 9, 3) := dk_164 0 9 (dk_at dksX9_give_2 17 rfl rfl)
theorem dX9_give_66 : decode cX9_give 66 = .ok (.aload_n 0, 1) := dk_42 (dk_at dksX9_give_2 20 rfl rfl)
theorem dX9_give_67 : decode cX9_give 67 = .ok (.iconst 2, 1) := dk_5 (dk_at dksX9_give_2 21 rfl rfl)
theorem dX9_give_68 : decode cX9_give 68 = .ok (.invokevirtual 619, 3) := dk_182 2 107 (dk_at dksX9_give_3 0 rfl rfl)
theorem dX9_give_71 : decode cX9_give 71 = .ok (.ireturn, 1) := dk_172 (dk_at dksX9_give_3 3 rfl rfl)
theorem dX9_give_72 : decode cX9_give 72 = .ok (.aload_n 0, 1) := dk_42 (dk_at dksX9_give_3 4 rfl rfl)
theorem dX9_give_73 : decode cX9_give 73 = .ok (.invokevirtual 616, 3) := dk_182 2 104 (dk_at dksX9_give_3 5 rfl rfl)
theorem dX9_give_76 : decode cX9_give 76 = .ok (.aload_n 0, 1) := dk_42 (dk_at dksX9_give_3 8 rfl rfl)
theorem dX9_give_77 : decode cX9_give 77 = .ok (.getfield 17, 3) := dk_180 0 17 (dk_at dksX9_give_3 9 rfl rfl)
theorem dX9_give_80 : decode cX9_give 80 = .ok (.bipush 8, 2) := dk_16 8 (dk_at dksX9_give_3 12 rfl rfl)
theorem dX9_give_82 : decode cX9_give 82 = .ok (.iload_n 1, 1) := dk_27 (dk_at dksX9_give_3 14 rfl rfl)
theorem dX9_give_83 : decode cX9_give 83 = .ok (.iadd, 1) := dk_96 (dk_at dksX9_give_3 15 rfl rfl)
theorem dX9_give_84 : decode cX9_give 84 = .ok (.dup2, 1) := dk_92 (dk_at dksX9_give_3 16 rfl rfl)
theorem dX9_give_85 : decode cX9_give 85 = .ok (.iaload, 1) := dk_46 (dk_at dksX9_give_3 17 rfl rfl)
theorem dX9_give_86 : decode cX9_give 86 = .ok (.iload_n 3, 1) := dk_29 (dk_at dksX9_give_3 18 rfl rfl)
theorem dX9_give_87 : decode cX9_give 87 = .ok (.isub, 1) := dk_100 (dk_at dksX9_give_3 19 rfl rfl)
theorem dX9_give_88 : decode cX9_give 88 = .ok (.iastore, 1) := dk_79 (dk_at dksX9_give_3 20 rfl rfl)
theorem dX9_give_89 : decode cX9_give 89 = .ok (.aload_n 0, 1) := dk_42 (dk_at dksX9_give_3 21 rfl rfl)
theorem dX9_give_90 : decode cX9_give 90 = .ok (.getfield 17, 3) := dk_180 0 17 (dk_at dksX9_give_4 0 rfl rfl)
theorem dX9_give_93 : decode cX9_give 93 = .ok (.bipush 8, 2) := dk_16 8 (dk_at dksX9_give_4 3 rfl rfl)
theorem dX9_give_95 : decode cX9_give 95 = .ok (.iload_n 2, 1) := dk_28 (dk_at dksX9_give_4 5 rfl rfl)
theorem dX9_give_96 : decode cX9_give 96 = .ok (.iadd, 1) := dk_96 (dk_at dksX9_give_4 6 rfl rfl)
theorem dX9_give_97 : decode cX9_give 97 = .ok (.dup2, 1) := dk_92 (dk_at dksX9_give_4 7 rfl rfl)
theorem dX9_give_98 : decode cX9_give 98 = .ok (.iaload, 1) := dk_46 (dk_at dksX9_give_4 8 rfl rfl)
theorem dX9_give_99 : decode cX9_give 99 = .ok (.iload_n 3, 1) := dk_29 (dk_at dksX9_give_4 9 rfl rfl)
theorem dX9_give_100 : decode cX9_give 100 = .ok (.iadd, 1) := dk_96 (dk_at dksX9_give_4 10 rfl rfl)
theorem dX9_give_101 : decode cX9_give 101 = .ok (.iastore, 1) := dk_79 (dk_at dksX9_give_4 11 rfl rfl)
theorem dX9_give_102 : decode cX9_give 102 = .ok (.aload_n 0, 1) := dk_42 (dk_at dksX9_give_4 12 rfl rfl)
theorem dX9_give_103 : decode cX9_give 103 = .ok (.invokevirtual 622, 3) := dk_182 2 110 (dk_at dksX9_give_4 13 rfl rfl)
theorem dX9_give_106 : decode cX9_give 106 = .ok (.ireturn, 1) := dk_172 (dk_at dksX9_give_4 16 rfl rfl)
abbrev cX9_seed : ByteArray := prog_20_method_136_code
def yX9_seed : MethodName := ⟨RX9, "seed", "(I)Z"⟩
def dkwX9_seed_2 : List UInt8 := [182, 2, 110, 172]
abbrev dktX9_seed_2 : List UInt8 := dkwX9_seed_2 ++ []
def dkwX9_seed_1 : List UInt8 := [184, 0, 141, 154, 0, 9, 42, 5, 182, 2, 107, 172, 42, 180, 0, 17, 17, 0, 211, 27, 79, 42]
abbrev dktX9_seed_1 : List UInt8 := dkwX9_seed_1 ++ dktX9_seed_2
def dkwX9_seed_0 : List UInt8 := [42, 3, 181, 0, 63, 42, 180, 1, 161, 199, 0, 9, 42, 4, 182, 2, 107, 172, 27, 3, 19, 2, 79]
abbrev dktX9_seed_0 : List UInt8 := dkwX9_seed_0 ++ dktX9_seed_1
theorem dksX9_seed_0 : cX9_seed.data.toList.drop 0 = dktX9_seed_0 := by decide +kernel
theorem dksX9_seed_1 : cX9_seed.data.toList.drop 23 = dktX9_seed_1 := dk_seg dksX9_seed_0 23 rfl rfl
theorem dksX9_seed_2 : cX9_seed.data.toList.drop 45 = dktX9_seed_2 := dk_seg dksX9_seed_1 22 rfl rfl
theorem dX9_seed_0 : decode cX9_seed 0 = .ok (.aload_n 0, 1) := dk_42 (dk_at dksX9_seed_0 0 rfl rfl)
theorem dX9_seed_1 : decode cX9_seed 1 = .ok (.iconst 0, 1) := dk_3 (dk_at dksX9_seed_0 1 rfl rfl)
theorem dX9_seed_2 : decode cX9_seed 2 = .ok (.putfield 63, 3) := dk_181 0 63 (dk_at dksX9_seed_0 2 rfl rfl)
theorem dX9_seed_5 : decode cX9_seed 5 = .ok (.aload_n 0, 1) := dk_42 (dk_at dksX9_seed_0 5 rfl rfl)
theorem dX9_seed_6 : decode cX9_seed 6 = .ok (.getfield 417, 3) := dk_180 1 161 (dk_at dksX9_seed_0 6 rfl rfl)
theorem dX9_seed_9 : decode cX9_seed 9 = .ok (.ifnonnull 9, 3) := dk_199 0 9 (dk_at dksX9_seed_0 9 rfl rfl)
theorem dX9_seed_12 : decode cX9_seed 12 = .ok (.aload_n 0, 1) := dk_42 (dk_at dksX9_seed_0 12 rfl rfl)
theorem dX9_seed_13 : decode cX9_seed 13 = .ok (.iconst 1, 1) := dk_4 (dk_at dksX9_seed_0 13 rfl rfl)
theorem dX9_seed_14 : decode cX9_seed 14 = .ok (.invokevirtual 619, 3) := dk_182 2 107 (dk_at dksX9_seed_0 14 rfl rfl)
theorem dX9_seed_17 : decode cX9_seed 17 = .ok (.ireturn, 1) := dk_172 (dk_at dksX9_seed_0 17 rfl rfl)
theorem dX9_seed_18 : decode cX9_seed 18 = .ok (.iload_n 1, 1) := dk_27 (dk_at dksX9_seed_0 18 rfl rfl)
theorem dX9_seed_19 : decode cX9_seed 19 = .ok (.iconst 0, 1) := dk_3 (dk_at dksX9_seed_0 19 rfl rfl)
theorem dX9_seed_20 : decode cX9_seed 20 = .ok (.ldc_w 591, 3) := dk_19 2 79 (dk_at dksX9_seed_0 20 rfl rfl)
theorem dX9_seed_23 : decode cX9_seed 23 = .ok (.invokestatic 141, 3) := dk_184 0 141 (dk_at dksX9_seed_1 0 rfl rfl)
theorem dX9_seed_26 : decode cX9_seed 26 = .ok (.ifCond .ne 9, 3) := dk_154 0 9 (dk_at dksX9_seed_1 3 rfl rfl)
theorem dX9_seed_29 : decode cX9_seed 29 = .ok (.aload_n 0, 1) := dk_42 (dk_at dksX9_seed_1 6 rfl rfl)
theorem dX9_seed_30 : decode cX9_seed 30 = .ok (.iconst 2, 1) := dk_5 (dk_at dksX9_seed_1 7 rfl rfl)
theorem dX9_seed_31 : decode cX9_seed 31 = .ok (.invokevirtual 619, 3) := dk_182 2 107 (dk_at dksX9_seed_1 8 rfl rfl)
theorem dX9_seed_34 : decode cX9_seed 34 = .ok (.ireturn, 1) := dk_172 (dk_at dksX9_seed_1 11 rfl rfl)
theorem dX9_seed_35 : decode cX9_seed 35 = .ok (.aload_n 0, 1) := dk_42 (dk_at dksX9_seed_1 12 rfl rfl)
theorem dX9_seed_36 : decode cX9_seed 36 = .ok (.getfield 17, 3) := dk_180 0 17 (dk_at dksX9_seed_1 13 rfl rfl)
theorem dX9_seed_39 : decode cX9_seed 39 = .ok (.sipush 211, 3) := dk_17 0 211 (dk_at dksX9_seed_1 16 rfl rfl)
theorem dX9_seed_42 : decode cX9_seed 42 = .ok (.iload_n 1, 1) := dk_27 (dk_at dksX9_seed_1 19 rfl rfl)
theorem dX9_seed_43 : decode cX9_seed 43 = .ok (.iastore, 1) := dk_79 (dk_at dksX9_seed_1 20 rfl rfl)
theorem dX9_seed_44 : decode cX9_seed 44 = .ok (.aload_n 0, 1) := dk_42 (dk_at dksX9_seed_1 21 rfl rfl)
theorem dX9_seed_45 : decode cX9_seed 45 = .ok (.invokevirtual 622, 3) := dk_182 2 110 (dk_at dksX9_seed_2 0 rfl rfl)
theorem dX9_seed_48 : decode cX9_seed 48 = .ok (.ireturn, 1) := dk_172 (dk_at dksX9_seed_2 3 rfl rfl)
abbrev cX9_undo : ByteArray := prog_20_method_137_code
def yX9_undo : MethodName := ⟨RX9, "undo", "()Z"⟩
def dkwX9_undo_3 : List UInt8 := [167, 255, 225, 42, 182, 2, 110, 172]
abbrev dktX9_undo_3 : List UInt8 := dkwX9_undo_3 ++ []
def dkwX9_undo_2 : List UInt8 := [180, 0, 17, 27, 42, 180, 0, 24, 17, 0, 212, 42, 180, 1, 163, 104, 27, 96, 46, 79, 132, 1, 1]
abbrev dktX9_undo_2 : List UInt8 := dkwX9_undo_2 ++ dktX9_undo_3
def dkwX9_undo_1 : List UInt8 := [182, 2, 107, 172, 42, 89, 180, 1, 163, 4, 100, 181, 1, 163, 3, 60, 27, 17, 0, 212, 162, 0, 30, 42]
abbrev dktX9_undo_1 : List UInt8 := dkwX9_undo_1 ++ dktX9_undo_2
def dkwX9_undo_0 : List UInt8 := [42, 3, 181, 0, 63, 42, 180, 1, 161, 198, 0, 10, 42, 180, 1, 163, 154, 0, 10, 42, 16, 6]
abbrev dktX9_undo_0 : List UInt8 := dkwX9_undo_0 ++ dktX9_undo_1
theorem dksX9_undo_0 : cX9_undo.data.toList.drop 0 = dktX9_undo_0 := by decide +kernel
theorem dksX9_undo_1 : cX9_undo.data.toList.drop 22 = dktX9_undo_1 := dk_seg dksX9_undo_0 22 rfl rfl
theorem dksX9_undo_2 : cX9_undo.data.toList.drop 46 = dktX9_undo_2 := dk_seg dksX9_undo_1 24 rfl rfl
theorem dksX9_undo_3 : cX9_undo.data.toList.drop 69 = dktX9_undo_3 := dk_seg dksX9_undo_2 23 rfl rfl
theorem dX9_undo_0 : decode cX9_undo 0 = .ok (.aload_n 0, 1) := dk_42 (dk_at dksX9_undo_0 0 rfl rfl)
theorem dX9_undo_1 : decode cX9_undo 1 = .ok (.iconst 0, 1) := dk_3 (dk_at dksX9_undo_0 1 rfl rfl)
theorem dX9_undo_2 : decode cX9_undo 2 = .ok (.putfield 63, 3) := dk_181 0 63 (dk_at dksX9_undo_0 2 rfl rfl)
theorem dX9_undo_5 : decode cX9_undo 5 = .ok (.aload_n 0, 1) := dk_42 (dk_at dksX9_undo_0 5 rfl rfl)
theorem dX9_undo_6 : decode cX9_undo 6 = .ok (.getfield 417, 3) := dk_180 1 161 (dk_at dksX9_undo_0 6 rfl rfl)
theorem dX9_undo_9 : decode cX9_undo 9 = .ok (.ifnull 10, 3) := dk_198 0 10 (dk_at dksX9_undo_0 9 rfl rfl)
theorem dX9_undo_12 : decode cX9_undo 12 = .ok (.aload_n 0, 1) := dk_42 (dk_at dksX9_undo_0 12 rfl rfl)
theorem dX9_undo_13 : decode cX9_undo 13 = .ok (.getfield 419, 3) := dk_180 1 163 (dk_at dksX9_undo_0 13 rfl rfl)
theorem dX9_undo_16 : decode cX9_undo 16 = .ok (.ifCond .ne 10, 3) := dk_154 0 10 (dk_at dksX9_undo_0 16 rfl rfl)
theorem dX9_undo_19 : decode cX9_undo 19 = .ok (.aload_n 0, 1) := dk_42 (dk_at dksX9_undo_0 19 rfl rfl)
theorem dX9_undo_20 : decode cX9_undo 20 = .ok (.bipush 6, 2) := dk_16 6 (dk_at dksX9_undo_0 20 rfl rfl)
theorem dX9_undo_22 : decode cX9_undo 22 = .ok (.invokevirtual 619, 3) := dk_182 2 107 (dk_at dksX9_undo_1 0 rfl rfl)
theorem dX9_undo_25 : decode cX9_undo 25 = .ok (.ireturn, 1) := dk_172 (dk_at dksX9_undo_1 3 rfl rfl)
theorem dX9_undo_26 : decode cX9_undo 26 = .ok (.aload_n 0, 1) := dk_42 (dk_at dksX9_undo_1 4 rfl rfl)
theorem dX9_undo_27 : decode cX9_undo 27 = .ok (.dup, 1) := dk_89 (dk_at dksX9_undo_1 5 rfl rfl)
theorem dX9_undo_28 : decode cX9_undo 28 = .ok (.getfield 419, 3) := dk_180 1 163 (dk_at dksX9_undo_1 6 rfl rfl)
theorem dX9_undo_31 : decode cX9_undo 31 = .ok (.iconst 1, 1) := dk_4 (dk_at dksX9_undo_1 9 rfl rfl)
theorem dX9_undo_32 : decode cX9_undo 32 = .ok (.isub, 1) := dk_100 (dk_at dksX9_undo_1 10 rfl rfl)
theorem dX9_undo_33 : decode cX9_undo 33 = .ok (.putfield 419, 3) := dk_181 1 163 (dk_at dksX9_undo_1 11 rfl rfl)
theorem dX9_undo_36 : decode cX9_undo 36 = .ok (.iconst 0, 1) := dk_3 (dk_at dksX9_undo_1 14 rfl rfl)
theorem dX9_undo_37 : decode cX9_undo 37 = .ok (.istore_n 1, 1) := dk_60 (dk_at dksX9_undo_1 15 rfl rfl)
theorem dX9_undo_38 : decode cX9_undo 38 = .ok (.iload_n 1, 1) := dk_27 (dk_at dksX9_undo_1 16 rfl rfl)
theorem dX9_undo_39 : decode cX9_undo 39 = .ok (.sipush 212, 3) := dk_17 0 212 (dk_at dksX9_undo_1 17 rfl rfl)
theorem dX9_undo_42 : decode cX9_undo 42 = .ok (.if_icmp .ge 30, 3) := dk_162 0 30 (dk_at dksX9_undo_1 20 rfl rfl)
theorem dX9_undo_45 : decode cX9_undo 45 = .ok (.aload_n 0, 1) := dk_42 (dk_at dksX9_undo_1 23 rfl rfl)
theorem dX9_undo_46 : decode cX9_undo 46 = .ok (.getfield 17, 3) := dk_180 0 17 (dk_at dksX9_undo_2 0 rfl rfl)
theorem dX9_undo_49 : decode cX9_undo 49 = .ok (.iload_n 1, 1) := dk_27 (dk_at dksX9_undo_2 3 rfl rfl)
theorem dX9_undo_50 : decode cX9_undo 50 = .ok (.aload_n 0, 1) := dk_42 (dk_at dksX9_undo_2 4 rfl rfl)
theorem dX9_undo_51 : decode cX9_undo 51 = .ok (.getfield 24, 3) := dk_180 0 24 (dk_at dksX9_undo_2 5 rfl rfl)
theorem dX9_undo_54 : decode cX9_undo 54 = .ok (.sipush 212, 3) := dk_17 0 212 (dk_at dksX9_undo_2 8 rfl rfl)
theorem dX9_undo_57 : decode cX9_undo 57 = .ok (.aload_n 0, 1) := dk_42 (dk_at dksX9_undo_2 11 rfl rfl)
theorem dX9_undo_58 : decode cX9_undo 58 = .ok (.getfield 419, 3) := dk_180 1 163 (dk_at dksX9_undo_2 12 rfl rfl)
theorem dX9_undo_61 : decode cX9_undo 61 = .ok (.imul, 1) := dk_104 (dk_at dksX9_undo_2 15 rfl rfl)
theorem dX9_undo_62 : decode cX9_undo 62 = .ok (.iload_n 1, 1) := dk_27 (dk_at dksX9_undo_2 16 rfl rfl)
theorem dX9_undo_63 : decode cX9_undo 63 = .ok (.iadd, 1) := dk_96 (dk_at dksX9_undo_2 17 rfl rfl)
theorem dX9_undo_64 : decode cX9_undo 64 = .ok (.iaload, 1) := dk_46 (dk_at dksX9_undo_2 18 rfl rfl)
theorem dX9_undo_65 : decode cX9_undo 65 = .ok (.iastore, 1) := dk_79 (dk_at dksX9_undo_2 19 rfl rfl)
theorem dX9_undo_66 : decode cX9_undo 66 = .ok (.iinc 1 1, 3) := dk_132 1 1 (dk_at dksX9_undo_2 20 rfl rfl)
theorem dX9_undo_69 : decode cX9_undo 69 = .ok (.goto (-31), 3) := dk_167 255 225 (dk_at dksX9_undo_3 0 rfl rfl)
theorem dX9_undo_72 : decode cX9_undo 72 = .ok (.aload_n 0, 1) := dk_42 (dk_at dksX9_undo_3 3 rfl rfl)
theorem dX9_undo_73 : decode cX9_undo 73 = .ok (.invokevirtual 622, 3) := dk_182 2 110 (dk_at dksX9_undo_3 4 rfl rfl)
theorem dX9_undo_76 : decode cX9_undo 76 = .ok (.ireturn, 1) := dk_172 (dk_at dksX9_undo_3 7 rfl rfl)
abbrev cX9_mark : ByteArray := prog_20_method_138_code
def yX9_mark : MethodName := ⟨RX9, "mark", "()I"⟩
def dkwX9_mark_3 : List UInt8 := [89, 180, 1, 166, 4, 96, 181, 1, 166, 42, 42, 180, 1, 166, 4, 100, 182, 0, 73, 172]
abbrev dktX9_mark_3 : List UInt8 := dkwX9_mark_3 ++ []
def dkwX9_mark_2 : List UInt8 := [17, 0, 212, 42, 180, 1, 166, 104, 27, 96, 42, 180, 0, 17, 27, 46, 79, 132, 1, 1, 167, 255, 225, 42]
abbrev dktX9_mark_2 : List UInt8 := dkwX9_mark_2 ++ dktX9_mark_3
def dkwX9_mark_1 : List UInt8 := [160, 0, 9, 42, 6, 182, 0, 69, 172, 3, 60, 27, 17, 0, 212, 162, 0, 30, 42, 180, 0, 27]
abbrev dktX9_mark_1 : List UInt8 := dkwX9_mark_1 ++ dktX9_mark_2
def dkwX9_mark_0 : List UInt8 := [42, 3, 181, 0, 63, 42, 180, 1, 161, 199, 0, 9, 42, 4, 182, 0, 69, 172, 42, 180, 1, 166, 6]
abbrev dktX9_mark_0 : List UInt8 := dkwX9_mark_0 ++ dktX9_mark_1
theorem dksX9_mark_0 : cX9_mark.data.toList.drop 0 = dktX9_mark_0 := by decide +kernel
theorem dksX9_mark_1 : cX9_mark.data.toList.drop 23 = dktX9_mark_1 := dk_seg dksX9_mark_0 23 rfl rfl
theorem dksX9_mark_2 : cX9_mark.data.toList.drop 45 = dktX9_mark_2 := dk_seg dksX9_mark_1 22 rfl rfl
theorem dksX9_mark_3 : cX9_mark.data.toList.drop 69 = dktX9_mark_3 := dk_seg dksX9_mark_2 24 rfl rfl
theorem dX9_mark_0 : decode cX9_mark 0 = .ok (.aload_n 0, 1) := dk_42 (dk_at dksX9_mark_0 0 rfl rfl)
theorem dX9_mark_1 : decode cX9_mark 1 = .ok (.iconst 0, 1) := dk_3 (dk_at dksX9_mark_0 1 rfl rfl)
theorem dX9_mark_2 : decode cX9_mark 2 = .ok (.putfield 63, 3) := dk_181 0 63 (dk_at dksX9_mark_0 2 rfl rfl)
theorem dX9_mark_5 : decode cX9_mark 5 = .ok (.aload_n 0, 1) := dk_42 (dk_at dksX9_mark_0 5 rfl rfl)
theorem dX9_mark_6 : decode cX9_mark 6 = .ok (.getfield 417, 3) := dk_180 1 161 (dk_at dksX9_mark_0 6 rfl rfl)
theorem dX9_mark_9 : decode cX9_mark 9 = .ok (.ifnonnull 9, 3) := dk_199 0 9 (dk_at dksX9_mark_0 9 rfl rfl)
theorem dX9_mark_12 : decode cX9_mark 12 = .ok (.aload_n 0, 1) := dk_42 (dk_at dksX9_mark_0 12 rfl rfl)
theorem dX9_mark_13 : decode cX9_mark 13 = .ok (.iconst 1, 1) := dk_4 (dk_at dksX9_mark_0 13 rfl rfl)
theorem dX9_mark_14 : decode cX9_mark 14 = .ok (.invokevirtual 69, 3) := dk_182 0 69 (dk_at dksX9_mark_0 14 rfl rfl)
theorem dX9_mark_17 : decode cX9_mark 17 = .ok (.ireturn, 1) := dk_172 (dk_at dksX9_mark_0 17 rfl rfl)
theorem dX9_mark_18 : decode cX9_mark 18 = .ok (.aload_n 0, 1) := dk_42 (dk_at dksX9_mark_0 18 rfl rfl)
theorem dX9_mark_19 : decode cX9_mark 19 = .ok (.getfield 422, 3) := dk_180 1 166 (dk_at dksX9_mark_0 19 rfl rfl)
theorem dX9_mark_22 : decode cX9_mark 22 = .ok (.iconst 3, 1) := dk_6 (dk_at dksX9_mark_0 22 rfl rfl)
theorem dX9_mark_23 : decode cX9_mark 23 = .ok (.if_icmp .ne 9, 3) := dk_160 0 9 (dk_at dksX9_mark_1 0 rfl rfl)
theorem dX9_mark_26 : decode cX9_mark 26 = .ok (.aload_n 0, 1) := dk_42 (dk_at dksX9_mark_1 3 rfl rfl)
theorem dX9_mark_27 : decode cX9_mark 27 = .ok (.iconst 3, 1) := dk_6 (dk_at dksX9_mark_1 4 rfl rfl)
theorem dX9_mark_28 : decode cX9_mark 28 = .ok (.invokevirtual 69, 3) := dk_182 0 69 (dk_at dksX9_mark_1 5 rfl rfl)
theorem dX9_mark_31 : decode cX9_mark 31 = .ok (.ireturn, 1) := dk_172 (dk_at dksX9_mark_1 8 rfl rfl)
theorem dX9_mark_32 : decode cX9_mark 32 = .ok (.iconst 0, 1) := dk_3 (dk_at dksX9_mark_1 9 rfl rfl)
theorem dX9_mark_33 : decode cX9_mark 33 = .ok (.istore_n 1, 1) := dk_60 (dk_at dksX9_mark_1 10 rfl rfl)
theorem dX9_mark_34 : decode cX9_mark 34 = .ok (.iload_n 1, 1) := dk_27 (dk_at dksX9_mark_1 11 rfl rfl)
theorem dX9_mark_35 : decode cX9_mark 35 = .ok (.sipush 212, 3) := dk_17 0 212 (dk_at dksX9_mark_1 12 rfl rfl)
theorem dX9_mark_38 : decode cX9_mark 38 = .ok (.if_icmp .ge 30, 3) := dk_162 0 30 (dk_at dksX9_mark_1 15 rfl rfl)
theorem dX9_mark_41 : decode cX9_mark 41 = .ok (.aload_n 0, 1) := dk_42 (dk_at dksX9_mark_1 18 rfl rfl)
theorem dX9_mark_42 : decode cX9_mark 42 = .ok (.getfield 27, 3) := dk_180 0 27 (dk_at dksX9_mark_1 19 rfl rfl)
theorem dX9_mark_45 : decode cX9_mark 45 = .ok (.sipush 212, 3) := dk_17 0 212 (dk_at dksX9_mark_2 0 rfl rfl)
theorem dX9_mark_48 : decode cX9_mark 48 = .ok (.aload_n 0, 1) := dk_42 (dk_at dksX9_mark_2 3 rfl rfl)
theorem dX9_mark_49 : decode cX9_mark 49 = .ok (.getfield 422, 3) := dk_180 1 166 (dk_at dksX9_mark_2 4 rfl rfl)
theorem dX9_mark_52 : decode cX9_mark 52 = .ok (.imul, 1) := dk_104 (dk_at dksX9_mark_2 7 rfl rfl)
theorem dX9_mark_53 : decode cX9_mark 53 = .ok (.iload_n 1, 1) := dk_27 (dk_at dksX9_mark_2 8 rfl rfl)
theorem dX9_mark_54 : decode cX9_mark 54 = .ok (.iadd, 1) := dk_96 (dk_at dksX9_mark_2 9 rfl rfl)
theorem dX9_mark_55 : decode cX9_mark 55 = .ok (.aload_n 0, 1) := dk_42 (dk_at dksX9_mark_2 10 rfl rfl)
theorem dX9_mark_56 : decode cX9_mark 56 = .ok (.getfield 17, 3) := dk_180 0 17 (dk_at dksX9_mark_2 11 rfl rfl)
theorem dX9_mark_59 : decode cX9_mark 59 = .ok (.iload_n 1, 1) := dk_27 (dk_at dksX9_mark_2 14 rfl rfl)
theorem dX9_mark_60 : decode cX9_mark 60 = .ok (.iaload, 1) := dk_46 (dk_at dksX9_mark_2 15 rfl rfl)
theorem dX9_mark_61 : decode cX9_mark 61 = .ok (.iastore, 1) := dk_79 (dk_at dksX9_mark_2 16 rfl rfl)
theorem dX9_mark_62 : decode cX9_mark 62 = .ok (.iinc 1 1, 3) := dk_132 1 1 (dk_at dksX9_mark_2 17 rfl rfl)
theorem dX9_mark_65 : decode cX9_mark 65 = .ok (.goto (-31), 3) := dk_167 255 225 (dk_at dksX9_mark_2 20 rfl rfl)
theorem dX9_mark_68 : decode cX9_mark 68 = .ok (.aload_n 0, 1) := dk_42 (dk_at dksX9_mark_2 23 rfl rfl)
theorem dX9_mark_69 : decode cX9_mark 69 = .ok (.dup, 1) := dk_89 (dk_at dksX9_mark_3 0 rfl rfl)
theorem dX9_mark_70 : decode cX9_mark 70 = .ok (.getfield 422, 3) := dk_180 1 166 (dk_at dksX9_mark_3 1 rfl rfl)
theorem dX9_mark_73 : decode cX9_mark 73 = .ok (.iconst 1, 1) := dk_4 (dk_at dksX9_mark_3 4 rfl rfl)
theorem dX9_mark_74 : decode cX9_mark 74 = .ok (.iadd, 1) := dk_96 (dk_at dksX9_mark_3 5 rfl rfl)
theorem dX9_mark_75 : decode cX9_mark 75 = .ok (.putfield 422, 3) := dk_181 1 166 (dk_at dksX9_mark_3 6 rfl rfl)
theorem dX9_mark_78 : decode cX9_mark 78 = .ok (.aload_n 0, 1) := dk_42 (dk_at dksX9_mark_3 9 rfl rfl)
theorem dX9_mark_79 : decode cX9_mark 79 = .ok (.aload_n 0, 1) := dk_42 (dk_at dksX9_mark_3 10 rfl rfl)
theorem dX9_mark_80 : decode cX9_mark 80 = .ok (.getfield 422, 3) := dk_180 1 166 (dk_at dksX9_mark_3 11 rfl rfl)
theorem dX9_mark_83 : decode cX9_mark 83 = .ok (.iconst 1, 1) := dk_4 (dk_at dksX9_mark_3 14 rfl rfl)
theorem dX9_mark_84 : decode cX9_mark 84 = .ok (.isub, 1) := dk_100 (dk_at dksX9_mark_3 15 rfl rfl)
theorem dX9_mark_85 : decode cX9_mark 85 = .ok (.invokevirtual 73, 3) := dk_182 0 73 (dk_at dksX9_mark_3 16 rfl rfl)
theorem dX9_mark_88 : decode cX9_mark 88 = .ok (.ireturn, 1) := dk_172 (dk_at dksX9_mark_3 19 rfl rfl)
abbrev cX9_back : ByteArray := prog_20_method_139_code
def yX9_back : MethodName := ⟨RX9, "back", "(I)Z"⟩
def dkwX9_back_3 : List UInt8 := [172]
abbrev dktX9_back_3 : List UInt8 := dkwX9_back_3 ++ []
def dkwX9_back_2 : List UInt8 := [17, 0, 212, 27, 104, 28, 96, 46, 79, 132, 2, 1, 167, 255, 228, 42, 3, 181, 1, 163, 42, 182, 2, 110]
abbrev dktX9_back_2 : List UInt8 := dkwX9_back_2 ++ dktX9_back_3
def dkwX9_back_1 : List UInt8 := [42, 4, 182, 2, 107, 172, 3, 61, 28, 17, 0, 212, 162, 0, 27, 42, 180, 0, 17, 28, 42, 180, 0, 27]
abbrev dktX9_back_1 : List UInt8 := dkwX9_back_1 ++ dktX9_back_2
def dkwX9_back_0 : List UInt8 := [42, 3, 181, 0, 63, 42, 180, 1, 161, 198, 0, 15, 27, 155, 0, 11, 27, 42, 180, 1, 166, 161, 0, 9]
abbrev dktX9_back_0 : List UInt8 := dkwX9_back_0 ++ dktX9_back_1
theorem dksX9_back_0 : cX9_back.data.toList.drop 0 = dktX9_back_0 := by decide +kernel
theorem dksX9_back_1 : cX9_back.data.toList.drop 24 = dktX9_back_1 := dk_seg dksX9_back_0 24 rfl rfl
theorem dksX9_back_2 : cX9_back.data.toList.drop 48 = dktX9_back_2 := dk_seg dksX9_back_1 24 rfl rfl
theorem dksX9_back_3 : cX9_back.data.toList.drop 72 = dktX9_back_3 := dk_seg dksX9_back_2 24 rfl rfl
theorem dX9_back_0 : decode cX9_back 0 = .ok (.aload_n 0, 1) := dk_42 (dk_at dksX9_back_0 0 rfl rfl)
theorem dX9_back_1 : decode cX9_back 1 = .ok (.iconst 0, 1) := dk_3 (dk_at dksX9_back_0 1 rfl rfl)
theorem dX9_back_2 : decode cX9_back 2 = .ok (.putfield 63, 3) := dk_181 0 63 (dk_at dksX9_back_0 2 rfl rfl)
theorem dX9_back_5 : decode cX9_back 5 = .ok (.aload_n 0, 1) := dk_42 (dk_at dksX9_back_0 5 rfl rfl)
theorem dX9_back_6 : decode cX9_back 6 = .ok (.getfield 417, 3) := dk_180 1 161 (dk_at dksX9_back_0 6 rfl rfl)
theorem dX9_back_9 : decode cX9_back 9 = .ok (.ifnull 15, 3) := dk_198 0 15 (dk_at dksX9_back_0 9 rfl rfl)
theorem dX9_back_12 : decode cX9_back 12 = .ok (.iload_n 1, 1) := dk_27 (dk_at dksX9_back_0 12 rfl rfl)
theorem dX9_back_13 : decode cX9_back 13 = .ok (.ifCond .lt 11, 3) := dk_155 0 11 (dk_at dksX9_back_0 13 rfl rfl)
theorem dX9_back_16 : decode cX9_back 16 = .ok (.iload_n 1, 1) := dk_27 (dk_at dksX9_back_0 16 rfl rfl)
theorem dX9_back_17 : decode cX9_back 17 = .ok (.aload_n 0, 1) := dk_42 (dk_at dksX9_back_0 17 rfl rfl)
theorem dX9_back_18 : decode cX9_back 18 = .ok (.getfield 422, 3) := dk_180 1 166 (dk_at dksX9_back_0 18 rfl rfl)
theorem dX9_back_21 : decode cX9_back 21 = .ok (.if_icmp .lt 9, 3) := dk_161 0 9 (dk_at dksX9_back_0 21 rfl rfl)
theorem dX9_back_24 : decode cX9_back 24 = .ok (.aload_n 0, 1) := dk_42 (dk_at dksX9_back_1 0 rfl rfl)
theorem dX9_back_25 : decode cX9_back 25 = .ok (.iconst 1, 1) := dk_4 (dk_at dksX9_back_1 1 rfl rfl)
theorem dX9_back_26 : decode cX9_back 26 = .ok (.invokevirtual 619, 3) := dk_182 2 107 (dk_at dksX9_back_1 2 rfl rfl)
theorem dX9_back_29 : decode cX9_back 29 = .ok (.ireturn, 1) := dk_172 (dk_at dksX9_back_1 5 rfl rfl)
theorem dX9_back_30 : decode cX9_back 30 = .ok (.iconst 0, 1) := dk_3 (dk_at dksX9_back_1 6 rfl rfl)
theorem dX9_back_31 : decode cX9_back 31 = .ok (.istore_n 2, 1) := dk_61 (dk_at dksX9_back_1 7 rfl rfl)
theorem dX9_back_32 : decode cX9_back 32 = .ok (.iload_n 2, 1) := dk_28 (dk_at dksX9_back_1 8 rfl rfl)
theorem dX9_back_33 : decode cX9_back 33 = .ok (.sipush 212, 3) := dk_17 0 212 (dk_at dksX9_back_1 9 rfl rfl)
theorem dX9_back_36 : decode cX9_back 36 = .ok (.if_icmp .ge 27, 3) := dk_162 0 27 (dk_at dksX9_back_1 12 rfl rfl)
theorem dX9_back_39 : decode cX9_back 39 = .ok (.aload_n 0, 1) := dk_42 (dk_at dksX9_back_1 15 rfl rfl)
theorem dX9_back_40 : decode cX9_back 40 = .ok (.getfield 17, 3) := dk_180 0 17 (dk_at dksX9_back_1 16 rfl rfl)
theorem dX9_back_43 : decode cX9_back 43 = .ok (.iload_n 2, 1) := dk_28 (dk_at dksX9_back_1 19 rfl rfl)
theorem dX9_back_44 : decode cX9_back 44 = .ok (.aload_n 0, 1) := dk_42 (dk_at dksX9_back_1 20 rfl rfl)
theorem dX9_back_45 : decode cX9_back 45 = .ok (.getfield 27, 3) := dk_180 0 27 (dk_at dksX9_back_1 21 rfl rfl)
theorem dX9_back_48 : decode cX9_back 48 = .ok (.sipush 212, 3) := dk_17 0 212 (dk_at dksX9_back_2 0 rfl rfl)
theorem dX9_back_51 : decode cX9_back 51 = .ok (.iload_n 1, 1) := dk_27 (dk_at dksX9_back_2 3 rfl rfl)
theorem dX9_back_52 : decode cX9_back 52 = .ok (.imul, 1) := dk_104 (dk_at dksX9_back_2 4 rfl rfl)
theorem dX9_back_53 : decode cX9_back 53 = .ok (.iload_n 2, 1) := dk_28 (dk_at dksX9_back_2 5 rfl rfl)
theorem dX9_back_54 : decode cX9_back 54 = .ok (.iadd, 1) := dk_96 (dk_at dksX9_back_2 6 rfl rfl)
theorem dX9_back_55 : decode cX9_back 55 = .ok (.iaload, 1) := dk_46 (dk_at dksX9_back_2 7 rfl rfl)
theorem dX9_back_56 : decode cX9_back 56 = .ok (.iastore, 1) := dk_79 (dk_at dksX9_back_2 8 rfl rfl)
theorem dX9_back_57 : decode cX9_back 57 = .ok (.iinc 2 1, 3) := dk_132 2 1 (dk_at dksX9_back_2 9 rfl rfl)
theorem dX9_back_60 : decode cX9_back 60 = .ok (.goto (-28), 3) := dk_167 255 228 (dk_at dksX9_back_2 12 rfl rfl)
theorem dX9_back_63 : decode cX9_back 63 = .ok (.aload_n 0, 1) := dk_42 (dk_at dksX9_back_2 15 rfl rfl)
theorem dX9_back_64 : decode cX9_back 64 = .ok (.iconst 0, 1) := dk_3 (dk_at dksX9_back_2 16 rfl rfl)
theorem dX9_back_65 : decode cX9_back 65 = .ok (.putfield 419, 3) := dk_181 1 163 (dk_at dksX9_back_2 17 rfl rfl)
theorem dX9_back_68 : decode cX9_back 68 = .ok (.aload_n 0, 1) := dk_42 (dk_at dksX9_back_2 20 rfl rfl)
theorem dX9_back_69 : decode cX9_back 69 = .ok (.invokevirtual 622, 3) := dk_182 2 110 (dk_at dksX9_back_2 21 rfl rfl)
theorem dX9_back_72 : decode cX9_back 72 = .ok (.ireturn, 1) := dk_172 (dk_at dksX9_back_3 0 rfl rfl)
abbrev cX9_stone : ByteArray := prog_20_method_140_code
def yX9_stone : MethodName := ⟨RX9, "stone", "(II)I"⟩
def dkwX9_stone_5 : List UInt8 := [180, 1, 83, 27, 46, 182, 0, 73, 172, 42, 42, 180, 1, 161, 180, 1, 85, 27, 46, 182, 0, 73, 172]
abbrev dktX9_stone_5 : List UInt8 := dkwX9_stone_5 ++ []
def dkwX9_stone_4 : List UInt8 := [182, 0, 73, 172, 42, 42, 180, 1, 161, 180, 1, 81, 27, 46, 182, 0, 73, 172, 42, 42, 180, 1, 161]
abbrev dktX9_stone_4 : List UInt8 := dkwX9_stone_4 ++ dktX9_stone_5
def dkwX9_stone_3 : List UInt8 := [42, 42, 180, 1, 161, 180, 1, 76, 27, 46, 182, 0, 73, 172, 42, 42, 180, 1, 161, 180, 1, 79, 27, 46]
abbrev dktX9_stone_3 : List UInt8 := dkwX9_stone_3 ++ dktX9_stone_4
def dkwX9_stone_2 : List UInt8 := [170, 0, 0, 0, 0, 0, 87, 0, 0, 0, 0, 0, 0, 0, 3, 0, 0, 0, 31, 0, 0, 0, 45, 0, 0, 0, 59, 0, 0, 0, 73]
abbrev dktX9_stone_2 : List UInt8 := dkwX9_stone_2 ++ dktX9_stone_3
def dkwX9_stone_1 : List UInt8 := [182, 0, 69, 172, 28]
abbrev dktX9_stone_1 : List UInt8 := dkwX9_stone_1 ++ dktX9_stone_2
def dkwX9_stone_0 : List UInt8 := [42, 3, 181, 0, 63, 42, 27, 182, 2, 37, 153, 0, 12, 28, 3, 7, 184, 0, 141, 154, 0, 9, 42, 4]
abbrev dktX9_stone_0 : List UInt8 := dkwX9_stone_0 ++ dktX9_stone_1
theorem dksX9_stone_0 : cX9_stone.data.toList.drop 0 = dktX9_stone_0 := by decide +kernel
theorem dksX9_stone_1 : cX9_stone.data.toList.drop 24 = dktX9_stone_1 := dk_seg dksX9_stone_0 24 rfl rfl
theorem dksX9_stone_2 : cX9_stone.data.toList.drop 29 = dktX9_stone_2 := dk_seg dksX9_stone_1 5 rfl rfl
theorem dksX9_stone_3 : cX9_stone.data.toList.drop 60 = dktX9_stone_3 := dk_seg dksX9_stone_2 31 rfl rfl
theorem dksX9_stone_4 : cX9_stone.data.toList.drop 84 = dktX9_stone_4 := dk_seg dksX9_stone_3 24 rfl rfl
theorem dksX9_stone_5 : cX9_stone.data.toList.drop 107 = dktX9_stone_5 := dk_seg dksX9_stone_4 23 rfl rfl
theorem dX9_stone_0 : decode cX9_stone 0 = .ok (.aload_n 0, 1) := dk_42 (dk_at dksX9_stone_0 0 rfl rfl)
theorem dX9_stone_1 : decode cX9_stone 1 = .ok (.iconst 0, 1) := dk_3 (dk_at dksX9_stone_0 1 rfl rfl)
theorem dX9_stone_2 : decode cX9_stone 2 = .ok (.putfield 63, 3) := dk_181 0 63 (dk_at dksX9_stone_0 2 rfl rfl)
theorem dX9_stone_5 : decode cX9_stone 5 = .ok (.aload_n 0, 1) := dk_42 (dk_at dksX9_stone_0 5 rfl rfl)
theorem dX9_stone_6 : decode cX9_stone 6 = .ok (.iload_n 1, 1) := dk_27 (dk_at dksX9_stone_0 6 rfl rfl)
theorem dX9_stone_7 : decode cX9_stone 7 = .ok (.invokevirtual 549, 3) := dk_182 2 37 (dk_at dksX9_stone_0 7 rfl rfl)
theorem dX9_stone_10 : decode cX9_stone 10 = .ok (.ifCond .eq 12, 3) := dk_153 0 12 (dk_at dksX9_stone_0 10 rfl rfl)
theorem dX9_stone_13 : decode cX9_stone 13 = .ok (.iload_n 2, 1) := dk_28 (dk_at dksX9_stone_0 13 rfl rfl)
theorem dX9_stone_14 : decode cX9_stone 14 = .ok (.iconst 0, 1) := dk_3 (dk_at dksX9_stone_0 14 rfl rfl)
theorem dX9_stone_15 : decode cX9_stone 15 = .ok (.iconst 4, 1) := dk_7 (dk_at dksX9_stone_0 15 rfl rfl)
theorem dX9_stone_16 : decode cX9_stone 16 = .ok (.invokestatic 141, 3) := dk_184 0 141 (dk_at dksX9_stone_0 16 rfl rfl)
theorem dX9_stone_19 : decode cX9_stone 19 = .ok (.ifCond .ne 9, 3) := dk_154 0 9 (dk_at dksX9_stone_0 19 rfl rfl)
theorem dX9_stone_22 : decode cX9_stone 22 = .ok (.aload_n 0, 1) := dk_42 (dk_at dksX9_stone_0 22 rfl rfl)
theorem dX9_stone_23 : decode cX9_stone 23 = .ok (.iconst 1, 1) := dk_4 (dk_at dksX9_stone_0 23 rfl rfl)
theorem dX9_stone_24 : decode cX9_stone 24 = .ok (.invokevirtual 69, 3) := dk_182 0 69 (dk_at dksX9_stone_1 0 rfl rfl)
theorem dX9_stone_27 : decode cX9_stone 27 = .ok (.ireturn, 1) := dk_172 (dk_at dksX9_stone_1 3 rfl rfl)
theorem dX9_stone_28 : decode cX9_stone 28 = .ok (.iload_n 2, 1) := dk_28 (dk_at dksX9_stone_1 4 rfl rfl)
theorem dX9_stone_29 : decode cX9_stone 29 = .ok (.tableswitch 87 0 3 #[31, 45, 59, 73], 31) := by decide +kernel
theorem dX9_stone_60 : decode cX9_stone 60 = .ok (.aload_n 0, 1) := dk_42 (dk_at dksX9_stone_3 0 rfl rfl)
theorem dX9_stone_61 : decode cX9_stone 61 = .ok (.aload_n 0, 1) := dk_42 (dk_at dksX9_stone_3 1 rfl rfl)
theorem dX9_stone_62 : decode cX9_stone 62 = .ok (.getfield 417, 3) := dk_180 1 161 (dk_at dksX9_stone_3 2 rfl rfl)
theorem dX9_stone_65 : decode cX9_stone 65 = .ok (.getfield 332, 3) := dk_180 1 76 (dk_at dksX9_stone_3 5 rfl rfl)
theorem dX9_stone_68 : decode cX9_stone 68 = .ok (.iload_n 1, 1) := dk_27 (dk_at dksX9_stone_3 8 rfl rfl)
theorem dX9_stone_69 : decode cX9_stone 69 = .ok (.iaload, 1) := dk_46 (dk_at dksX9_stone_3 9 rfl rfl)
theorem dX9_stone_70 : decode cX9_stone 70 = .ok (.invokevirtual 73, 3) := dk_182 0 73 (dk_at dksX9_stone_3 10 rfl rfl)
theorem dX9_stone_73 : decode cX9_stone 73 = .ok (.ireturn, 1) := dk_172 (dk_at dksX9_stone_3 13 rfl rfl)
theorem dX9_stone_74 : decode cX9_stone 74 = .ok (.aload_n 0, 1) := dk_42 (dk_at dksX9_stone_3 14 rfl rfl)
theorem dX9_stone_75 : decode cX9_stone 75 = .ok (.aload_n 0, 1) := dk_42 (dk_at dksX9_stone_3 15 rfl rfl)
theorem dX9_stone_76 : decode cX9_stone 76 = .ok (.getfield 417, 3) := dk_180 1 161 (dk_at dksX9_stone_3 16 rfl rfl)
theorem dX9_stone_79 : decode cX9_stone 79 = .ok (.getfield 335, 3) := dk_180 1 79 (dk_at dksX9_stone_3 19 rfl rfl)
theorem dX9_stone_82 : decode cX9_stone 82 = .ok (.iload_n 1, 1) := dk_27 (dk_at dksX9_stone_3 22 rfl rfl)
theorem dX9_stone_83 : decode cX9_stone 83 = .ok (.iaload, 1) := dk_46 (dk_at dksX9_stone_3 23 rfl rfl)
theorem dX9_stone_84 : decode cX9_stone 84 = .ok (.invokevirtual 73, 3) := dk_182 0 73 (dk_at dksX9_stone_4 0 rfl rfl)
theorem dX9_stone_87 : decode cX9_stone 87 = .ok (.ireturn, 1) := dk_172 (dk_at dksX9_stone_4 3 rfl rfl)
theorem dX9_stone_88 : decode cX9_stone 88 = .ok (.aload_n 0, 1) := dk_42 (dk_at dksX9_stone_4 4 rfl rfl)
theorem dX9_stone_89 : decode cX9_stone 89 = .ok (.aload_n 0, 1) := dk_42 (dk_at dksX9_stone_4 5 rfl rfl)
theorem dX9_stone_90 : decode cX9_stone 90 = .ok (.getfield 417, 3) := dk_180 1 161 (dk_at dksX9_stone_4 6 rfl rfl)
theorem dX9_stone_93 : decode cX9_stone 93 = .ok (.getfield 337, 3) := dk_180 1 81 (dk_at dksX9_stone_4 9 rfl rfl)
theorem dX9_stone_96 : decode cX9_stone 96 = .ok (.iload_n 1, 1) := dk_27 (dk_at dksX9_stone_4 12 rfl rfl)
theorem dX9_stone_97 : decode cX9_stone 97 = .ok (.iaload, 1) := dk_46 (dk_at dksX9_stone_4 13 rfl rfl)
theorem dX9_stone_98 : decode cX9_stone 98 = .ok (.invokevirtual 73, 3) := dk_182 0 73 (dk_at dksX9_stone_4 14 rfl rfl)
theorem dX9_stone_101 : decode cX9_stone 101 = .ok (.ireturn, 1) := dk_172 (dk_at dksX9_stone_4 17 rfl rfl)
theorem dX9_stone_102 : decode cX9_stone 102 = .ok (.aload_n 0, 1) := dk_42 (dk_at dksX9_stone_4 18 rfl rfl)
theorem dX9_stone_103 : decode cX9_stone 103 = .ok (.aload_n 0, 1) := dk_42 (dk_at dksX9_stone_4 19 rfl rfl)
theorem dX9_stone_104 : decode cX9_stone 104 = .ok (.getfield 417, 3) := dk_180 1 161 (dk_at dksX9_stone_4 20 rfl rfl)
theorem dX9_stone_107 : decode cX9_stone 107 = .ok (.getfield 339, 3) := dk_180 1 83 (dk_at dksX9_stone_5 0 rfl rfl)
theorem dX9_stone_110 : decode cX9_stone 110 = .ok (.iload_n 1, 1) := dk_27 (dk_at dksX9_stone_5 3 rfl rfl)
theorem dX9_stone_111 : decode cX9_stone 111 = .ok (.iaload, 1) := dk_46 (dk_at dksX9_stone_5 4 rfl rfl)
theorem dX9_stone_112 : decode cX9_stone 112 = .ok (.invokevirtual 73, 3) := dk_182 0 73 (dk_at dksX9_stone_5 5 rfl rfl)
theorem dX9_stone_115 : decode cX9_stone 115 = .ok (.ireturn, 1) := dk_172 (dk_at dksX9_stone_5 8 rfl rfl)
theorem dX9_stone_116 : decode cX9_stone 116 = .ok (.aload_n 0, 1) := dk_42 (dk_at dksX9_stone_5 9 rfl rfl)
theorem dX9_stone_117 : decode cX9_stone 117 = .ok (.aload_n 0, 1) := dk_42 (dk_at dksX9_stone_5 10 rfl rfl)
theorem dX9_stone_118 : decode cX9_stone 118 = .ok (.getfield 417, 3) := dk_180 1 161 (dk_at dksX9_stone_5 11 rfl rfl)
theorem dX9_stone_121 : decode cX9_stone 121 = .ok (.getfield 341, 3) := dk_180 1 85 (dk_at dksX9_stone_5 14 rfl rfl)
theorem dX9_stone_124 : decode cX9_stone 124 = .ok (.iload_n 1, 1) := dk_27 (dk_at dksX9_stone_5 17 rfl rfl)
theorem dX9_stone_125 : decode cX9_stone 125 = .ok (.iaload, 1) := dk_46 (dk_at dksX9_stone_5 18 rfl rfl)
theorem dX9_stone_126 : decode cX9_stone 126 = .ok (.invokevirtual 73, 3) := dk_182 0 73 (dk_at dksX9_stone_5 19 rfl rfl)
theorem dX9_stone_129 : decode cX9_stone 129 = .ok (.ireturn, 1) := dk_172 (dk_at dksX9_stone_5 22 rfl rfl)
abbrev cX9_led : ByteArray := prog_20_method_141_code
def yX9_led : MethodName := ⟨RX9, "led", "(I)I"⟩
def dkwX9_led_2 : List UInt8 := [172, 132, 2, 1, 132, 3, 1, 167, 255, 210, 42, 4, 181, 0, 63, 3, 172]
abbrev dktX9_led_2 : List UInt8 := dkwX9_led_2 ++ []
def dkwX9_led_1 : List UInt8 := [162, 0, 34, 42, 42, 180, 0, 17, 29, 182, 2, 22, 154, 0, 6, 167, 0, 13, 28, 27, 160, 0, 5, 29]
abbrev dktX9_led_1 : List UInt8 := dkwX9_led_1 ++ dktX9_led_2
def dkwX9_led_0 : List UInt8 := [42, 3, 181, 0, 63, 3, 61, 3, 62, 42, 180, 1, 161, 198, 0, 45, 29, 42, 180, 1, 161, 180, 0, 229]
abbrev dktX9_led_0 : List UInt8 := dkwX9_led_0 ++ dktX9_led_1
theorem dksX9_led_0 : cX9_led.data.toList.drop 0 = dktX9_led_0 := by decide +kernel
theorem dksX9_led_1 : cX9_led.data.toList.drop 24 = dktX9_led_1 := dk_seg dksX9_led_0 24 rfl rfl
theorem dksX9_led_2 : cX9_led.data.toList.drop 48 = dktX9_led_2 := dk_seg dksX9_led_1 24 rfl rfl
theorem dX9_led_0 : decode cX9_led 0 = .ok (.aload_n 0, 1) := dk_42 (dk_at dksX9_led_0 0 rfl rfl)
theorem dX9_led_1 : decode cX9_led 1 = .ok (.iconst 0, 1) := dk_3 (dk_at dksX9_led_0 1 rfl rfl)
theorem dX9_led_2 : decode cX9_led 2 = .ok (.putfield 63, 3) := dk_181 0 63 (dk_at dksX9_led_0 2 rfl rfl)
theorem dX9_led_5 : decode cX9_led 5 = .ok (.iconst 0, 1) := dk_3 (dk_at dksX9_led_0 5 rfl rfl)
theorem dX9_led_6 : decode cX9_led 6 = .ok (.istore_n 2, 1) := dk_61 (dk_at dksX9_led_0 6 rfl rfl)
theorem dX9_led_7 : decode cX9_led 7 = .ok (.iconst 0, 1) := dk_3 (dk_at dksX9_led_0 7 rfl rfl)
theorem dX9_led_8 : decode cX9_led 8 = .ok (.istore_n 3, 1) := dk_62 (dk_at dksX9_led_0 8 rfl rfl)
theorem dX9_led_9 : decode cX9_led 9 = .ok (.aload_n 0, 1) := dk_42 (dk_at dksX9_led_0 9 rfl rfl)
theorem dX9_led_10 : decode cX9_led 10 = .ok (.getfield 417, 3) := dk_180 1 161 (dk_at dksX9_led_0 10 rfl rfl)
theorem dX9_led_13 : decode cX9_led 13 = .ok (.ifnull 45, 3) := dk_198 0 45 (dk_at dksX9_led_0 13 rfl rfl)
theorem dX9_led_16 : decode cX9_led 16 = .ok (.iload_n 3, 1) := dk_29 (dk_at dksX9_led_0 16 rfl rfl)
theorem dX9_led_17 : decode cX9_led 17 = .ok (.aload_n 0, 1) := dk_42 (dk_at dksX9_led_0 17 rfl rfl)
theorem dX9_led_18 : decode cX9_led 18 = .ok (.getfield 417, 3) := dk_180 1 161 (dk_at dksX9_led_0 18 rfl rfl)
theorem dX9_led_21 : decode cX9_led 21 = .ok (.getfield 229, 3) := dk_180 0 229 (dk_at dksX9_led_0 21 rfl rfl)
theorem dX9_led_24 : decode cX9_led 24 = .ok (.if_icmp .ge 34, 3) := dk_162 0 34 (dk_at dksX9_led_1 0 rfl rfl)
theorem dX9_led_27 : decode cX9_led 27 = .ok (.aload_n 0, 1) := dk_42 (dk_at dksX9_led_1 3 rfl rfl)
theorem dX9_led_28 : decode cX9_led 28 = .ok (.aload_n 0, 1) := dk_42 (dk_at dksX9_led_1 4 rfl rfl)
theorem dX9_led_29 : decode cX9_led 29 = .ok (.getfield 17, 3) := dk_180 0 17 (dk_at dksX9_led_1 5 rfl rfl)
theorem dX9_led_32 : decode cX9_led 32 = .ok (.iload_n 3, 1) := dk_29 (dk_at dksX9_led_1 8 rfl rfl)
theorem dX9_led_33 : decode cX9_led 33 = .ok (.invokevirtual 534, 3) := dk_182 2 22 (dk_at dksX9_led_1 9 rfl rfl)
theorem dX9_led_36 : decode cX9_led 36 = .ok (.ifCond .ne 6, 3) := dk_154 0 6 (dk_at dksX9_led_1 12 rfl rfl)
theorem dX9_led_39 : decode cX9_led 39 = .ok (.goto 13, 3) := dk_167 0 13 (dk_at dksX9_led_1 15 rfl rfl)
theorem dX9_led_42 : decode cX9_led 42 = .ok (.iload_n 2, 1) := dk_28 (dk_at dksX9_led_1 18 rfl rfl)
theorem dX9_led_43 : decode cX9_led 43 = .ok (.iload_n 1, 1) := dk_27 (dk_at dksX9_led_1 19 rfl rfl)
theorem dX9_led_44 : decode cX9_led 44 = .ok (.if_icmp .ne 5, 3) := dk_160 0 5 (dk_at dksX9_led_1 20 rfl rfl)
theorem dX9_led_47 : decode cX9_led 47 = .ok (.iload_n 3, 1) := dk_29 (dk_at dksX9_led_1 23 rfl rfl)
theorem dX9_led_48 : decode cX9_led 48 = .ok (.ireturn, 1) := dk_172 (dk_at dksX9_led_2 0 rfl rfl)
theorem dX9_led_49 : decode cX9_led 49 = .ok (.iinc 2 1, 3) := dk_132 2 1 (dk_at dksX9_led_2 1 rfl rfl)
theorem dX9_led_52 : decode cX9_led 52 = .ok (.iinc 3 1, 3) := dk_132 3 1 (dk_at dksX9_led_2 4 rfl rfl)
theorem dX9_led_55 : decode cX9_led 55 = .ok (.goto (-46), 3) := dk_167 255 210 (dk_at dksX9_led_2 7 rfl rfl)
theorem dX9_led_58 : decode cX9_led 58 = .ok (.aload_n 0, 1) := dk_42 (dk_at dksX9_led_2 10 rfl rfl)
theorem dX9_led_59 : decode cX9_led 59 = .ok (.iconst 1, 1) := dk_4 (dk_at dksX9_led_2 11 rfl rfl)
theorem dX9_led_60 : decode cX9_led 60 = .ok (.putfield 63, 3) := dk_181 0 63 (dk_at dksX9_led_2 12 rfl rfl)
theorem dX9_led_63 : decode cX9_led 63 = .ok (.iconst 0, 1) := dk_3 (dk_at dksX9_led_2 15 rfl rfl)
theorem dX9_led_64 : decode cX9_led 64 = .ok (.ireturn, 1) := dk_172 (dk_at dksX9_led_2 16 rfl rfl)
abbrev cX9_size : ByteArray := prog_20_method_142_code
def yX9_size : MethodName := ⟨RX9, "size", "(I)I"⟩
def dkwX9_size_7 : List UInt8 := [17, 0, 211, 46, 172, 42, 180, 1, 163, 172, 42, 180, 1, 166, 172]
abbrev dktX9_size_7 : List UInt8 := dkwX9_size_7 ++ []
def dkwX9_size_6 : List UInt8 := [172, 42, 180, 1, 161, 180, 1, 138, 172, 42, 180, 0, 17, 17, 0, 210, 46, 172, 42, 180, 0, 17]
abbrev dktX9_size_6 : List UInt8 := dkwX9_size_6 ++ dktX9_size_7
def dkwX9_size_5 : List UInt8 := [172, 42, 180, 1, 161, 180, 0, 226, 172, 42, 180, 1, 161, 180, 0, 229, 172, 42, 180, 1, 161, 180, 1, 132]
abbrev dktX9_size_5 : List UInt8 := dkwX9_size_5 ++ dktX9_size_6
def dkwX9_size_4 : List UInt8 := [153, 0, 7, 4, 167, 0, 4, 3, 172, 42, 180, 1, 161, 180, 1, 28, 153, 0, 7, 4, 167, 0, 4, 3]
abbrev dktX9_size_4 : List UInt8 := dkwX9_size_4 ++ dktX9_size_5
def dkwX9_size_3 : List UInt8 := [42, 180, 1, 161, 180, 0, 160, 172, 42, 180, 1, 161, 180, 0, 168, 172, 42, 180, 1, 161, 180, 1, 25]
abbrev dktX9_size_3 : List UInt8 := dkwX9_size_3 ++ dktX9_size_4
def dkwX9_size_2 : List UInt8 := [170, 0, 0, 0, 0, 161, 0, 0, 0, 0, 0, 0, 0, 10, 0, 0, 0, 58, 0, 0, 0, 66, 0, 0, 0, 74, 0, 0, 0, 90, 0, 0, 0, 106, 0, 0, 0, 114, 0, 0, 0, 122, 0, 0, 0, 130, 0, 0, 0, 138, 0, 0, 0, 147, 0, 0, 0, 156]
abbrev dktX9_size_2 : List UInt8 := dkwX9_size_2 ++ dktX9_size_3
def dkwX9_size_1 : List UInt8 := [154, 0, 5, 2, 172, 42, 180, 1, 161, 199, 0, 5, 3, 172, 27]
abbrev dktX9_size_1 : List UInt8 := dkwX9_size_1 ++ dktX9_size_2
def dkwX9_size_0 : List UInt8 := [42, 3, 181, 0, 63, 27, 16, 12, 160, 0, 8, 42, 180, 1, 154, 172, 27, 3, 16, 11, 184, 0, 141]
abbrev dktX9_size_0 : List UInt8 := dkwX9_size_0 ++ dktX9_size_1
theorem dksX9_size_0 : cX9_size.data.toList.drop 0 = dktX9_size_0 := by decide +kernel
theorem dksX9_size_1 : cX9_size.data.toList.drop 23 = dktX9_size_1 := dk_seg dksX9_size_0 23 rfl rfl
theorem dksX9_size_2 : cX9_size.data.toList.drop 38 = dktX9_size_2 := dk_seg dksX9_size_1 15 rfl rfl
theorem dksX9_size_3 : cX9_size.data.toList.drop 96 = dktX9_size_3 := dk_seg dksX9_size_2 58 rfl rfl
theorem dksX9_size_4 : cX9_size.data.toList.drop 119 = dktX9_size_4 := dk_seg dksX9_size_3 23 rfl rfl
theorem dksX9_size_5 : cX9_size.data.toList.drop 143 = dktX9_size_5 := dk_seg dksX9_size_4 24 rfl rfl
theorem dksX9_size_6 : cX9_size.data.toList.drop 167 = dktX9_size_6 := dk_seg dksX9_size_5 24 rfl rfl
theorem dksX9_size_7 : cX9_size.data.toList.drop 189 = dktX9_size_7 := dk_seg dksX9_size_6 22 rfl rfl
theorem dX9_size_0 : decode cX9_size 0 = .ok (.aload_n 0, 1) := dk_42 (dk_at dksX9_size_0 0 rfl rfl)
theorem dX9_size_1 : decode cX9_size 1 = .ok (.iconst 0, 1) := dk_3 (dk_at dksX9_size_0 1 rfl rfl)
theorem dX9_size_2 : decode cX9_size 2 = .ok (.putfield 63, 3) := dk_181 0 63 (dk_at dksX9_size_0 2 rfl rfl)
theorem dX9_size_5 : decode cX9_size 5 = .ok (.iload_n 1, 1) := dk_27 (dk_at dksX9_size_0 5 rfl rfl)
theorem dX9_size_6 : decode cX9_size 6 = .ok (.bipush 12, 2) := dk_16 12 (dk_at dksX9_size_0 6 rfl rfl)
theorem dX9_size_8 : decode cX9_size 8 = .ok (.if_icmp .ne 8, 3) := dk_160 0 8 (dk_at dksX9_size_0 8 rfl rfl)
theorem dX9_size_11 : decode cX9_size 11 = .ok (.aload_n 0, 1) := dk_42 (dk_at dksX9_size_0 11 rfl rfl)
theorem dX9_size_12 : decode cX9_size 12 = .ok (.getfield 410, 3) := dk_180 1 154 (dk_at dksX9_size_0 12 rfl rfl)
theorem dX9_size_15 : decode cX9_size 15 = .ok (.ireturn, 1) := dk_172 (dk_at dksX9_size_0 15 rfl rfl)
theorem dX9_size_16 : decode cX9_size 16 = .ok (.iload_n 1, 1) := dk_27 (dk_at dksX9_size_0 16 rfl rfl)
theorem dX9_size_17 : decode cX9_size 17 = .ok (.iconst 0, 1) := dk_3 (dk_at dksX9_size_0 17 rfl rfl)
theorem dX9_size_18 : decode cX9_size 18 = .ok (.bipush 11, 2) := dk_16 11 (dk_at dksX9_size_0 18 rfl rfl)
theorem dX9_size_20 : decode cX9_size 20 = .ok (.invokestatic 141, 3) := dk_184 0 141 (dk_at dksX9_size_0 20 rfl rfl)
theorem dX9_size_23 : decode cX9_size 23 = .ok (.ifCond .ne 5, 3) := dk_154 0 5 (dk_at dksX9_size_1 0 rfl rfl)
theorem dX9_size_26 : decode cX9_size 26 = .ok (.iconst (-1), 1) := dk_2 (dk_at dksX9_size_1 3 rfl rfl)
theorem dX9_size_27 : decode cX9_size 27 = .ok (.ireturn, 1) := dk_172 (dk_at dksX9_size_1 4 rfl rfl)
theorem dX9_size_28 : decode cX9_size 28 = .ok (.aload_n 0, 1) := dk_42 (dk_at dksX9_size_1 5 rfl rfl)
theorem dX9_size_29 : decode cX9_size 29 = .ok (.getfield 417, 3) := dk_180 1 161 (dk_at dksX9_size_1 6 rfl rfl)
theorem dX9_size_32 : decode cX9_size 32 = .ok (.ifnonnull 5, 3) := dk_199 0 5 (dk_at dksX9_size_1 9 rfl rfl)
theorem dX9_size_35 : decode cX9_size 35 = .ok (.iconst 0, 1) := dk_3 (dk_at dksX9_size_1 12 rfl rfl)
theorem dX9_size_36 : decode cX9_size 36 = .ok (.ireturn, 1) := dk_172 (dk_at dksX9_size_1 13 rfl rfl)
theorem dX9_size_37 : decode cX9_size 37 = .ok (.iload_n 1, 1) := dk_27 (dk_at dksX9_size_1 14 rfl rfl)
theorem dX9_size_38 : decode cX9_size 38 = .ok (.tableswitch 161 0 10 #[58, 66, 74, 90, 106, 114, 122, 130, 138, 147, 156], 58) := by decide +kernel
theorem dX9_size_96 : decode cX9_size 96 = .ok (.aload_n 0, 1) := dk_42 (dk_at dksX9_size_3 0 rfl rfl)
theorem dX9_size_97 : decode cX9_size 97 = .ok (.getfield 417, 3) := dk_180 1 161 (dk_at dksX9_size_3 1 rfl rfl)
theorem dX9_size_100 : decode cX9_size 100 = .ok (.getfield 160, 3) := dk_180 0 160 (dk_at dksX9_size_3 4 rfl rfl)
theorem dX9_size_103 : decode cX9_size 103 = .ok (.ireturn, 1) := dk_172 (dk_at dksX9_size_3 7 rfl rfl)
theorem dX9_size_104 : decode cX9_size 104 = .ok (.aload_n 0, 1) := dk_42 (dk_at dksX9_size_3 8 rfl rfl)
theorem dX9_size_105 : decode cX9_size 105 = .ok (.getfield 417, 3) := dk_180 1 161 (dk_at dksX9_size_3 9 rfl rfl)
theorem dX9_size_108 : decode cX9_size 108 = .ok (.getfield 168, 3) := dk_180 0 168 (dk_at dksX9_size_3 12 rfl rfl)
theorem dX9_size_111 : decode cX9_size 111 = .ok (.ireturn, 1) := dk_172 (dk_at dksX9_size_3 15 rfl rfl)
theorem dX9_size_112 : decode cX9_size 112 = .ok (.aload_n 0, 1) := dk_42 (dk_at dksX9_size_3 16 rfl rfl)
theorem dX9_size_113 : decode cX9_size 113 = .ok (.getfield 417, 3) := dk_180 1 161 (dk_at dksX9_size_3 17 rfl rfl)
theorem dX9_size_116 : decode cX9_size 116 = .ok (.getfield 281, 3) := dk_180 1 25 (dk_at dksX9_size_3 20 rfl rfl)
theorem dX9_size_119 : decode cX9_size 119 = .ok (.ifCond .eq 7, 3) := dk_153 0 7 (dk_at dksX9_size_4 0 rfl rfl)
theorem dX9_size_122 : decode cX9_size 122 = .ok (.iconst 1, 1) := dk_4 (dk_at dksX9_size_4 3 rfl rfl)
theorem dX9_size_123 : decode cX9_size 123 = .ok (.goto 4, 3) := dk_167 0 4 (dk_at dksX9_size_4 4 rfl rfl)
theorem dX9_size_126 : decode cX9_size 126 = .ok (.iconst 0, 1) := dk_3 (dk_at dksX9_size_4 7 rfl rfl)
theorem dX9_size_127 : decode cX9_size 127 = .ok (.ireturn, 1) := dk_172 (dk_at dksX9_size_4 8 rfl rfl)
theorem dX9_size_128 : decode cX9_size 128 = .ok (.aload_n 0, 1) := dk_42 (dk_at dksX9_size_4 9 rfl rfl)
theorem dX9_size_129 : decode cX9_size 129 = .ok (.getfield 417, 3) := dk_180 1 161 (dk_at dksX9_size_4 10 rfl rfl)
theorem dX9_size_132 : decode cX9_size 132 = .ok (.getfield 284, 3) := dk_180 1 28 (dk_at dksX9_size_4 13 rfl rfl)
theorem dX9_size_135 : decode cX9_size 135 = .ok (.ifCond .eq 7, 3) := dk_153 0 7 (dk_at dksX9_size_4 16 rfl rfl)
theorem dX9_size_138 : decode cX9_size 138 = .ok (.iconst 1, 1) := dk_4 (dk_at dksX9_size_4 19 rfl rfl)
theorem dX9_size_139 : decode cX9_size 139 = .ok (.goto 4, 3) := dk_167 0 4 (dk_at dksX9_size_4 20 rfl rfl)
theorem dX9_size_142 : decode cX9_size 142 = .ok (.iconst 0, 1) := dk_3 (dk_at dksX9_size_4 23 rfl rfl)
theorem dX9_size_143 : decode cX9_size 143 = .ok (.ireturn, 1) := dk_172 (dk_at dksX9_size_5 0 rfl rfl)
theorem dX9_size_144 : decode cX9_size 144 = .ok (.aload_n 0, 1) := dk_42 (dk_at dksX9_size_5 1 rfl rfl)
theorem dX9_size_145 : decode cX9_size 145 = .ok (.getfield 417, 3) := dk_180 1 161 (dk_at dksX9_size_5 2 rfl rfl)
theorem dX9_size_148 : decode cX9_size 148 = .ok (.getfield 226, 3) := dk_180 0 226 (dk_at dksX9_size_5 5 rfl rfl)
theorem dX9_size_151 : decode cX9_size 151 = .ok (.ireturn, 1) := dk_172 (dk_at dksX9_size_5 8 rfl rfl)
theorem dX9_size_152 : decode cX9_size 152 = .ok (.aload_n 0, 1) := dk_42 (dk_at dksX9_size_5 9 rfl rfl)
theorem dX9_size_153 : decode cX9_size 153 = .ok (.getfield 417, 3) := dk_180 1 161 (dk_at dksX9_size_5 10 rfl rfl)
theorem dX9_size_156 : decode cX9_size 156 = .ok (.getfield 229, 3) := dk_180 0 229 (dk_at dksX9_size_5 13 rfl rfl)
theorem dX9_size_159 : decode cX9_size 159 = .ok (.ireturn, 1) := dk_172 (dk_at dksX9_size_5 16 rfl rfl)
theorem dX9_size_160 : decode cX9_size 160 = .ok (.aload_n 0, 1) := dk_42 (dk_at dksX9_size_5 17 rfl rfl)
theorem dX9_size_161 : decode cX9_size 161 = .ok (.getfield 417, 3) := dk_180 1 161 (dk_at dksX9_size_5 18 rfl rfl)
theorem dX9_size_164 : decode cX9_size 164 = .ok (.getfield 388, 3) := dk_180 1 132 (dk_at dksX9_size_5 21 rfl rfl)
theorem dX9_size_167 : decode cX9_size 167 = .ok (.ireturn, 1) := dk_172 (dk_at dksX9_size_6 0 rfl rfl)
theorem dX9_size_168 : decode cX9_size 168 = .ok (.aload_n 0, 1) := dk_42 (dk_at dksX9_size_6 1 rfl rfl)
theorem dX9_size_169 : decode cX9_size 169 = .ok (.getfield 417, 3) := dk_180 1 161 (dk_at dksX9_size_6 2 rfl rfl)
theorem dX9_size_172 : decode cX9_size 172 = .ok (.getfield 394, 3) := dk_180 1 138 (dk_at dksX9_size_6 5 rfl rfl)
theorem dX9_size_175 : decode cX9_size 175 = .ok (.ireturn, 1) := dk_172 (dk_at dksX9_size_6 8 rfl rfl)
theorem dX9_size_176 : decode cX9_size 176 = .ok (.aload_n 0, 1) := dk_42 (dk_at dksX9_size_6 9 rfl rfl)
theorem dX9_size_177 : decode cX9_size 177 = .ok (.getfield 17, 3) := dk_180 0 17 (dk_at dksX9_size_6 10 rfl rfl)
theorem dX9_size_180 : decode cX9_size 180 = .ok (.sipush 210, 3) := dk_17 0 210 (dk_at dksX9_size_6 13 rfl rfl)
theorem dX9_size_183 : decode cX9_size 183 = .ok (.iaload, 1) := dk_46 (dk_at dksX9_size_6 16 rfl rfl)
theorem dX9_size_184 : decode cX9_size 184 = .ok (.ireturn, 1) := dk_172 (dk_at dksX9_size_6 17 rfl rfl)
theorem dX9_size_185 : decode cX9_size 185 = .ok (.aload_n 0, 1) := dk_42 (dk_at dksX9_size_6 18 rfl rfl)
theorem dX9_size_186 : decode cX9_size 186 = .ok (.getfield 17, 3) := dk_180 0 17 (dk_at dksX9_size_6 19 rfl rfl)
theorem dX9_size_189 : decode cX9_size 189 = .ok (.sipush 211, 3) := dk_17 0 211 (dk_at dksX9_size_7 0 rfl rfl)
theorem dX9_size_192 : decode cX9_size 192 = .ok (.iaload, 1) := dk_46 (dk_at dksX9_size_7 3 rfl rfl)
theorem dX9_size_193 : decode cX9_size 193 = .ok (.ireturn, 1) := dk_172 (dk_at dksX9_size_7 4 rfl rfl)
theorem dX9_size_194 : decode cX9_size 194 = .ok (.aload_n 0, 1) := dk_42 (dk_at dksX9_size_7 5 rfl rfl)
theorem dX9_size_195 : decode cX9_size 195 = .ok (.getfield 419, 3) := dk_180 1 163 (dk_at dksX9_size_7 6 rfl rfl)
theorem dX9_size_198 : decode cX9_size 198 = .ok (.ireturn, 1) := dk_172 (dk_at dksX9_size_7 9 rfl rfl)
theorem dX9_size_199 : decode cX9_size 199 = .ok (.aload_n 0, 1) := dk_42 (dk_at dksX9_size_7 10 rfl rfl)
theorem dX9_size_200 : decode cX9_size 200 = .ok (.getfield 422, 3) := dk_180 1 166 (dk_at dksX9_size_7 11 rfl rfl)
theorem dX9_size_203 : decode cX9_size 203 = .ok (.ireturn, 1) := dk_172 (dk_at dksX9_size_7 14 rfl rfl)
abbrev cX9_trouble : ByteArray := prog_20_method_143_code
def yX9_trouble : MethodName := ⟨RX9, "trouble", "()I"⟩
def dkwX9_trouble_0 : List UInt8 := [42, 3, 181, 0, 63, 42, 180, 0, 66, 172]
abbrev dktX9_trouble_0 : List UInt8 := dkwX9_trouble_0 ++ []
theorem dksX9_trouble_0 : cX9_trouble.data.toList.drop 0 = dktX9_trouble_0 := by decide +kernel
theorem dX9_trouble_0 : decode cX9_trouble 0 = .ok (.aload_n 0, 1) := dk_42 (dk_at dksX9_trouble_0 0 rfl rfl)
theorem dX9_trouble_1 : decode cX9_trouble 1 = .ok (.iconst 0, 1) := dk_3 (dk_at dksX9_trouble_0 1 rfl rfl)
theorem dX9_trouble_2 : decode cX9_trouble 2 = .ok (.putfield 63, 3) := dk_181 0 63 (dk_at dksX9_trouble_0 2 rfl rfl)
theorem dX9_trouble_5 : decode cX9_trouble 5 = .ok (.aload_n 0, 1) := dk_42 (dk_at dksX9_trouble_0 5 rfl rfl)
theorem dX9_trouble_6 : decode cX9_trouble 6 = .ok (.getfield 66, 3) := dk_180 0 66 (dk_at dksX9_trouble_0 6 rfl rfl)
theorem dX9_trouble_9 : decode cX9_trouble 9 = .ok (.ireturn, 1) := dk_172 (dk_at dksX9_trouble_0 9 rfl rfl)
theorem q137 : (Jvm.Cond.initialized "YearSkinsModel") ∈ lw_all := lw_g (lw_at lw_m1 12 rfl) rfl
theorem q1757 : (Jvm.Cond.instantiable "YearSkinsModel" (37 : Nat)) ∈ lw_all := lw_g (lw_at lw_m7 192 rfl) rfl
theorem q1759 : (Jvm.Cond.instanceMethod ({ cls := "YearSkinsModel", name := "<init>", desc := "()V" } : Jvm.MethodName)) ∈ lw_all := lw_g (lw_at lw_m7 194 rfl) rfl
theorem q1760 : (Jvm.Cond.code ({ cls := "YearSkinsModel", name := "<init>", desc := "()V" } : Jvm.MethodName) prog_20_method_1_code (1 : Nat) (Option.none : Option Jvm.ClassFile.FieldType)) ∈ lw_all := lw_g (lw_at lw_m7 195 rfl) rfl
theorem q1761 : (Jvm.Cond.methodLink "YearSkinsModel" (3 : Nat) ({ cls := "java/lang/Object", name := "<init>", desc := "()V" } : Jvm.MethodName)) ∈ lw_all := lw_g (lw_at lw_m7 196 rfl) rfl
theorem q1762 : (Jvm.Cond.fieldLink "YearSkinsModel" (63 : Nat) "YearSkinsModel" "thrown" "I") ∈ lw_all := lw_g (lw_at lw_m7 197 rfl) rfl
theorem q1763 : (Jvm.Cond.fieldLink "YearSkinsModel" (66 : Nat) "YearSkinsModel" "trouble" "I") ∈ lw_all := lw_g (lw_at lw_m7 198 rfl) rfl
theorem q1764 : (Jvm.Cond.fieldLink "YearSkinsModel" (9 : Nat) "YearSkinsModel" "where" "I") ∈ lw_all := lw_g (lw_at lw_m7 199 rfl) rfl
theorem q1765 : (Jvm.Cond.fieldLink "YearSkinsModel" (417 : Nat) "YearSkinsModel" "land" "LYearSkinsModel$Land;") ∈ lw_all := lw_g (lw_at lw_m7 200 rfl) rfl
theorem q1766 : (Jvm.Cond.fieldLink "YearSkinsModel" (156 : Nat) "YearSkinsModel" "read" "LYearSkinsModel$Land;") ∈ lw_all := lw_g (lw_at lw_m7 201 rfl) rfl
theorem q1767 : (Jvm.Cond.fieldLink "YearSkinsModel" (13 : Nat) "YearSkinsModel" "tape" "[B") ∈ lw_all := lw_g (lw_at lw_m7 202 rfl) rfl
theorem q1768 : (Jvm.Cond.fieldLink "YearSkinsModel" (410 : Nat) "YearSkinsModel" "taped" "I") ∈ lw_all := lw_g (lw_at lw_m7 203 rfl) rfl
theorem q1769 : (Jvm.Cond.fieldLink "YearSkinsModel" (76 : Nat) "YearSkinsModel" "size" "I") ∈ lw_all := lw_g (lw_at lw_m7 204 rfl) rfl
theorem q1770 : (Jvm.Cond.fieldLink "YearSkinsModel" (94 : Nat) "YearSkinsModel" "spot" "I") ∈ lw_all := lw_g (lw_at lw_m7 205 rfl) rfl
theorem q1771 : (Jvm.Cond.fieldLink "YearSkinsModel" (91 : Nat) "YearSkinsModel" "sort" "I") ∈ lw_all := lw_g (lw_at lw_m7 206 rfl) rfl
theorem q1772 : (Jvm.Cond.fieldLink "YearSkinsModel" (100 : Nat) "YearSkinsModel" "place" "I") ∈ lw_all := lw_g (lw_at lw_m7 207 rfl) rfl
theorem q1773 : (Jvm.Cond.fieldLink "YearSkinsModel" (103 : Nat) "YearSkinsModel" "sign" "I") ∈ lw_all := lw_g (lw_at lw_m7 208 rfl) rfl
theorem q1774 : (Jvm.Cond.fieldLink "YearSkinsModel" (117 : Nat) "YearSkinsModel" "number" "I") ∈ lw_all := lw_g (lw_at lw_m7 209 rfl) rfl
theorem q1775 : (Jvm.Cond.fieldLink "YearSkinsModel" (120 : Nat) "YearSkinsModel" "fault" "I") ∈ lw_all := lw_g (lw_at lw_m7 210 rfl) rfl
theorem q1776 : (Jvm.Cond.fieldLink "YearSkinsModel" (123 : Nat) "YearSkinsModel" "wrongAt" "I") ∈ lw_all := lw_g (lw_at lw_m7 211 rfl) rfl
theorem q1777 : (Jvm.Cond.fieldLink "YearSkinsModel" (110 : Nat) "YearSkinsModel" "word" "J") ∈ lw_all := lw_g (lw_at lw_m7 212 rfl) rfl
theorem q1778 : (Jvm.Cond.fieldLink "YearSkinsModel" (17 : Nat) "YearSkinsModel" "v" "[I") ∈ lw_all := lw_g (lw_at lw_m7 213 rfl) rfl
theorem q1779 : (Jvm.Cond.fieldLink "YearSkinsModel" (21 : Nat) "YearSkinsModel" "w" "[I") ∈ lw_all := lw_g (lw_at lw_m7 214 rfl) rfl
theorem q1780 : (Jvm.Cond.fieldLink "YearSkinsModel" (24 : Nat) "YearSkinsModel" "past" "[I") ∈ lw_all := lw_g (lw_at lw_m7 215 rfl) rfl
theorem q1781 : (Jvm.Cond.fieldLink "YearSkinsModel" (27 : Nat) "YearSkinsModel" "kept" "[I") ∈ lw_all := lw_g (lw_at lw_m7 216 rfl) rfl
theorem q1782 : (Jvm.Cond.fieldLink "YearSkinsModel" (419 : Nat) "YearSkinsModel" "acts" "I") ∈ lw_all := lw_g (lw_at lw_m7 217 rfl) rfl
theorem q1783 : (Jvm.Cond.fieldLink "YearSkinsModel" (422 : Nat) "YearSkinsModel" "marks" "I") ∈ lw_all := lw_g (lw_at lw_m7 218 rfl) rfl
theorem q1784 : (Jvm.Cond.fieldLink "YearSkinsModel" (475 : Nat) "YearSkinsModel" "newSide" "I") ∈ lw_all := lw_g (lw_at lw_m7 219 rfl) rfl
theorem q1785 : (Jvm.Cond.fieldLink "YearSkinsModel" (478 : Nat) "YearSkinsModel" "newPlace" "I") ∈ lw_all := lw_g (lw_at lw_m7 220 rfl) rfl
theorem q1786 : (Jvm.Cond.fieldLink "YearSkinsModel" (30 : Nat) "YearSkinsModel" "order" "[I") ∈ lw_all := lw_g (lw_at lw_m7 221 rfl) rfl
theorem q1787 : (Jvm.Cond.fieldLink "YearSkinsModel" (33 : Nat) "YearSkinsModel" "bestOrder" "[I") ∈ lw_all := lw_g (lw_at lw_m7 222 rfl) rfl
theorem q1788 : (Jvm.Cond.fieldLink "YearSkinsModel" (36 : Nat) "YearSkinsModel" "cost" "[I") ∈ lw_all := lw_g (lw_at lw_m7 223 rfl) rfl
theorem q1789 : (Jvm.Cond.fieldLink "YearSkinsModel" (39 : Nat) "YearSkinsModel" "outer" "[I") ∈ lw_all := lw_g (lw_at lw_m7 224 rfl) rfl
theorem q1790 : (Jvm.Cond.fieldLink "YearSkinsModel" (579 : Nat) "YearSkinsModel" "firstMost" "I") ∈ lw_all := lw_g (lw_at lw_m7 225 rfl) rfl
theorem q1791 : (Jvm.Cond.fieldLink "YearSkinsModel" (42 : Nat) "YearSkinsModel" "row" "[I") ∈ lw_all := lw_g (lw_at lw_m7 226 rfl) rfl
theorem q1792 : (Jvm.Cond.fieldLink "YearSkinsModel" (45 : Nat) "YearSkinsModel" "soonest" "[I") ∈ lw_all := lw_g (lw_at lw_m7 227 rfl) rfl
theorem q1793 : (Jvm.Cond.fieldLink "YearSkinsModel" (48 : Nat) "YearSkinsModel" "latest" "[I") ∈ lw_all := lw_g (lw_at lw_m7 228 rfl) rfl
theorem q1794 : (Jvm.Cond.fieldLink "YearSkinsModel" (51 : Nat) "YearSkinsModel" "ahead" "[I") ∈ lw_all := lw_g (lw_at lw_m7 229 rfl) rfl
theorem q1795 : (Jvm.Cond.fieldLink "YearSkinsModel" (54 : Nat) "YearSkinsModel" "soonYear" "[I") ∈ lw_all := lw_g (lw_at lw_m7 230 rfl) rfl
theorem q1796 : (Jvm.Cond.fieldLink "YearSkinsModel" (57 : Nat) "YearSkinsModel" "lateYear" "[I") ∈ lw_all := lw_g (lw_at lw_m7 231 rfl) rfl
theorem q1797 : (Jvm.Cond.fieldLink "YearSkinsModel" (60 : Nat) "YearSkinsModel" "wanted" "[I") ∈ lw_all := lw_g (lw_at lw_m7 232 rfl) rfl
theorem q1798 : (Jvm.Cond.fieldLink "YearSkinsModel" (604 : Nat) "YearSkinsModel" "many" "I") ∈ lw_all := lw_g (lw_at lw_m7 233 rfl) rfl
theorem q1799 : (Jvm.Cond.lays "YearSkinsModel" "YearSkinsModel" "thrown" "I") ∈ lw_all := lw_g (lw_at lw_m7 234 rfl) rfl
theorem q1800 : (Jvm.Cond.soleField "YearSkinsModel" "thrown") ∈ lw_all := lw_g (lw_at lw_m7 235 rfl) rfl
theorem q1801 : (Jvm.Cond.lays "YearSkinsModel" "YearSkinsModel" "trouble" "I") ∈ lw_all := lw_g (lw_at lw_m7 236 rfl) rfl
theorem q1802 : (Jvm.Cond.soleField "YearSkinsModel" "trouble") ∈ lw_all := lw_g (lw_at lw_m7 237 rfl) rfl
theorem q1803 : (Jvm.Cond.lays "YearSkinsModel" "YearSkinsModel" "where" "I") ∈ lw_all := lw_g (lw_at lw_m7 238 rfl) rfl
theorem q1804 : (Jvm.Cond.soleField "YearSkinsModel" "where") ∈ lw_all := lw_g (lw_at lw_m7 239 rfl) rfl
theorem q1805 : (Jvm.Cond.lays "YearSkinsModel" "YearSkinsModel" "land" "LYearSkinsModel$Land;") ∈ lw_all := lw_g (lw_at lw_m8 0 rfl) rfl
theorem q1806 : (Jvm.Cond.soleField "YearSkinsModel" "land") ∈ lw_all := lw_g (lw_at lw_m8 1 rfl) rfl
theorem q1807 : (Jvm.Cond.lays "YearSkinsModel" "YearSkinsModel" "read" "LYearSkinsModel$Land;") ∈ lw_all := lw_g (lw_at lw_m8 2 rfl) rfl
theorem q1808 : (Jvm.Cond.soleField "YearSkinsModel" "read") ∈ lw_all := lw_g (lw_at lw_m8 3 rfl) rfl
theorem q1809 : (Jvm.Cond.laysFinal "YearSkinsModel" "YearSkinsModel" "tape" "[B") ∈ lw_all := lw_g (lw_at lw_m8 4 rfl) rfl
theorem q1810 : (Jvm.Cond.soleField "YearSkinsModel" "tape") ∈ lw_all := lw_g (lw_at lw_m8 5 rfl) rfl
theorem q1811 : (Jvm.Cond.lays "YearSkinsModel" "YearSkinsModel" "taped" "I") ∈ lw_all := lw_g (lw_at lw_m8 6 rfl) rfl
theorem q1812 : (Jvm.Cond.soleField "YearSkinsModel" "taped") ∈ lw_all := lw_g (lw_at lw_m8 7 rfl) rfl
theorem q1813 : (Jvm.Cond.lays "YearSkinsModel" "YearSkinsModel" "size" "I") ∈ lw_all := lw_g (lw_at lw_m8 8 rfl) rfl
theorem q1814 : (Jvm.Cond.soleField "YearSkinsModel" "size") ∈ lw_all := lw_g (lw_at lw_m8 9 rfl) rfl
theorem q1815 : (Jvm.Cond.lays "YearSkinsModel" "YearSkinsModel" "spot" "I") ∈ lw_all := lw_g (lw_at lw_m8 10 rfl) rfl
theorem q1816 : (Jvm.Cond.soleField "YearSkinsModel" "spot") ∈ lw_all := lw_g (lw_at lw_m8 11 rfl) rfl
theorem q1817 : (Jvm.Cond.lays "YearSkinsModel" "YearSkinsModel" "sort" "I") ∈ lw_all := lw_g (lw_at lw_m8 12 rfl) rfl
theorem q1818 : (Jvm.Cond.soleField "YearSkinsModel" "sort") ∈ lw_all := lw_g (lw_at lw_m8 13 rfl) rfl
theorem q1819 : (Jvm.Cond.lays "YearSkinsModel" "YearSkinsModel" "place" "I") ∈ lw_all := lw_g (lw_at lw_m8 14 rfl) rfl
theorem q1820 : (Jvm.Cond.soleField "YearSkinsModel" "place") ∈ lw_all := lw_g (lw_at lw_m8 15 rfl) rfl
theorem q1821 : (Jvm.Cond.lays "YearSkinsModel" "YearSkinsModel" "sign" "I") ∈ lw_all := lw_g (lw_at lw_m8 16 rfl) rfl
theorem q1822 : (Jvm.Cond.soleField "YearSkinsModel" "sign") ∈ lw_all := lw_g (lw_at lw_m8 17 rfl) rfl
theorem q1823 : (Jvm.Cond.lays "YearSkinsModel" "YearSkinsModel" "number" "I") ∈ lw_all := lw_g (lw_at lw_m8 18 rfl) rfl
theorem q1824 : (Jvm.Cond.soleField "YearSkinsModel" "number") ∈ lw_all := lw_g (lw_at lw_m8 19 rfl) rfl
theorem q1825 : (Jvm.Cond.lays "YearSkinsModel" "YearSkinsModel" "fault" "I") ∈ lw_all := lw_g (lw_at lw_m8 20 rfl) rfl
theorem q1826 : (Jvm.Cond.soleField "YearSkinsModel" "fault") ∈ lw_all := lw_g (lw_at lw_m8 21 rfl) rfl
theorem q1827 : (Jvm.Cond.lays "YearSkinsModel" "YearSkinsModel" "wrongAt" "I") ∈ lw_all := lw_g (lw_at lw_m8 22 rfl) rfl
theorem q1828 : (Jvm.Cond.soleField "YearSkinsModel" "wrongAt") ∈ lw_all := lw_g (lw_at lw_m8 23 rfl) rfl
theorem q1829 : (Jvm.Cond.lays "YearSkinsModel" "YearSkinsModel" "word" "J") ∈ lw_all := lw_g (lw_at lw_m8 24 rfl) rfl
theorem q1830 : (Jvm.Cond.soleField "YearSkinsModel" "word") ∈ lw_all := lw_g (lw_at lw_m8 25 rfl) rfl
theorem q1831 : (Jvm.Cond.laysFinal "YearSkinsModel" "YearSkinsModel" "v" "[I") ∈ lw_all := lw_g (lw_at lw_m8 26 rfl) rfl
theorem q1832 : (Jvm.Cond.soleField "YearSkinsModel" "v") ∈ lw_all := lw_g (lw_at lw_m8 27 rfl) rfl
theorem q1833 : (Jvm.Cond.laysFinal "YearSkinsModel" "YearSkinsModel" "w" "[I") ∈ lw_all := lw_g (lw_at lw_m8 28 rfl) rfl
theorem q1834 : (Jvm.Cond.soleField "YearSkinsModel" "w") ∈ lw_all := lw_g (lw_at lw_m8 29 rfl) rfl
theorem q1835 : (Jvm.Cond.laysFinal "YearSkinsModel" "YearSkinsModel" "past" "[I") ∈ lw_all := lw_g (lw_at lw_m8 30 rfl) rfl
theorem q1836 : (Jvm.Cond.soleField "YearSkinsModel" "past") ∈ lw_all := lw_g (lw_at lw_m8 31 rfl) rfl
theorem q1837 : (Jvm.Cond.laysFinal "YearSkinsModel" "YearSkinsModel" "kept" "[I") ∈ lw_all := lw_g (lw_at lw_m8 32 rfl) rfl
theorem q1838 : (Jvm.Cond.soleField "YearSkinsModel" "kept") ∈ lw_all := lw_g (lw_at lw_m8 33 rfl) rfl
theorem q1839 : (Jvm.Cond.lays "YearSkinsModel" "YearSkinsModel" "acts" "I") ∈ lw_all := lw_g (lw_at lw_m8 34 rfl) rfl
theorem q1840 : (Jvm.Cond.soleField "YearSkinsModel" "acts") ∈ lw_all := lw_g (lw_at lw_m8 35 rfl) rfl
theorem q1841 : (Jvm.Cond.lays "YearSkinsModel" "YearSkinsModel" "marks" "I") ∈ lw_all := lw_g (lw_at lw_m8 36 rfl) rfl
theorem q1842 : (Jvm.Cond.soleField "YearSkinsModel" "marks") ∈ lw_all := lw_g (lw_at lw_m8 37 rfl) rfl
theorem q1843 : (Jvm.Cond.lays "YearSkinsModel" "YearSkinsModel" "newSide" "I") ∈ lw_all := lw_g (lw_at lw_m8 38 rfl) rfl
theorem q1844 : (Jvm.Cond.soleField "YearSkinsModel" "newSide") ∈ lw_all := lw_g (lw_at lw_m8 39 rfl) rfl
theorem q1845 : (Jvm.Cond.lays "YearSkinsModel" "YearSkinsModel" "newPlace" "I") ∈ lw_all := lw_g (lw_at lw_m8 40 rfl) rfl
theorem q1846 : (Jvm.Cond.soleField "YearSkinsModel" "newPlace") ∈ lw_all := lw_g (lw_at lw_m8 41 rfl) rfl
theorem q1847 : (Jvm.Cond.laysFinal "YearSkinsModel" "YearSkinsModel" "order" "[I") ∈ lw_all := lw_g (lw_at lw_m8 42 rfl) rfl
theorem q1848 : (Jvm.Cond.soleField "YearSkinsModel" "order") ∈ lw_all := lw_g (lw_at lw_m8 43 rfl) rfl
theorem q1849 : (Jvm.Cond.laysFinal "YearSkinsModel" "YearSkinsModel" "bestOrder" "[I") ∈ lw_all := lw_g (lw_at lw_m8 44 rfl) rfl
theorem q1850 : (Jvm.Cond.soleField "YearSkinsModel" "bestOrder") ∈ lw_all := lw_g (lw_at lw_m8 45 rfl) rfl
theorem q1851 : (Jvm.Cond.laysFinal "YearSkinsModel" "YearSkinsModel" "cost" "[I") ∈ lw_all := lw_g (lw_at lw_m8 46 rfl) rfl
theorem q1852 : (Jvm.Cond.soleField "YearSkinsModel" "cost") ∈ lw_all := lw_g (lw_at lw_m8 47 rfl) rfl
theorem q1853 : (Jvm.Cond.laysFinal "YearSkinsModel" "YearSkinsModel" "outer" "[I") ∈ lw_all := lw_g (lw_at lw_m8 48 rfl) rfl
theorem q1854 : (Jvm.Cond.soleField "YearSkinsModel" "outer") ∈ lw_all := lw_g (lw_at lw_m8 49 rfl) rfl
theorem q1855 : (Jvm.Cond.lays "YearSkinsModel" "YearSkinsModel" "firstMost" "I") ∈ lw_all := lw_g (lw_at lw_m8 50 rfl) rfl
theorem q1856 : (Jvm.Cond.soleField "YearSkinsModel" "firstMost") ∈ lw_all := lw_g (lw_at lw_m8 51 rfl) rfl
theorem q1857 : (Jvm.Cond.laysFinal "YearSkinsModel" "YearSkinsModel" "row" "[I") ∈ lw_all := lw_g (lw_at lw_m8 52 rfl) rfl
theorem q1858 : (Jvm.Cond.soleField "YearSkinsModel" "row") ∈ lw_all := lw_g (lw_at lw_m8 53 rfl) rfl
theorem q1859 : (Jvm.Cond.laysFinal "YearSkinsModel" "YearSkinsModel" "soonest" "[I") ∈ lw_all := lw_g (lw_at lw_m8 54 rfl) rfl
theorem q1860 : (Jvm.Cond.soleField "YearSkinsModel" "soonest") ∈ lw_all := lw_g (lw_at lw_m8 55 rfl) rfl
theorem q1861 : (Jvm.Cond.laysFinal "YearSkinsModel" "YearSkinsModel" "latest" "[I") ∈ lw_all := lw_g (lw_at lw_m8 56 rfl) rfl
theorem q1862 : (Jvm.Cond.soleField "YearSkinsModel" "latest") ∈ lw_all := lw_g (lw_at lw_m8 57 rfl) rfl
theorem q1863 : (Jvm.Cond.laysFinal "YearSkinsModel" "YearSkinsModel" "ahead" "[I") ∈ lw_all := lw_g (lw_at lw_m8 58 rfl) rfl
theorem q1864 : (Jvm.Cond.soleField "YearSkinsModel" "ahead") ∈ lw_all := lw_g (lw_at lw_m8 59 rfl) rfl
theorem q1865 : (Jvm.Cond.laysFinal "YearSkinsModel" "YearSkinsModel" "soonYear" "[I") ∈ lw_all := lw_g (lw_at lw_m8 60 rfl) rfl
theorem q1866 : (Jvm.Cond.soleField "YearSkinsModel" "soonYear") ∈ lw_all := lw_g (lw_at lw_m8 61 rfl) rfl
theorem q1867 : (Jvm.Cond.laysFinal "YearSkinsModel" "YearSkinsModel" "lateYear" "[I") ∈ lw_all := lw_g (lw_at lw_m8 62 rfl) rfl
theorem q1868 : (Jvm.Cond.soleField "YearSkinsModel" "lateYear") ∈ lw_all := lw_g (lw_at lw_m8 63 rfl) rfl
theorem q1869 : (Jvm.Cond.laysFinal "YearSkinsModel" "YearSkinsModel" "wanted" "[I") ∈ lw_all := lw_g (lw_at lw_m8 64 rfl) rfl
theorem q1870 : (Jvm.Cond.soleField "YearSkinsModel" "wanted") ∈ lw_all := lw_g (lw_at lw_m8 65 rfl) rfl
theorem q1871 : (Jvm.Cond.lays "YearSkinsModel" "YearSkinsModel" "many" "I") ∈ lw_all := lw_g (lw_at lw_m8 66 rfl) rfl
theorem q1872 : (Jvm.Cond.soleField "YearSkinsModel" "many") ∈ lw_all := lw_g (lw_at lw_m8 67 rfl) rfl
theorem q1873 : (Jvm.Cond.superclass "YearSkinsModel" "java/lang/Object") ∈ lw_all := lw_g (lw_at lw_m8 68 rfl) rfl
theorem q1875 : (Jvm.Cond.instanceMethod ({ cls := "YearSkinsModel", name := "thrown", desc := "()I" } : Jvm.MethodName)) ∈ lw_all := lw_g (lw_at lw_m8 70 rfl) rfl
theorem q1876 : (Jvm.Cond.selects "YearSkinsModel" ({ cls := "YearSkinsModel", name := "thrown", desc := "()I" } : Jvm.MethodName) ({ cls := "YearSkinsModel", name := "thrown", desc := "()I" } : Jvm.MethodName)) ∈ lw_all := lw_g (lw_at lw_m8 71 rfl) rfl
theorem q1877 : (Jvm.Cond.code ({ cls := "YearSkinsModel", name := "thrown", desc := "()I" } : Jvm.MethodName) prog_20_method_2_code (1 : Nat) (Option.some Jvm.ClassFile.FieldType.int)) ∈ lw_all := lw_g (lw_at lw_m8 72 rfl) rfl
theorem q1879 : (Jvm.Cond.instanceMethod ({ cls := "YearSkinsModel", name := "feed", desc := "(IIIII)I" } : Jvm.MethodName)) ∈ lw_all := lw_g (lw_at lw_m8 74 rfl) rfl
theorem q1880 : (Jvm.Cond.selects "YearSkinsModel" ({ cls := "YearSkinsModel", name := "feed", desc := "(IIIII)I" } : Jvm.MethodName) ({ cls := "YearSkinsModel", name := "feed", desc := "(IIIII)I" } : Jvm.MethodName)) ∈ lw_all := lw_g (lw_at lw_m8 75 rfl) rfl
theorem q1881 : (Jvm.Cond.code ({ cls := "YearSkinsModel", name := "feed", desc := "(IIIII)I" } : Jvm.MethodName) prog_20_method_43_code (8 : Nat) (Option.some Jvm.ClassFile.FieldType.int)) ∈ lw_all := lw_g (lw_at lw_m8 76 rfl) rfl
theorem q1883 : (Jvm.Cond.instanceMethod ({ cls := "YearSkinsModel", name := "land", desc := "(I)I" } : Jvm.MethodName)) ∈ lw_all := lw_g (lw_at lw_m8 78 rfl) rfl
theorem q1884 : (Jvm.Cond.selects "YearSkinsModel" ({ cls := "YearSkinsModel", name := "land", desc := "(I)I" } : Jvm.MethodName) ({ cls := "YearSkinsModel", name := "land", desc := "(I)I" } : Jvm.MethodName)) ∈ lw_all := lw_g (lw_at lw_m8 79 rfl) rfl
theorem q1885 : (Jvm.Cond.code ({ cls := "YearSkinsModel", name := "land", desc := "(I)I" } : Jvm.MethodName) prog_20_method_44_code (3 : Nat) (Option.some Jvm.ClassFile.FieldType.int)) ∈ lw_all := lw_g (lw_at lw_m8 80 rfl) rfl
theorem q1886 : (Jvm.Cond.methodLink "YearSkinsModel" (69 : Nat) ({ cls := "YearSkinsModel", name := "refused", desc := "(I)I" } : Jvm.MethodName)) ∈ lw_all := lw_g (lw_at lw_m8 81 rfl) rfl
theorem q1887 : (Jvm.Cond.privateMethod ({ cls := "YearSkinsModel", name := "refused", desc := "(I)I" } : Jvm.MethodName)) ∈ lw_tbl := lw_at lw_m8 82 rfl
theorem q1888 : (Jvm.Cond.instanceMethod ({ cls := "YearSkinsModel", name := "refused", desc := "(I)I" } : Jvm.MethodName)) ∈ lw_all := lw_g (lw_at lw_m8 83 rfl) rfl
theorem q1889 : (Jvm.Cond.code ({ cls := "YearSkinsModel", name := "refused", desc := "(I)I" } : Jvm.MethodName) prog_20_method_3_code (2 : Nat) (Option.some Jvm.ClassFile.FieldType.int)) ∈ lw_all := lw_g (lw_at lw_m8 84 rfl) rfl
theorem q1890 : (Jvm.Cond.classLink "YearSkinsModel" (161 : Nat) "YearSkinsModel$Land") ∈ lw_all := lw_g (lw_at lw_m8 85 rfl) rfl
theorem q1892 : (Jvm.Cond.methodLinkNest "YearSkinsModel" (413 : Nat) ({ cls := "YearSkinsModel$Land", name := "<init>", desc := "()V" } : Jvm.MethodName) "YearSkinsModel") ∈ lw_tbl := lw_at lw_m8 87 rfl
theorem q1897 : (Jvm.Cond.fieldLinkNest "YearSkinsModel" (160 : Nat) "YearSkinsModel$Land" "wide" "I" "YearSkinsModel") ∈ lw_tbl := lw_at lw_m8 92 rfl
theorem q1899 : (Jvm.Cond.fieldLinkNest "YearSkinsModel" (168 : Nat) "YearSkinsModel$Land" "high" "I" "YearSkinsModel") ∈ lw_tbl := lw_at lw_m8 94 rfl
theorem q1901 : (Jvm.Cond.fieldLinkNest "YearSkinsModel" (223 : Nat) "YearSkinsModel$Land" "year" "I" "YearSkinsModel") ∈ lw_tbl := lw_at lw_m8 96 rfl
theorem q1902 : (Jvm.Cond.fieldLinkNest "YearSkinsModel" (296 : Nat) "YearSkinsModel$Land" "births" "I" "YearSkinsModel") ∈ lw_tbl := lw_at lw_m8 97 rfl
theorem q1903 : (Jvm.Cond.fieldLinkNest "YearSkinsModel" (298 : Nat) "YearSkinsModel$Land" "fire" "I" "YearSkinsModel") ∈ lw_tbl := lw_at lw_m8 98 rfl
theorem q1904 : (Jvm.Cond.fieldLinkNest "YearSkinsModel" (300 : Nat) "YearSkinsModel$Land" "earns" "I" "YearSkinsModel") ∈ lw_tbl := lw_at lw_m8 99 rfl
theorem q1905 : (Jvm.Cond.fieldLinkNest "YearSkinsModel" (302 : Nat) "YearSkinsModel$Land" "waters" "I" "YearSkinsModel") ∈ lw_tbl := lw_at lw_m8 100 rfl
theorem q1906 : (Jvm.Cond.fieldLinkNest "YearSkinsModel" (226 : Nat) "YearSkinsModel$Land" "stones" "I" "YearSkinsModel") ∈ lw_tbl := lw_at lw_m8 101 rfl
theorem q1907 : (Jvm.Cond.fieldLinkNest "YearSkinsModel" (229 : Nat) "YearSkinsModel$Land" "houses" "I" "YearSkinsModel") ∈ lw_tbl := lw_at lw_m8 102 rfl
theorem q1908 : (Jvm.Cond.fieldLinkNest "YearSkinsModel" (388 : Nat) "YearSkinsModel$Land" "heirs" "I" "YearSkinsModel") ∈ lw_tbl := lw_at lw_m8 103 rfl
theorem q1909 : (Jvm.Cond.fieldLinkNest "YearSkinsModel" (394 : Nat) "YearSkinsModel$Land" "walls" "I" "YearSkinsModel") ∈ lw_tbl := lw_at lw_m8 104 rfl
theorem q1910 : (Jvm.Cond.fieldLinkNest "YearSkinsModel" (401 : Nat) "YearSkinsModel$Land" "olders" "I" "YearSkinsModel") ∈ lw_tbl := lw_at lw_m8 105 rfl
theorem q1912 : (Jvm.Cond.fieldLinkNest "YearSkinsModel" (205 : Nat) "YearSkinsModel$Land" "names" "I" "YearSkinsModel") ∈ lw_tbl := lw_at lw_m8 107 rfl
theorem q1913 : (Jvm.Cond.fieldLinkNest "YearSkinsModel" (281 : Nat) "YearSkinsModel$Land" "far" "Z" "YearSkinsModel") ∈ lw_tbl := lw_at lw_m8 108 rfl
theorem q1914 : (Jvm.Cond.fieldLinkNest "YearSkinsModel" (284 : Nat) "YearSkinsModel$Land" "share" "Z" "YearSkinsModel") ∈ lw_tbl := lw_at lw_m8 109 rfl
theorem q1916 : (Jvm.Cond.fieldLinkNest "YearSkinsModel" (308 : Nat) "YearSkinsModel$Land" "water" "[Z" "YearSkinsModel") ∈ lw_tbl := lw_at lw_m8 111 rfl
theorem q1918 : (Jvm.Cond.fieldLinkNest "YearSkinsModel" (332 : Nat) "YearSkinsModel$Land" "kind" "[I" "YearSkinsModel") ∈ lw_tbl := lw_at lw_m8 113 rfl
theorem q1920 : (Jvm.Cond.fieldLinkNest "YearSkinsModel" (335 : Nat) "YearSkinsModel$Land" "costs" "[I" "YearSkinsModel") ∈ lw_tbl := lw_at lw_m8 115 rfl
theorem q1922 : (Jvm.Cond.fieldLinkNest "YearSkinsModel" (337 : Nat) "YearSkinsModel$Land" "warm" "[I" "YearSkinsModel") ∈ lw_tbl := lw_at lw_m8 117 rfl
theorem q1924 : (Jvm.Cond.fieldLinkNest "YearSkinsModel" (339 : Nat) "YearSkinsModel$Land" "rots" "[I" "YearSkinsModel") ∈ lw_tbl := lw_at lw_m8 119 rfl
theorem q1926 : (Jvm.Cond.fieldLinkNest "YearSkinsModel" (341 : Nat) "YearSkinsModel$Land" "strong" "[I" "YearSkinsModel") ∈ lw_tbl := lw_at lw_m8 121 rfl
theorem q1928 : (Jvm.Cond.fieldLinkNest "YearSkinsModel" (361 : Nat) "YearSkinsModel$Land" "core" "[I" "YearSkinsModel") ∈ lw_tbl := lw_at lw_m8 123 rfl
theorem q1930 : (Jvm.Cond.fieldLinkNest "YearSkinsModel" (364 : Nat) "YearSkinsModel$Land" "stoneOf" "[I" "YearSkinsModel") ∈ lw_tbl := lw_at lw_m8 125 rfl
theorem q1932 : (Jvm.Cond.fieldLinkNest "YearSkinsModel" (391 : Nat) "YearSkinsModel$Land" "heirHouse" "[I" "YearSkinsModel") ∈ lw_tbl := lw_at lw_m8 127 rfl
theorem q1934 : (Jvm.Cond.fieldLinkNest "YearSkinsModel" (404 : Nat) "YearSkinsModel$Land" "older" "[I" "YearSkinsModel") ∈ lw_tbl := lw_at lw_m8 129 rfl
theorem q1936 : (Jvm.Cond.fieldLinkNest "YearSkinsModel" (397 : Nat) "YearSkinsModel$Land" "coin" "[I" "YearSkinsModel") ∈ lw_tbl := lw_at lw_m8 131 rfl
theorem q1938 : (Jvm.Cond.fieldLinkNest "YearSkinsModel" (399 : Nat) "YearSkinsModel$Land" "smell" "[I" "YearSkinsModel") ∈ lw_tbl := lw_at lw_m8 133 rfl
theorem q1940 : (Jvm.Cond.fieldLinkNest "YearSkinsModel" (201 : Nat) "YearSkinsModel$Land" "name" "[J" "YearSkinsModel") ∈ lw_tbl := lw_at lw_m8 135 rfl
theorem q1942 : (Jvm.Cond.fieldLinkNest "YearSkinsModel" (208 : Nat) "YearSkinsModel$Land" "nameSort" "[I" "YearSkinsModel") ∈ lw_tbl := lw_at lw_m8 137 rfl
theorem q1944 : (Jvm.Cond.fieldLinkNest "YearSkinsModel" (211 : Nat) "YearSkinsModel$Land" "nameNumber" "[I" "YearSkinsModel") ∈ lw_tbl := lw_at lw_m8 139 rfl
theorem q1946 : (Jvm.Cond.fieldLinkNest "YearSkinsModel" (345 : Nat) "YearSkinsModel$Land" "first" "[I" "YearSkinsModel") ∈ lw_tbl := lw_at lw_m8 141 rfl
theorem q2012 : (Jvm.Cond.methodLink "YearSkinsModel" (130 : Nat) ({ cls := "YearSkinsModel", name := "goesOn", desc := "()V" } : Jvm.MethodName)) ∈ lw_all := lw_g (lw_at lw_m8 207 rfl) rfl
theorem q2013 : (Jvm.Cond.privateMethod ({ cls := "YearSkinsModel", name := "goesOn", desc := "()V" } : Jvm.MethodName)) ∈ lw_tbl := lw_at lw_m8 208 rfl
theorem q2014 : (Jvm.Cond.instanceMethod ({ cls := "YearSkinsModel", name := "goesOn", desc := "()V" } : Jvm.MethodName)) ∈ lw_all := lw_g (lw_at lw_m8 209 rfl) rfl
theorem q2015 : (Jvm.Cond.code ({ cls := "YearSkinsModel", name := "goesOn", desc := "()V" } : Jvm.MethodName) prog_20_method_14_code (3 : Nat) (Option.none : Option Jvm.ClassFile.FieldType)) ∈ lw_all := lw_g (lw_at lw_m8 210 rfl) rfl
theorem q2016 : (Jvm.Cond.methodLink "YearSkinsModel" (97 : Nat) ({ cls := "YearSkinsModel", name := "byteAt", desc := "(I)I" } : Jvm.MethodName)) ∈ lw_all := lw_g (lw_at lw_m8 211 rfl) rfl
theorem q2017 : (Jvm.Cond.privateMethod ({ cls := "YearSkinsModel", name := "byteAt", desc := "(I)I" } : Jvm.MethodName)) ∈ lw_tbl := lw_at lw_m8 212 rfl
theorem q2018 : (Jvm.Cond.instanceMethod ({ cls := "YearSkinsModel", name := "byteAt", desc := "(I)I" } : Jvm.MethodName)) ∈ lw_all := lw_g (lw_at lw_m8 213 rfl) rfl
theorem q2019 : (Jvm.Cond.code ({ cls := "YearSkinsModel", name := "byteAt", desc := "(I)I" } : Jvm.MethodName) prog_20_method_10_code (2 : Nat) (Option.some Jvm.ClassFile.FieldType.int)) ∈ lw_all := lw_g (lw_at lw_m8 214 rfl) rfl
theorem q2020 : (Jvm.Cond.methodLink "YearSkinsModel" (106 : Nat) ({ cls := "YearSkinsModel", name := "isLetter", desc := "(I)Z" } : Jvm.MethodName)) ∈ lw_all := lw_g (lw_at lw_m8 215 rfl) rfl
theorem q2021 : (Jvm.Cond.static ({ cls := "YearSkinsModel", name := "isLetter", desc := "(I)Z" } : Jvm.MethodName)) ∈ lw_all := lw_g (lw_at lw_m8 216 rfl) rfl
theorem q2022 : (Jvm.Cond.code ({ cls := "YearSkinsModel", name := "isLetter", desc := "(I)Z" } : Jvm.MethodName) prog_20_method_11_code (1 : Nat) (Option.some Jvm.ClassFile.FieldType.boolean)) ∈ lw_all := lw_g (lw_at lw_m8 217 rfl) rfl
theorem q2023 : (Jvm.Cond.constantLong "YearSkinsModel" (85 : Nat) (32 : Int64)) ∈ lw_all := lw_g (lw_at lw_m8 218 rfl) rfl
theorem q2024 : (Jvm.Cond.methodLink "YearSkinsModel" (114 : Nat) ({ cls := "YearSkinsModel", name := "isDigit", desc := "(I)Z" } : Jvm.MethodName)) ∈ lw_all := lw_g (lw_at lw_m8 219 rfl) rfl
theorem q2025 : (Jvm.Cond.static ({ cls := "YearSkinsModel", name := "isDigit", desc := "(I)Z" } : Jvm.MethodName)) ∈ lw_all := lw_g (lw_at lw_m8 220 rfl) rfl
theorem q2026 : (Jvm.Cond.code ({ cls := "YearSkinsModel", name := "isDigit", desc := "(I)Z" } : Jvm.MethodName) prog_20_method_12_code (1 : Nat) (Option.some Jvm.ClassFile.FieldType.boolean)) ∈ lw_all := lw_g (lw_at lw_m8 221 rfl) rfl
theorem q2027 : (Jvm.Cond.methodLink "YearSkinsModel" (414 : Nat) ({ cls := "YearSkinsModel", name := "readAll", desc := "()V" } : Jvm.MethodName)) ∈ lw_all := lw_g (lw_at lw_m8 222 rfl) rfl
theorem q2028 : (Jvm.Cond.privateMethod ({ cls := "YearSkinsModel", name := "readAll", desc := "()V" } : Jvm.MethodName)) ∈ lw_tbl := lw_at lw_m8 223 rfl
theorem q2029 : (Jvm.Cond.instanceMethod ({ cls := "YearSkinsModel", name := "readAll", desc := "()V" } : Jvm.MethodName)) ∈ lw_all := lw_g (lw_at lw_m8 224 rfl) rfl
theorem q2030 : (Jvm.Cond.code ({ cls := "YearSkinsModel", name := "readAll", desc := "()V" } : Jvm.MethodName) prog_20_method_30_code (2 : Nat) (Option.none : Option Jvm.ClassFile.FieldType)) ∈ lw_all := lw_g (lw_at lw_m8 225 rfl) rfl
theorem q2031 : (Jvm.Cond.methodLink "YearSkinsModel" (217 : Nat) ({ cls := "YearSkinsModel", name := "readLine", desc := "()V" } : Jvm.MethodName)) ∈ lw_all := lw_g (lw_at lw_m8 226 rfl) rfl
theorem q2032 : (Jvm.Cond.privateMethod ({ cls := "YearSkinsModel", name := "readLine", desc := "()V" } : Jvm.MethodName)) ∈ lw_tbl := lw_at lw_m8 227 rfl
theorem q2033 : (Jvm.Cond.instanceMethod ({ cls := "YearSkinsModel", name := "readLine", desc := "()V" } : Jvm.MethodName)) ∈ lw_all := lw_g (lw_at lw_m8 228 rfl) rfl
theorem q2034 : (Jvm.Cond.code ({ cls := "YearSkinsModel", name := "readLine", desc := "()V" } : Jvm.MethodName) prog_20_method_31_code (1 : Nat) (Option.none : Option Jvm.ClassFile.FieldType)) ∈ lw_all := lw_g (lw_at lw_m8 229 rfl) rfl
theorem q2035 : (Jvm.Cond.stringRef "YearSkinsModel" (171 : Nat) "land") ∈ lw_tbl := lw_at lw_m8 230 rfl
theorem q2036 : (Jvm.Cond.methodLink "YearSkinsModel" (133 : Nat) ({ cls := "YearSkinsModel", name := "isWord", desc := "(Ljava/lang/String;)Z" } : Jvm.MethodName)) ∈ lw_all := lw_g (lw_at lw_m8 231 rfl) rfl
theorem q2037 : (Jvm.Cond.privateMethod ({ cls := "YearSkinsModel", name := "isWord", desc := "(Ljava/lang/String;)Z" } : Jvm.MethodName)) ∈ lw_tbl := lw_at lw_m8 232 rfl
theorem q2038 : (Jvm.Cond.instanceMethod ({ cls := "YearSkinsModel", name := "isWord", desc := "(Ljava/lang/String;)Z" } : Jvm.MethodName)) ∈ lw_all := lw_g (lw_at lw_m8 233 rfl) rfl
theorem q2039 : (Jvm.Cond.code ({ cls := "YearSkinsModel", name := "isWord", desc := "(Ljava/lang/String;)Z" } : Jvm.MethodName) prog_20_method_16_code (2 : Nat) (Option.some Jvm.ClassFile.FieldType.boolean)) ∈ lw_all := lw_g (lw_at lw_m8 234 rfl) rfl
theorem q2040 : (Jvm.Cond.methodLink "YearSkinsModel" (126 : Nat) ({ cls := "YearSkinsModel", name := "wordOf", desc := "(Ljava/lang/String;)J" } : Jvm.MethodName)) ∈ lw_all := lw_g (lw_at lw_m8 235 rfl) rfl
theorem q2041 : (Jvm.Cond.static ({ cls := "YearSkinsModel", name := "wordOf", desc := "(Ljava/lang/String;)J" } : Jvm.MethodName)) ∈ lw_all := lw_g (lw_at lw_m8 236 rfl) rfl
theorem q2042 : (Jvm.Cond.code ({ cls := "YearSkinsModel", name := "wordOf", desc := "(Ljava/lang/String;)J" } : Jvm.MethodName) prog_20_method_13_code (4 : Nat) (Option.some Jvm.ClassFile.FieldType.long)) ∈ lw_all := lw_g (lw_at lw_m8 237 rfl) rfl
theorem q2043 : (Jvm.Cond.methodLink "YearSkinsModel" (79 : Nat) ({ cls := "java/lang/String", name := "length", desc := "()I" } : Jvm.MethodName)) ∈ lw_all := lw_g (lw_at lw_m8 238 rfl) rfl
theorem q2051 : (Jvm.Cond.methodLink "YearSkinsModel" (87 : Nat) ({ cls := "java/lang/String", name := "charAt", desc := "(I)C" } : Jvm.MethodName)) ∈ lw_all := lw_g (lw_at lw_m9 6 rfl) rfl
theorem q2071 : (Jvm.Cond.methodLink "YearSkinsModel" (232 : Nat) ({ cls := "YearSkinsModel", name := "readLand", desc := "()V" } : Jvm.MethodName)) ∈ lw_all := lw_g (lw_at lw_m9 26 rfl) rfl
theorem q2072 : (Jvm.Cond.privateMethod ({ cls := "YearSkinsModel", name := "readLand", desc := "()V" } : Jvm.MethodName)) ∈ lw_tbl := lw_at lw_m9 27 rfl
theorem q2073 : (Jvm.Cond.instanceMethod ({ cls := "YearSkinsModel", name := "readLand", desc := "()V" } : Jvm.MethodName)) ∈ lw_all := lw_g (lw_at lw_m9 28 rfl) rfl
theorem q2074 : (Jvm.Cond.code ({ cls := "YearSkinsModel", name := "readLand", desc := "()V" } : Jvm.MethodName) prog_20_method_32_code (5 : Nat) (Option.none : Option Jvm.ClassFile.FieldType)) ∈ lw_all := lw_g (lw_at lw_m9 29 rfl) rfl
theorem q2075 : (Jvm.Cond.methodLink "YearSkinsModel" (137 : Nat) ({ cls := "YearSkinsModel", name := "flaw", desc := "(I)V" } : Jvm.MethodName)) ∈ lw_all := lw_g (lw_at lw_m9 30 rfl) rfl
theorem q2076 : (Jvm.Cond.privateMethod ({ cls := "YearSkinsModel", name := "flaw", desc := "(I)V" } : Jvm.MethodName)) ∈ lw_tbl := lw_at lw_m9 31 rfl
theorem q2077 : (Jvm.Cond.instanceMethod ({ cls := "YearSkinsModel", name := "flaw", desc := "(I)V" } : Jvm.MethodName)) ∈ lw_all := lw_g (lw_at lw_m9 32 rfl) rfl
theorem q2078 : (Jvm.Cond.code ({ cls := "YearSkinsModel", name := "flaw", desc := "(I)V" } : Jvm.MethodName) prog_20_method_15_code (2 : Nat) (Option.none : Option Jvm.ClassFile.FieldType)) ∈ lw_all := lw_g (lw_at lw_m9 33 rfl) rfl
theorem q2079 : (Jvm.Cond.stringRef "YearSkinsModel" (263 : Nat) "wide") ∈ lw_tbl := lw_at lw_m9 34 rfl
theorem q2080 : (Jvm.Cond.methodLink "YearSkinsModel" (264 : Nat) ({ cls := "YearSkinsModel", name := "readPart", desc := "(Ljava/lang/String;II)I" } : Jvm.MethodName)) ∈ lw_all := lw_g (lw_at lw_m9 35 rfl) rfl
theorem q2081 : (Jvm.Cond.privateMethod ({ cls := "YearSkinsModel", name := "readPart", desc := "(Ljava/lang/String;II)I" } : Jvm.MethodName)) ∈ lw_tbl := lw_at lw_m9 36 rfl
theorem q2082 : (Jvm.Cond.instanceMethod ({ cls := "YearSkinsModel", name := "readPart", desc := "(Ljava/lang/String;II)I" } : Jvm.MethodName)) ∈ lw_all := lw_g (lw_at lw_m9 37 rfl) rfl
theorem q2083 : (Jvm.Cond.code ({ cls := "YearSkinsModel", name := "readPart", desc := "(Ljava/lang/String;II)I" } : Jvm.MethodName) prog_20_method_22_code (4 : Nat) (Option.some Jvm.ClassFile.FieldType.int)) ∈ lw_all := lw_g (lw_at lw_m9 38 rfl) rfl
theorem q2084 : (Jvm.Cond.methodLink "YearSkinsModel" (149 : Nat) ({ cls := "YearSkinsModel", name := "needs", desc := "(Ljava/lang/String;)V" } : Jvm.MethodName)) ∈ lw_all := lw_g (lw_at lw_m9 39 rfl) rfl
theorem q2085 : (Jvm.Cond.privateMethod ({ cls := "YearSkinsModel", name := "needs", desc := "(Ljava/lang/String;)V" } : Jvm.MethodName)) ∈ lw_tbl := lw_at lw_m9 40 rfl
theorem q2086 : (Jvm.Cond.instanceMethod ({ cls := "YearSkinsModel", name := "needs", desc := "(Ljava/lang/String;)V" } : Jvm.MethodName)) ∈ lw_all := lw_g (lw_at lw_m9 41 rfl) rfl
theorem q2087 : (Jvm.Cond.code ({ cls := "YearSkinsModel", name := "needs", desc := "(Ljava/lang/String;)V" } : Jvm.MethodName) prog_20_method_18_code (2 : Nat) (Option.none : Option Jvm.ClassFile.FieldType)) ∈ lw_all := lw_g (lw_at lw_m9 42 rfl) rfl
theorem q2088 : (Jvm.Cond.methodLink "YearSkinsModel" (153 : Nat) ({ cls := "YearSkinsModel", name := "readWhole", desc := "(II)I" } : Jvm.MethodName)) ∈ lw_all := lw_g (lw_at lw_m9 43 rfl) rfl
theorem q2089 : (Jvm.Cond.privateMethod ({ cls := "YearSkinsModel", name := "readWhole", desc := "(II)I" } : Jvm.MethodName)) ∈ lw_tbl := lw_at lw_m9 44 rfl
theorem q2090 : (Jvm.Cond.instanceMethod ({ cls := "YearSkinsModel", name := "readWhole", desc := "(II)I" } : Jvm.MethodName)) ∈ lw_all := lw_g (lw_at lw_m9 45 rfl) rfl
theorem q2091 : (Jvm.Cond.code ({ cls := "YearSkinsModel", name := "readWhole", desc := "(II)I" } : Jvm.MethodName) prog_20_method_21_code (4 : Nat) (Option.some Jvm.ClassFile.FieldType.int)) ∈ lw_all := lw_g (lw_at lw_m9 46 rfl) rfl
theorem q2092 : (Jvm.Cond.methodLink "YearSkinsModel" (145 : Nat) ({ cls := "YearSkinsModel", name := "bounded", desc := "(II)I" } : Jvm.MethodName)) ∈ lw_all := lw_g (lw_at lw_m9 47 rfl) rfl
theorem q2093 : (Jvm.Cond.privateMethod ({ cls := "YearSkinsModel", name := "bounded", desc := "(II)I" } : Jvm.MethodName)) ∈ lw_tbl := lw_at lw_m9 48 rfl
theorem q2094 : (Jvm.Cond.instanceMethod ({ cls := "YearSkinsModel", name := "bounded", desc := "(II)I" } : Jvm.MethodName)) ∈ lw_all := lw_g (lw_at lw_m9 49 rfl) rfl
theorem q2095 : (Jvm.Cond.code ({ cls := "YearSkinsModel", name := "bounded", desc := "(II)I" } : Jvm.MethodName) prog_20_method_20_code (3 : Nat) (Option.some Jvm.ClassFile.FieldType.int)) ∈ lw_all := lw_g (lw_at lw_m9 50 rfl) rfl
theorem q2096 : (Jvm.Cond.methodLink "YearSkinsModel" (141 : Nat) ({ cls := "YearSkinsModel", name := "within", desc := "(III)Z" } : Jvm.MethodName)) ∈ lw_all := lw_g (lw_at lw_m9 51 rfl) rfl
theorem q2097 : (Jvm.Cond.static ({ cls := "YearSkinsModel", name := "within", desc := "(III)Z" } : Jvm.MethodName)) ∈ lw_all := lw_g (lw_at lw_m9 52 rfl) rfl
theorem q2098 : (Jvm.Cond.code ({ cls := "YearSkinsModel", name := "within", desc := "(III)Z" } : Jvm.MethodName) prog_20_method_7_code (3 : Nat) (Option.some Jvm.ClassFile.FieldType.boolean)) ∈ lw_all := lw_g (lw_at lw_m9 53 rfl) rfl
theorem q2099 : (Jvm.Cond.stringRef "YearSkinsModel" (268 : Nat) "high") ∈ lw_tbl := lw_at lw_m9 54 rfl
theorem q2100 : (Jvm.Cond.stringRef "YearSkinsModel" (269 : Nat) "doors") ∈ lw_tbl := lw_at lw_m9 55 rfl
theorem q2101 : (Jvm.Cond.stringRef "YearSkinsModel" (271 : Nat) "far") ∈ lw_tbl := lw_at lw_m9 56 rfl
theorem q2102 : (Jvm.Cond.stringRef "YearSkinsModel" (273 : Nat) "near") ∈ lw_tbl := lw_at lw_m9 57 rfl
theorem q2103 : (Jvm.Cond.stringRef "YearSkinsModel" (275 : Nat) "share") ∈ lw_tbl := lw_at lw_m9 58 rfl
theorem q2104 : (Jvm.Cond.stringRef "YearSkinsModel" (277 : Nat) "yes") ∈ lw_tbl := lw_at lw_m9 59 rfl
theorem q2105 : (Jvm.Cond.stringRef "YearSkinsModel" (279 : Nat) "no") ∈ lw_tbl := lw_at lw_m9 60 rfl
theorem q2106 : (Jvm.Cond.stringRef "YearSkinsModel" (173 : Nat) "years") ∈ lw_tbl := lw_at lw_m9 61 rfl
theorem q2107 : (Jvm.Cond.methodLink "YearSkinsModel" (235 : Nat) ({ cls := "YearSkinsModel", name := "readYears", desc := "()V" } : Jvm.MethodName)) ∈ lw_all := lw_g (lw_at lw_m9 62 rfl) rfl
theorem q2108 : (Jvm.Cond.privateMethod ({ cls := "YearSkinsModel", name := "readYears", desc := "()V" } : Jvm.MethodName)) ∈ lw_tbl := lw_at lw_m9 63 rfl
theorem q2109 : (Jvm.Cond.instanceMethod ({ cls := "YearSkinsModel", name := "readYears", desc := "()V" } : Jvm.MethodName)) ∈ lw_all := lw_g (lw_at lw_m9 64 rfl) rfl
theorem q2110 : (Jvm.Cond.code ({ cls := "YearSkinsModel", name := "readYears", desc := "()V" } : Jvm.MethodName) prog_20_method_33_code (5 : Nat) (Option.none : Option Jvm.ClassFile.FieldType)) ∈ lw_all := lw_g (lw_at lw_m9 65 rfl) rfl
theorem q2111 : (Jvm.Cond.methodLink "YearSkinsModel" (286 : Nat) ({ cls := "YearSkinsModel", name := "begins", desc := "(II)V" } : Jvm.MethodName)) ∈ lw_all := lw_g (lw_at lw_m9 66 rfl) rfl
theorem q2112 : (Jvm.Cond.privateMethod ({ cls := "YearSkinsModel", name := "begins", desc := "(II)V" } : Jvm.MethodName)) ∈ lw_tbl := lw_at lw_m9 67 rfl
theorem q2113 : (Jvm.Cond.instanceMethod ({ cls := "YearSkinsModel", name := "begins", desc := "(II)V" } : Jvm.MethodName)) ∈ lw_all := lw_g (lw_at lw_m9 68 rfl) rfl
theorem q2114 : (Jvm.Cond.code ({ cls := "YearSkinsModel", name := "begins", desc := "(II)V" } : Jvm.MethodName) prog_20_method_25_code (3 : Nat) (Option.none : Option Jvm.ClassFile.FieldType)) ∈ lw_all := lw_g (lw_at lw_m9 69 rfl) rfl
theorem q2115 : (Jvm.Cond.stringRef "YearSkinsModel" (290 : Nat) "births") ∈ lw_tbl := lw_at lw_m9 70 rfl
theorem q2116 : (Jvm.Cond.stringRef "YearSkinsModel" (292 : Nat) "fire") ∈ lw_tbl := lw_at lw_m9 71 rfl
theorem q2117 : (Jvm.Cond.stringRef "YearSkinsModel" (294 : Nat) "earns") ∈ lw_tbl := lw_at lw_m9 72 rfl
theorem q2118 : (Jvm.Cond.stringRef "YearSkinsModel" (175 : Nat) "water") ∈ lw_tbl := lw_at lw_m9 73 rfl
theorem q2119 : (Jvm.Cond.methodLink "YearSkinsModel" (238 : Nat) ({ cls := "YearSkinsModel", name := "readWater", desc := "()V" } : Jvm.MethodName)) ∈ lw_all := lw_g (lw_at lw_m9 74 rfl) rfl
theorem q2120 : (Jvm.Cond.privateMethod ({ cls := "YearSkinsModel", name := "readWater", desc := "()V" } : Jvm.MethodName)) ∈ lw_tbl := lw_at lw_m9 75 rfl
theorem q2121 : (Jvm.Cond.instanceMethod ({ cls := "YearSkinsModel", name := "readWater", desc := "()V" } : Jvm.MethodName)) ∈ lw_all := lw_g (lw_at lw_m9 76 rfl) rfl
theorem q2122 : (Jvm.Cond.code ({ cls := "YearSkinsModel", name := "readWater", desc := "()V" } : Jvm.MethodName) prog_20_method_34_code (2 : Nat) (Option.none : Option Jvm.ClassFile.FieldType)) ∈ lw_all := lw_g (lw_at lw_m9 77 rfl) rfl
theorem q2123 : (Jvm.Cond.methodLink "YearSkinsModel" (305 : Nat) ({ cls := "YearSkinsModel", name := "knownCell", desc := "()I" } : Jvm.MethodName)) ∈ lw_all := lw_g (lw_at lw_m9 78 rfl) rfl
theorem q2124 : (Jvm.Cond.privateMethod ({ cls := "YearSkinsModel", name := "knownCell", desc := "()I" } : Jvm.MethodName)) ∈ lw_tbl := lw_at lw_m9 79 rfl
theorem q2125 : (Jvm.Cond.instanceMethod ({ cls := "YearSkinsModel", name := "knownCell", desc := "()I" } : Jvm.MethodName)) ∈ lw_all := lw_g (lw_at lw_m9 80 rfl) rfl
theorem q2126 : (Jvm.Cond.code ({ cls := "YearSkinsModel", name := "knownCell", desc := "()I" } : Jvm.MethodName) prog_20_method_23_code (2 : Nat) (Option.some Jvm.ClassFile.FieldType.int)) ∈ lw_all := lw_g (lw_at lw_m9 81 rfl) rfl
theorem q2127 : (Jvm.Cond.methodLink "YearSkinsModel" (165 : Nat) ({ cls := "YearSkinsModel", name := "needsSign", desc := "(I)V" } : Jvm.MethodName)) ∈ lw_all := lw_g (lw_at lw_m9 82 rfl) rfl
theorem q2128 : (Jvm.Cond.privateMethod ({ cls := "YearSkinsModel", name := "needsSign", desc := "(I)V" } : Jvm.MethodName)) ∈ lw_tbl := lw_at lw_m9 83 rfl
theorem q2129 : (Jvm.Cond.instanceMethod ({ cls := "YearSkinsModel", name := "needsSign", desc := "(I)V" } : Jvm.MethodName)) ∈ lw_all := lw_g (lw_at lw_m9 84 rfl) rfl
theorem q2130 : (Jvm.Cond.code ({ cls := "YearSkinsModel", name := "needsSign", desc := "(I)V" } : Jvm.MethodName) prog_20_method_19_code (2 : Nat) (Option.none : Option Jvm.ClassFile.FieldType)) ∈ lw_all := lw_g (lw_at lw_m9 85 rfl) rfl
theorem q2131 : (Jvm.Cond.stringRef "YearSkinsModel" (177 : Nat) "stone") ∈ lw_tbl := lw_at lw_m9 86 rfl
theorem q2132 : (Jvm.Cond.methodLink "YearSkinsModel" (241 : Nat) ({ cls := "YearSkinsModel", name := "readStone", desc := "()V" } : Jvm.MethodName)) ∈ lw_all := lw_g (lw_at lw_m9 87 rfl) rfl
theorem q2133 : (Jvm.Cond.privateMethod ({ cls := "YearSkinsModel", name := "readStone", desc := "()V" } : Jvm.MethodName)) ∈ lw_tbl := lw_at lw_m9 88 rfl
theorem q2134 : (Jvm.Cond.instanceMethod ({ cls := "YearSkinsModel", name := "readStone", desc := "()V" } : Jvm.MethodName)) ∈ lw_all := lw_g (lw_at lw_m9 89 rfl) rfl
theorem q2135 : (Jvm.Cond.code ({ cls := "YearSkinsModel", name := "readStone", desc := "()V" } : Jvm.MethodName) prog_20_method_35_code (9 : Nat) (Option.none : Option Jvm.ClassFile.FieldType)) ∈ lw_all := lw_g (lw_at lw_m9 90 rfl) rfl
theorem q2136 : (Jvm.Cond.methodLink "YearSkinsModel" (311 : Nat) ({ cls := "YearSkinsModel", name := "readFresh", desc := "()J" } : Jvm.MethodName)) ∈ lw_all := lw_g (lw_at lw_m9 91 rfl) rfl
theorem q2137 : (Jvm.Cond.privateMethod ({ cls := "YearSkinsModel", name := "readFresh", desc := "()J" } : Jvm.MethodName)) ∈ lw_tbl := lw_at lw_m9 92 rfl
theorem q2138 : (Jvm.Cond.instanceMethod ({ cls := "YearSkinsModel", name := "readFresh", desc := "()J" } : Jvm.MethodName)) ∈ lw_all := lw_g (lw_at lw_m9 93 rfl) rfl
theorem q2139 : (Jvm.Cond.code ({ cls := "YearSkinsModel", name := "readFresh", desc := "()J" } : Jvm.MethodName) prog_20_method_26_code (3 : Nat) (Option.some Jvm.ClassFile.FieldType.long)) ∈ lw_all := lw_g (lw_at lw_m9 94 rfl) rfl
theorem q2140 : (Jvm.Cond.methodLink "YearSkinsModel" (193 : Nat) ({ cls := "YearSkinsModel", name := "isName", desc := "()Z" } : Jvm.MethodName)) ∈ lw_all := lw_g (lw_at lw_m9 95 rfl) rfl
theorem q2141 : (Jvm.Cond.privateMethod ({ cls := "YearSkinsModel", name := "isName", desc := "()Z" } : Jvm.MethodName)) ∈ lw_tbl := lw_at lw_m9 96 rfl
theorem q2142 : (Jvm.Cond.instanceMethod ({ cls := "YearSkinsModel", name := "isName", desc := "()Z" } : Jvm.MethodName)) ∈ lw_all := lw_g (lw_at lw_m9 97 rfl) rfl
theorem q2143 : (Jvm.Cond.code ({ cls := "YearSkinsModel", name := "isName", desc := "()Z" } : Jvm.MethodName) prog_20_method_24_code (1 : Nat) (Option.some Jvm.ClassFile.FieldType.boolean)) ∈ lw_all := lw_g (lw_at lw_m9 98 rfl) rfl
theorem q2144 : (Jvm.Cond.stringRef "YearSkinsModel" (179 : Nat) "house") ∈ lw_tbl := lw_at lw_m9 99 rfl
theorem q2145 : (Jvm.Cond.stringRef "YearSkinsModel" (181 : Nat) "skin") ∈ lw_tbl := lw_at lw_m9 100 rfl
theorem q2146 : (Jvm.Cond.stringRef "YearSkinsModel" (183 : Nat) "heir") ∈ lw_tbl := lw_at lw_m9 101 rfl
theorem q2147 : (Jvm.Cond.stringRef "YearSkinsModel" (185 : Nat) "wall") ∈ lw_tbl := lw_at lw_m9 102 rfl
theorem q2148 : (Jvm.Cond.stringRef "YearSkinsModel" (187 : Nat) "older") ∈ lw_tbl := lw_at lw_m9 103 rfl
theorem q2149 : (Jvm.Cond.stringRef "YearSkinsModel" (189 : Nat) "coin") ∈ lw_tbl := lw_at lw_m9 104 rfl
theorem q2150 : (Jvm.Cond.stringRef "YearSkinsModel" (191 : Nat) "smell") ∈ lw_tbl := lw_at lw_m9 105 rfl
theorem q2151 : (Jvm.Cond.methodLink "YearSkinsModel" (197 : Nat) ({ cls := "YearSkinsModel$Land", name := "find", desc := "(J)I" } : Jvm.MethodName)) ∈ lw_all := lw_g (lw_at lw_m9 106 rfl) rfl
theorem q2155 : (Jvm.Cond.stringRef "YearSkinsModel" (315 : Nat) "hard") ∈ lw_tbl := lw_at lw_m9 110 rfl
theorem q2156 : (Jvm.Cond.stringRef "YearSkinsModel" (317 : Nat) "soft") ∈ lw_tbl := lw_at lw_m9 111 rfl
theorem q2157 : (Jvm.Cond.stringRef "YearSkinsModel" (319 : Nat) "wood") ∈ lw_tbl := lw_at lw_m9 112 rfl
theorem q2158 : (Jvm.Cond.stringRef "YearSkinsModel" (321 : Nat) "costs") ∈ lw_tbl := lw_at lw_m9 113 rfl
theorem q2159 : (Jvm.Cond.stringRef "YearSkinsModel" (323 : Nat) "warm") ∈ lw_tbl := lw_at lw_m9 114 rfl
theorem q2160 : (Jvm.Cond.stringRef "YearSkinsModel" (325 : Nat) "rots") ∈ lw_tbl := lw_at lw_m9 115 rfl
theorem q2161 : (Jvm.Cond.stringRef "YearSkinsModel" (327 : Nat) "strong") ∈ lw_tbl := lw_at lw_m9 116 rfl
theorem q2162 : (Jvm.Cond.methodLink "YearSkinsModel" (329 : Nat) ({ cls := "YearSkinsModel", name := "names", desc := "(JII)V" } : Jvm.MethodName)) ∈ lw_all := lw_g (lw_at lw_m9 117 rfl) rfl
theorem q2163 : (Jvm.Cond.privateMethod ({ cls := "YearSkinsModel", name := "names", desc := "(JII)V" } : Jvm.MethodName)) ∈ lw_tbl := lw_at lw_m9 118 rfl
theorem q2164 : (Jvm.Cond.instanceMethod ({ cls := "YearSkinsModel", name := "names", desc := "(JII)V" } : Jvm.MethodName)) ∈ lw_all := lw_g (lw_at lw_m9 119 rfl) rfl
theorem q2165 : (Jvm.Cond.code ({ cls := "YearSkinsModel", name := "names", desc := "(JII)V" } : Jvm.MethodName) prog_20_method_27_code (5 : Nat) (Option.none : Option Jvm.ClassFile.FieldType)) ∈ lw_all := lw_g (lw_at lw_m9 120 rfl) rfl
theorem q2166 : (Jvm.Cond.methodLink "YearSkinsModel" (244 : Nat) ({ cls := "YearSkinsModel", name := "readHouse", desc := "()V" } : Jvm.MethodName)) ∈ lw_all := lw_g (lw_at lw_m9 121 rfl) rfl
theorem q2167 : (Jvm.Cond.privateMethod ({ cls := "YearSkinsModel", name := "readHouse", desc := "()V" } : Jvm.MethodName)) ∈ lw_tbl := lw_at lw_m9 122 rfl
theorem q2168 : (Jvm.Cond.instanceMethod ({ cls := "YearSkinsModel", name := "readHouse", desc := "()V" } : Jvm.MethodName)) ∈ lw_all := lw_g (lw_at lw_m9 123 rfl) rfl
theorem q2169 : (Jvm.Cond.code ({ cls := "YearSkinsModel", name := "readHouse", desc := "()V" } : Jvm.MethodName) prog_20_method_36_code (8 : Nat) (Option.none : Option Jvm.ClassFile.FieldType)) ∈ lw_all := lw_g (lw_at lw_m9 124 rfl) rfl
theorem q2170 : (Jvm.Cond.stringRef "YearSkinsModel" (343 : Nat) "at") ∈ lw_tbl := lw_at lw_m9 125 rfl
theorem q2171 : (Jvm.Cond.methodLink "YearSkinsModel" (348 : Nat) ({ cls := "YearSkinsModel", name := "ownersOf", desc := "(LYearSkinsModel$Land;[III)I" } : Jvm.MethodName)) ∈ lw_all := lw_g (lw_at lw_m9 126 rfl) rfl
theorem q2172 : (Jvm.Cond.static ({ cls := "YearSkinsModel", name := "ownersOf", desc := "(LYearSkinsModel$Land;[III)I" } : Jvm.MethodName)) ∈ lw_all := lw_g (lw_at lw_m9 127 rfl) rfl
theorem q2173 : (Jvm.Cond.code ({ cls := "YearSkinsModel", name := "ownersOf", desc := "(LYearSkinsModel$Land;[III)I" } : Jvm.MethodName) prog_20_method_49_code (6 : Nat) (Option.some Jvm.ClassFile.FieldType.int)) ∈ lw_all := lw_g (lw_at lw_m9 128 rfl) rfl
theorem q2174 : (Jvm.Cond.methodLink "YearSkinsModel" (429 : Nat) ({ cls := "YearSkinsModel$Land", name := "far", desc := "(III)I" } : Jvm.MethodName)) ∈ lw_all := lw_g (lw_at lw_m9 129 rfl) rfl
theorem q2186 : (Jvm.Cond.stringRef "YearSkinsModel" (352 : Nat) "of") ∈ lw_tbl := lw_at lw_m9 141 rfl
theorem q2187 : (Jvm.Cond.methodLink "YearSkinsModel" (354 : Nat) ({ cls := "YearSkinsModel", name := "readKnown", desc := "(I)I" } : Jvm.MethodName)) ∈ lw_all := lw_g (lw_at lw_m9 142 rfl) rfl
theorem q2188 : (Jvm.Cond.privateMethod ({ cls := "YearSkinsModel", name := "readKnown", desc := "(I)I" } : Jvm.MethodName)) ∈ lw_tbl := lw_at lw_m9 143 rfl
theorem q2189 : (Jvm.Cond.instanceMethod ({ cls := "YearSkinsModel", name := "readKnown", desc := "(I)I" } : Jvm.MethodName)) ∈ lw_all := lw_g (lw_at lw_m9 144 rfl) rfl
theorem q2190 : (Jvm.Cond.code ({ cls := "YearSkinsModel", name := "readKnown", desc := "(I)I" } : Jvm.MethodName) prog_20_method_29_code (3 : Nat) (Option.some Jvm.ClassFile.FieldType.int)) ∈ lw_all := lw_g (lw_at lw_m9 145 rfl) rfl
theorem q2191 : (Jvm.Cond.methodLink "YearSkinsModel" (214 : Nat) ({ cls := "YearSkinsModel", name := "known", desc := "(I)I" } : Jvm.MethodName)) ∈ lw_all := lw_g (lw_at lw_m9 146 rfl) rfl
theorem q2192 : (Jvm.Cond.privateMethod ({ cls := "YearSkinsModel", name := "known", desc := "(I)I" } : Jvm.MethodName)) ∈ lw_tbl := lw_at lw_m9 147 rfl
theorem q2193 : (Jvm.Cond.instanceMethod ({ cls := "YearSkinsModel", name := "known", desc := "(I)I" } : Jvm.MethodName)) ∈ lw_all := lw_g (lw_at lw_m9 148 rfl) rfl
theorem q2194 : (Jvm.Cond.code ({ cls := "YearSkinsModel", name := "known", desc := "(I)I" } : Jvm.MethodName) prog_20_method_28_code (3 : Nat) (Option.some Jvm.ClassFile.FieldType.int)) ∈ lw_all := lw_g (lw_at lw_m9 149 rfl) rfl
theorem q2195 : (Jvm.Cond.stringRef "YearSkinsModel" (357 : Nat) "family") ∈ lw_tbl := lw_at lw_m9 150 rfl
theorem q2196 : (Jvm.Cond.stringRef "YearSkinsModel" (359 : Nat) "gold") ∈ lw_tbl := lw_at lw_m9 151 rfl
theorem q2197 : (Jvm.Cond.methodLink "YearSkinsModel" (247 : Nat) ({ cls := "YearSkinsModel", name := "readSkin", desc := "()V" } : Jvm.MethodName)) ∈ lw_all := lw_g (lw_at lw_m9 152 rfl) rfl
theorem q2198 : (Jvm.Cond.privateMethod ({ cls := "YearSkinsModel", name := "readSkin", desc := "()V" } : Jvm.MethodName)) ∈ lw_tbl := lw_at lw_m9 153 rfl
theorem q2199 : (Jvm.Cond.instanceMethod ({ cls := "YearSkinsModel", name := "readSkin", desc := "()V" } : Jvm.MethodName)) ∈ lw_all := lw_g (lw_at lw_m9 154 rfl) rfl
theorem q2200 : (Jvm.Cond.code ({ cls := "YearSkinsModel", name := "readSkin", desc := "()V" } : Jvm.MethodName) prog_20_method_38_code (6 : Nat) (Option.none : Option Jvm.ClassFile.FieldType)) ∈ lw_all := lw_g (lw_at lw_m9 155 rfl) rfl
theorem q2201 : (Jvm.Cond.methodLink "YearSkinsModel" (375 : Nat) ({ cls := "YearSkinsModel", name := "fitsIn", desc := "(LYearSkinsModel$Land;[II)Z" } : Jvm.MethodName)) ∈ lw_all := lw_g (lw_at lw_m9 156 rfl) rfl
theorem q2202 : (Jvm.Cond.static ({ cls := "YearSkinsModel", name := "fitsIn", desc := "(LYearSkinsModel$Land;[II)Z" } : Jvm.MethodName)) ∈ lw_all := lw_g (lw_at lw_m9 157 rfl) rfl
theorem q2203 : (Jvm.Cond.code ({ cls := "YearSkinsModel", name := "fitsIn", desc := "(LYearSkinsModel$Land;[II)Z" } : Jvm.MethodName) prog_20_method_50_code (7 : Nat) (Option.some Jvm.ClassFile.FieldType.boolean)) ∈ lw_all := lw_g (lw_at lw_m9 158 rfl) rfl
theorem q2204 : (Jvm.Cond.methodLink "YearSkinsModel" (431 : Nat) ({ cls := "YearSkinsModel$Land", name := "y", desc := "(I)I" } : Jvm.MethodName)) ∈ lw_all := lw_g (lw_at lw_m9 159 rfl) rfl
theorem q2205 : (Jvm.Cond.methodLink "YearSkinsModel" (434 : Nat) ({ cls := "YearSkinsModel$Land", name := "x", desc := "(I)I" } : Jvm.MethodName)) ∈ lw_all := lw_g (lw_at lw_m9 160 rfl) rfl
theorem q2206 : (Jvm.Cond.methodLink "YearSkinsModel" (437 : Nat) ({ cls := "YearSkinsModel$Land", name := "isLand", desc := "(II)Z" } : Jvm.MethodName)) ∈ lw_all := lw_g (lw_at lw_m9 161 rfl) rfl
theorem q2211 : (Jvm.Cond.methodLink "YearSkinsModel" (379 : Nat) ({ cls := "YearSkinsModel", name := "readSide", desc := "()I" } : Jvm.MethodName)) ∈ lw_all := lw_g (lw_at lw_m9 166 rfl) rfl
theorem q2212 : (Jvm.Cond.privateMethod ({ cls := "YearSkinsModel", name := "readSide", desc := "()I" } : Jvm.MethodName)) ∈ lw_tbl := lw_at lw_m9 167 rfl
theorem q2213 : (Jvm.Cond.instanceMethod ({ cls := "YearSkinsModel", name := "readSide", desc := "()I" } : Jvm.MethodName)) ∈ lw_all := lw_g (lw_at lw_m9 168 rfl) rfl
theorem q2214 : (Jvm.Cond.code ({ cls := "YearSkinsModel", name := "readSide", desc := "()I" } : Jvm.MethodName) prog_20_method_37_code (2 : Nat) (Option.some Jvm.ClassFile.FieldType.int)) ∈ lw_all := lw_g (lw_at lw_m9 169 rfl) rfl
theorem q2215 : (Jvm.Cond.stringRef "YearSkinsModel" (367 : Nat) "north") ∈ lw_tbl := lw_at lw_m9 170 rfl
theorem q2216 : (Jvm.Cond.stringRef "YearSkinsModel" (369 : Nat) "east") ∈ lw_tbl := lw_at lw_m9 171 rfl
theorem q2217 : (Jvm.Cond.stringRef "YearSkinsModel" (371 : Nat) "south") ∈ lw_tbl := lw_at lw_m9 172 rfl
theorem q2218 : (Jvm.Cond.stringRef "YearSkinsModel" (373 : Nat) "west") ∈ lw_tbl := lw_at lw_m9 173 rfl
theorem q2219 : (Jvm.Cond.stringRef "YearSkinsModel" (382 : Nat) "lock") ∈ lw_tbl := lw_at lw_m9 174 rfl
theorem q2220 : (Jvm.Cond.methodLink "YearSkinsModel" (384 : Nat) ({ cls := "YearSkinsModel", name := "adds", desc := "([IIIIIII)V" } : Jvm.MethodName)) ∈ lw_all := lw_g (lw_at lw_m9 175 rfl) rfl
theorem q2221 : (Jvm.Cond.static ({ cls := "YearSkinsModel", name := "adds", desc := "([IIIIIII)V" } : Jvm.MethodName)) ∈ lw_all := lw_g (lw_at lw_m9 176 rfl) rfl
theorem q2222 : (Jvm.Cond.code ({ cls := "YearSkinsModel", name := "adds", desc := "([IIIIIII)V" } : Jvm.MethodName) prog_20_method_48_code (8 : Nat) (Option.none : Option Jvm.ClassFile.FieldType)) ∈ lw_all := lw_g (lw_at lw_m9 177 rfl) rfl
theorem q2223 : (Jvm.Cond.methodLink "YearSkinsModel" (425 : Nat) ({ cls := "YearSkinsModel", name := "part", desc := "(III)I" } : Jvm.MethodName)) ∈ lw_all := lw_g (lw_at lw_m9 178 rfl) rfl
theorem q2224 : (Jvm.Cond.static ({ cls := "YearSkinsModel", name := "part", desc := "(III)I" } : Jvm.MethodName)) ∈ lw_all := lw_g (lw_at lw_m9 179 rfl) rfl
theorem q2225 : (Jvm.Cond.code ({ cls := "YearSkinsModel", name := "part", desc := "(III)I" } : Jvm.MethodName) prog_20_method_47_code (3 : Nat) (Option.some Jvm.ClassFile.FieldType.int)) ∈ lw_all := lw_g (lw_at lw_m9 180 rfl) rfl
theorem q2226 : (Jvm.Cond.methodLink "YearSkinsModel" (250 : Nat) ({ cls := "YearSkinsModel", name := "readHeir", desc := "()V" } : Jvm.MethodName)) ∈ lw_all := lw_g (lw_at lw_m9 181 rfl) rfl
theorem q2227 : (Jvm.Cond.privateMethod ({ cls := "YearSkinsModel", name := "readHeir", desc := "()V" } : Jvm.MethodName)) ∈ lw_tbl := lw_at lw_m9 182 rfl
theorem q2228 : (Jvm.Cond.instanceMethod ({ cls := "YearSkinsModel", name := "readHeir", desc := "()V" } : Jvm.MethodName)) ∈ lw_all := lw_g (lw_at lw_m9 183 rfl) rfl
theorem q2229 : (Jvm.Cond.code ({ cls := "YearSkinsModel", name := "readHeir", desc := "()V" } : Jvm.MethodName) prog_20_method_39_code (5 : Nat) (Option.none : Option Jvm.ClassFile.FieldType)) ∈ lw_all := lw_g (lw_at lw_m9 184 rfl) rfl
theorem q2230 : (Jvm.Cond.methodLink "YearSkinsModel" (253 : Nat) ({ cls := "YearSkinsModel", name := "readWall", desc := "()V" } : Jvm.MethodName)) ∈ lw_all := lw_g (lw_at lw_m9 185 rfl) rfl
theorem q2231 : (Jvm.Cond.privateMethod ({ cls := "YearSkinsModel", name := "readWall", desc := "()V" } : Jvm.MethodName)) ∈ lw_tbl := lw_at lw_m9 186 rfl
theorem q2232 : (Jvm.Cond.instanceMethod ({ cls := "YearSkinsModel", name := "readWall", desc := "()V" } : Jvm.MethodName)) ∈ lw_all := lw_g (lw_at lw_m9 187 rfl) rfl
theorem q2233 : (Jvm.Cond.code ({ cls := "YearSkinsModel", name := "readWall", desc := "()V" } : Jvm.MethodName) prog_20_method_40_code (3 : Nat) (Option.none : Option Jvm.ClassFile.FieldType)) ∈ lw_all := lw_g (lw_at lw_m9 188 rfl) rfl
theorem q2234 : (Jvm.Cond.methodLink "YearSkinsModel" (256 : Nat) ({ cls := "YearSkinsModel", name := "readOlder", desc := "()V" } : Jvm.MethodName)) ∈ lw_all := lw_g (lw_at lw_m9 189 rfl) rfl
theorem q2235 : (Jvm.Cond.privateMethod ({ cls := "YearSkinsModel", name := "readOlder", desc := "()V" } : Jvm.MethodName)) ∈ lw_tbl := lw_at lw_m9 190 rfl
theorem q2236 : (Jvm.Cond.instanceMethod ({ cls := "YearSkinsModel", name := "readOlder", desc := "()V" } : Jvm.MethodName)) ∈ lw_all := lw_g (lw_at lw_m9 191 rfl) rfl
theorem q2237 : (Jvm.Cond.code ({ cls := "YearSkinsModel", name := "readOlder", desc := "()V" } : Jvm.MethodName) prog_20_method_41_code (3 : Nat) (Option.none : Option Jvm.ClassFile.FieldType)) ∈ lw_all := lw_g (lw_at lw_m9 192 rfl) rfl
theorem q2238 : (Jvm.Cond.methodLink "YearSkinsModel" (406 : Nat) ({ cls := "YearSkinsModel", name := "bit", desc := "(II)Z" } : Jvm.MethodName)) ∈ lw_all := lw_g (lw_at lw_m9 193 rfl) rfl
theorem q2239 : (Jvm.Cond.static ({ cls := "YearSkinsModel", name := "bit", desc := "(II)Z" } : Jvm.MethodName)) ∈ lw_all := lw_g (lw_at lw_m9 194 rfl) rfl
theorem q2240 : (Jvm.Cond.code ({ cls := "YearSkinsModel", name := "bit", desc := "(II)Z" } : Jvm.MethodName) prog_20_method_8_code (2 : Nat) (Option.some Jvm.ClassFile.FieldType.boolean)) ∈ lw_all := lw_g (lw_at lw_m9 195 rfl) rfl
theorem q2241 : (Jvm.Cond.methodLink "YearSkinsModel" (259 : Nat) ({ cls := "YearSkinsModel", name := "readSign", desc := "(Z)V" } : Jvm.MethodName)) ∈ lw_all := lw_g (lw_at lw_m9 196 rfl) rfl
theorem q2242 : (Jvm.Cond.privateMethod ({ cls := "YearSkinsModel", name := "readSign", desc := "(Z)V" } : Jvm.MethodName)) ∈ lw_tbl := lw_at lw_m9 197 rfl
theorem q2243 : (Jvm.Cond.instanceMethod ({ cls := "YearSkinsModel", name := "readSign", desc := "(Z)V" } : Jvm.MethodName)) ∈ lw_all := lw_g (lw_at lw_m9 198 rfl) rfl
theorem q2244 : (Jvm.Cond.code ({ cls := "YearSkinsModel", name := "readSign", desc := "(Z)V" } : Jvm.MethodName) prog_20_method_42_code (4 : Nat) (Option.none : Option Jvm.ClassFile.FieldType)) ∈ lw_all := lw_g (lw_at lw_m9 199 rfl) rfl
theorem q2245 : (Jvm.Cond.methodLink "YearSkinsModel" (220 : Nat) ({ cls := "YearSkinsModel", name := "eatsSign", desc := "(I)Z" } : Jvm.MethodName)) ∈ lw_all := lw_g (lw_at lw_m9 200 rfl) rfl
theorem q2246 : (Jvm.Cond.privateMethod ({ cls := "YearSkinsModel", name := "eatsSign", desc := "(I)Z" } : Jvm.MethodName)) ∈ lw_tbl := lw_at lw_m9 201 rfl
theorem q2247 : (Jvm.Cond.instanceMethod ({ cls := "YearSkinsModel", name := "eatsSign", desc := "(I)Z" } : Jvm.MethodName)) ∈ lw_all := lw_g (lw_at lw_m9 202 rfl) rfl
theorem q2248 : (Jvm.Cond.code ({ cls := "YearSkinsModel", name := "eatsSign", desc := "(I)Z" } : Jvm.MethodName) prog_20_method_17_code (3 : Nat) (Option.some Jvm.ClassFile.FieldType.boolean)) ∈ lw_all := lw_g (lw_at lw_m9 203 rfl) rfl
theorem q2249 : (Jvm.Cond.methodLink "YearSkinsModel" (73 : Nat) ({ cls := "YearSkinsModel", name := "good", desc := "(I)I" } : Jvm.MethodName)) ∈ lw_all := lw_g (lw_at lw_m9 204 rfl) rfl
theorem q2250 : (Jvm.Cond.privateMethod ({ cls := "YearSkinsModel", name := "good", desc := "(I)I" } : Jvm.MethodName)) ∈ lw_tbl := lw_at lw_m9 205 rfl
theorem q2251 : (Jvm.Cond.instanceMethod ({ cls := "YearSkinsModel", name := "good", desc := "(I)I" } : Jvm.MethodName)) ∈ lw_all := lw_g (lw_at lw_m9 206 rfl) rfl
theorem q2252 : (Jvm.Cond.code ({ cls := "YearSkinsModel", name := "good", desc := "(I)I" } : Jvm.MethodName) prog_20_method_5_code (2 : Nat) (Option.some Jvm.ClassFile.FieldType.int)) ∈ lw_all := lw_g (lw_at lw_m9 207 rfl) rfl
theorem q2254 : (Jvm.Cond.instanceMethod ({ cls := "YearSkinsModel", name := "fault", desc := "()I" } : Jvm.MethodName)) ∈ lw_all := lw_g (lw_at lw_m9 209 rfl) rfl
theorem q2255 : (Jvm.Cond.selects "YearSkinsModel" ({ cls := "YearSkinsModel", name := "fault", desc := "()I" } : Jvm.MethodName) ({ cls := "YearSkinsModel", name := "fault", desc := "()I" } : Jvm.MethodName)) ∈ lw_all := lw_g (lw_at lw_m9 210 rfl) rfl
theorem q2256 : (Jvm.Cond.code ({ cls := "YearSkinsModel", name := "fault", desc := "()I" } : Jvm.MethodName) prog_20_method_45_code (1 : Nat) (Option.some Jvm.ClassFile.FieldType.int)) ∈ lw_all := lw_g (lw_at lw_m9 211 rfl) rfl
theorem q2258 : (Jvm.Cond.instanceMethod ({ cls := "YearSkinsModel", name := "where", desc := "()I" } : Jvm.MethodName)) ∈ lw_all := lw_g (lw_at lw_m9 213 rfl) rfl
theorem q2259 : (Jvm.Cond.selects "YearSkinsModel" ({ cls := "YearSkinsModel", name := "where", desc := "()I" } : Jvm.MethodName) ({ cls := "YearSkinsModel", name := "where", desc := "()I" } : Jvm.MethodName)) ∈ lw_all := lw_g (lw_at lw_m9 214 rfl) rfl
theorem q2260 : (Jvm.Cond.code ({ cls := "YearSkinsModel", name := "where", desc := "()I" } : Jvm.MethodName) prog_20_method_46_code (1 : Nat) (Option.some Jvm.ClassFile.FieldType.int)) ∈ lw_all := lw_g (lw_at lw_m9 215 rfl) rfl
theorem q2262 : (Jvm.Cond.instanceMethod ({ cls := "YearSkinsModel", name := "whose", desc := "(II)I" } : Jvm.MethodName)) ∈ lw_all := lw_g (lw_at lw_m9 217 rfl) rfl
theorem q2263 : (Jvm.Cond.selects "YearSkinsModel" ({ cls := "YearSkinsModel", name := "whose", desc := "(II)I" } : Jvm.MethodName) ({ cls := "YearSkinsModel", name := "whose", desc := "(II)I" } : Jvm.MethodName)) ∈ lw_all := lw_g (lw_at lw_m9 218 rfl) rfl
theorem q2264 : (Jvm.Cond.code ({ cls := "YearSkinsModel", name := "whose", desc := "(II)I" } : Jvm.MethodName) prog_20_method_81_code (3 : Nat) (Option.some Jvm.ClassFile.FieldType.int)) ∈ lw_all := lw_g (lw_at lw_m9 219 rfl) rfl
theorem q2265 : (Jvm.Cond.methodLink "YearSkinsModel" (521 : Nat) ({ cls := "YearSkinsModel", name := "isCell", desc := "(II)Z" } : Jvm.MethodName)) ∈ lw_all := lw_g (lw_at lw_m9 220 rfl) rfl
theorem q2266 : (Jvm.Cond.privateMethod ({ cls := "YearSkinsModel", name := "isCell", desc := "(II)Z" } : Jvm.MethodName)) ∈ lw_tbl := lw_at lw_m9 221 rfl
theorem q2267 : (Jvm.Cond.instanceMethod ({ cls := "YearSkinsModel", name := "isCell", desc := "(II)Z" } : Jvm.MethodName)) ∈ lw_all := lw_g (lw_at lw_m9 222 rfl) rfl
theorem q2268 : (Jvm.Cond.code ({ cls := "YearSkinsModel", name := "isCell", desc := "(II)Z" } : Jvm.MethodName) prog_20_method_80_code (3 : Nat) (Option.some Jvm.ClassFile.FieldType.boolean)) ∈ lw_all := lw_g (lw_at lw_m9 223 rfl) rfl
theorem q2270 : (Jvm.Cond.instanceMethod ({ cls := "YearSkinsModel", name := "shared", desc := "()I" } : Jvm.MethodName)) ∈ lw_all := lw_g (lw_at lw_m9 225 rfl) rfl
theorem q2271 : (Jvm.Cond.selects "YearSkinsModel" ({ cls := "YearSkinsModel", name := "shared", desc := "()I" } : Jvm.MethodName) ({ cls := "YearSkinsModel", name := "shared", desc := "()I" } : Jvm.MethodName)) ∈ lw_all := lw_g (lw_at lw_m9 226 rfl) rfl
theorem q2272 : (Jvm.Cond.code ({ cls := "YearSkinsModel", name := "shared", desc := "()I" } : Jvm.MethodName) prog_20_method_83_code (1 : Nat) (Option.some Jvm.ClassFile.FieldType.int)) ∈ lw_all := lw_g (lw_at lw_m9 227 rfl) rfl
theorem q2273 : (Jvm.Cond.methodLink "YearSkinsModel" (530 : Nat) ({ cls := "YearSkinsModel", name := "owned", desc := "(IIZ)I" } : Jvm.MethodName)) ∈ lw_all := lw_g (lw_at lw_m9 228 rfl) rfl
theorem q2274 : (Jvm.Cond.privateMethod ({ cls := "YearSkinsModel", name := "owned", desc := "(IIZ)I" } : Jvm.MethodName)) ∈ lw_tbl := lw_at lw_m9 229 rfl
theorem q2275 : (Jvm.Cond.instanceMethod ({ cls := "YearSkinsModel", name := "owned", desc := "(IIZ)I" } : Jvm.MethodName)) ∈ lw_all := lw_g (lw_at lw_m9 230 rfl) rfl
theorem q2276 : (Jvm.Cond.code ({ cls := "YearSkinsModel", name := "owned", desc := "(IIZ)I" } : Jvm.MethodName) prog_20_method_82_code (6 : Nat) (Option.some Jvm.ClassFile.FieldType.int)) ∈ lw_all := lw_g (lw_at lw_m9 231 rfl) rfl
theorem q2277 : (Jvm.Cond.methodLink "YearSkinsModel" (524 : Nat) ({ cls := "YearSkinsModel$Land", name := "cells", desc := "()I" } : Jvm.MethodName)) ∈ lw_all := lw_g (lw_at lw_m9 232 rfl) rfl
theorem q2281 : (Jvm.Cond.methodLink "YearSkinsModel" (527 : Nat) ({ cls := "YearSkinsModel", name := "bits", desc := "(I)I" } : Jvm.MethodName)) ∈ lw_all := lw_g (lw_at lw_m9 236 rfl) rfl
theorem q2282 : (Jvm.Cond.static ({ cls := "YearSkinsModel", name := "bits", desc := "(I)I" } : Jvm.MethodName)) ∈ lw_all := lw_g (lw_at lw_m9 237 rfl) rfl
theorem q2283 : (Jvm.Cond.code ({ cls := "YearSkinsModel", name := "bits", desc := "(I)I" } : Jvm.MethodName) prog_20_method_9_code (3 : Nat) (Option.some Jvm.ClassFile.FieldType.int)) ∈ lw_all := lw_g (lw_at lw_m9 238 rfl) rfl
theorem q2285 : (Jvm.Cond.instanceMethod ({ cls := "YearSkinsModel", name := "free", desc := "()I" } : Jvm.MethodName)) ∈ lw_all := lw_g (lw_at lw_m10 0 rfl) rfl
theorem q2286 : (Jvm.Cond.selects "YearSkinsModel" ({ cls := "YearSkinsModel", name := "free", desc := "()I" } : Jvm.MethodName) ({ cls := "YearSkinsModel", name := "free", desc := "()I" } : Jvm.MethodName)) ∈ lw_all := lw_g (lw_at lw_m10 1 rfl) rfl
theorem q2287 : (Jvm.Cond.code ({ cls := "YearSkinsModel", name := "free", desc := "()I" } : Jvm.MethodName) prog_20_method_84_code (1 : Nat) (Option.some Jvm.ClassFile.FieldType.int)) ∈ lw_all := lw_g (lw_at lw_m10 2 rfl) rfl
theorem q2289 : (Jvm.Cond.instanceMethod ({ cls := "YearSkinsModel", name := "house", desc := "(II)I" } : Jvm.MethodName)) ∈ lw_all := lw_g (lw_at lw_m10 4 rfl) rfl
theorem q2290 : (Jvm.Cond.selects "YearSkinsModel" ({ cls := "YearSkinsModel", name := "house", desc := "(II)I" } : Jvm.MethodName) ({ cls := "YearSkinsModel", name := "house", desc := "(II)I" } : Jvm.MethodName)) ∈ lw_all := lw_g (lw_at lw_m10 5 rfl) rfl
theorem q2291 : (Jvm.Cond.code ({ cls := "YearSkinsModel", name := "house", desc := "(II)I" } : Jvm.MethodName) prog_20_method_85_code (3 : Nat) (Option.some Jvm.ClassFile.FieldType.int)) ∈ lw_all := lw_g (lw_at lw_m10 6 rfl) rfl
theorem q2292 : (Jvm.Cond.methodLink "YearSkinsModel" (518 : Nat) ({ cls := "YearSkinsModel", name := "isHouse", desc := "(I)Z" } : Jvm.MethodName)) ∈ lw_all := lw_g (lw_at lw_m10 7 rfl) rfl
theorem q2293 : (Jvm.Cond.privateMethod ({ cls := "YearSkinsModel", name := "isHouse", desc := "(I)Z" } : Jvm.MethodName)) ∈ lw_tbl := lw_at lw_m10 8 rfl
theorem q2294 : (Jvm.Cond.instanceMethod ({ cls := "YearSkinsModel", name := "isHouse", desc := "(I)Z" } : Jvm.MethodName)) ∈ lw_all := lw_g (lw_at lw_m10 9 rfl) rfl
theorem q2295 : (Jvm.Cond.code ({ cls := "YearSkinsModel", name := "isHouse", desc := "(I)Z" } : Jvm.MethodName) prog_20_method_75_code (2 : Nat) (Option.some Jvm.ClassFile.FieldType.boolean)) ∈ lw_all := lw_g (lw_at lw_m10 10 rfl) rfl
theorem q2296 : (Jvm.Cond.methodLink "YearSkinsModel" (534 : Nat) ({ cls := "YearSkinsModel", name := "isShut", desc := "([II)Z" } : Jvm.MethodName)) ∈ lw_all := lw_g (lw_at lw_m10 11 rfl) rfl
theorem q2297 : (Jvm.Cond.privateMethod ({ cls := "YearSkinsModel", name := "isShut", desc := "([II)Z" } : Jvm.MethodName)) ∈ lw_tbl := lw_at lw_m10 12 rfl
theorem q2298 : (Jvm.Cond.instanceMethod ({ cls := "YearSkinsModel", name := "isShut", desc := "([II)Z" } : Jvm.MethodName)) ∈ lw_all := lw_g (lw_at lw_m10 13 rfl) rfl
theorem q2299 : (Jvm.Cond.code ({ cls := "YearSkinsModel", name := "isShut", desc := "([II)Z" } : Jvm.MethodName) prog_20_method_63_code (4 : Nat) (Option.some Jvm.ClassFile.FieldType.boolean)) ∈ lw_all := lw_g (lw_at lw_m10 14 rfl) rfl
theorem q2300 : (Jvm.Cond.methodLink "YearSkinsModel" (471 : Nat) ({ cls := "YearSkinsModel", name := "isFree", desc := "(LYearSkinsModel$Land;[IIIII)Z" } : Jvm.MethodName)) ∈ lw_all := lw_g (lw_at lw_m10 15 rfl) rfl
theorem q2301 : (Jvm.Cond.static ({ cls := "YearSkinsModel", name := "isFree", desc := "(LYearSkinsModel$Land;[IIIII)Z" } : Jvm.MethodName)) ∈ lw_all := lw_g (lw_at lw_m10 16 rfl) rfl
theorem q2302 : (Jvm.Cond.code ({ cls := "YearSkinsModel", name := "isFree", desc := "(LYearSkinsModel$Land;[IIIII)Z" } : Jvm.MethodName) prog_20_method_62_code (8 : Nat) (Option.some Jvm.ClassFile.FieldType.boolean)) ∈ lw_all := lw_g (lw_at lw_m10 17 rfl) rfl
theorem q2303 : (Jvm.Cond.methodLink "YearSkinsModel" (440 : Nat) ({ cls := "YearSkinsModel", name := "doorX", desc := "(III)I" } : Jvm.MethodName)) ∈ lw_all := lw_g (lw_at lw_m10 18 rfl) rfl
theorem q2304 : (Jvm.Cond.static ({ cls := "YearSkinsModel", name := "doorX", desc := "(III)I" } : Jvm.MethodName)) ∈ lw_all := lw_g (lw_at lw_m10 19 rfl) rfl
theorem q2305 : (Jvm.Cond.code ({ cls := "YearSkinsModel", name := "doorX", desc := "(III)I" } : Jvm.MethodName) prog_20_method_51_code (3 : Nat) (Option.some Jvm.ClassFile.FieldType.int)) ∈ lw_all := lw_g (lw_at lw_m10 20 rfl) rfl
theorem q2306 : (Jvm.Cond.methodLink "YearSkinsModel" (449 : Nat) ({ cls := "YearSkinsModel", name := "outX", desc := "(I)I" } : Jvm.MethodName)) ∈ lw_all := lw_g (lw_at lw_m10 21 rfl) rfl
theorem q2307 : (Jvm.Cond.static ({ cls := "YearSkinsModel", name := "outX", desc := "(I)I" } : Jvm.MethodName)) ∈ lw_all := lw_g (lw_at lw_m10 22 rfl) rfl
theorem q2308 : (Jvm.Cond.code ({ cls := "YearSkinsModel", name := "outX", desc := "(I)I" } : Jvm.MethodName) prog_20_method_54_code (1 : Nat) (Option.some Jvm.ClassFile.FieldType.int)) ∈ lw_all := lw_g (lw_at lw_m10 23 rfl) rfl
theorem q2309 : (Jvm.Cond.methodLink "YearSkinsModel" (443 : Nat) ({ cls := "YearSkinsModel", name := "doorY", desc := "(III)I" } : Jvm.MethodName)) ∈ lw_all := lw_g (lw_at lw_m10 24 rfl) rfl
theorem q2310 : (Jvm.Cond.static ({ cls := "YearSkinsModel", name := "doorY", desc := "(III)I" } : Jvm.MethodName)) ∈ lw_all := lw_g (lw_at lw_m10 25 rfl) rfl
theorem q2311 : (Jvm.Cond.code ({ cls := "YearSkinsModel", name := "doorY", desc := "(III)I" } : Jvm.MethodName) prog_20_method_52_code (3 : Nat) (Option.some Jvm.ClassFile.FieldType.int)) ∈ lw_all := lw_g (lw_at lw_m10 26 rfl) rfl
theorem q2312 : (Jvm.Cond.methodLink "YearSkinsModel" (452 : Nat) ({ cls := "YearSkinsModel", name := "outY", desc := "(I)I" } : Jvm.MethodName)) ∈ lw_all := lw_g (lw_at lw_m10 27 rfl) rfl
theorem q2313 : (Jvm.Cond.static ({ cls := "YearSkinsModel", name := "outY", desc := "(I)I" } : Jvm.MethodName)) ∈ lw_all := lw_g (lw_at lw_m10 28 rfl) rfl
theorem q2314 : (Jvm.Cond.code ({ cls := "YearSkinsModel", name := "outY", desc := "(I)I" } : Jvm.MethodName) prog_20_method_55_code (1 : Nat) (Option.some Jvm.ClassFile.FieldType.int)) ∈ lw_all := lw_g (lw_at lw_m10 29 rfl) rfl
theorem q2316 : (Jvm.Cond.instanceMethod ({ cls := "YearSkinsModel", name := "skin", desc := "(III)I" } : Jvm.MethodName)) ∈ lw_all := lw_g (lw_at lw_m10 31 rfl) rfl
theorem q2317 : (Jvm.Cond.selects "YearSkinsModel" ({ cls := "YearSkinsModel", name := "skin", desc := "(III)I" } : Jvm.MethodName) ({ cls := "YearSkinsModel", name := "skin", desc := "(III)I" } : Jvm.MethodName)) ∈ lw_all := lw_g (lw_at lw_m10 32 rfl) rfl
theorem q2318 : (Jvm.Cond.code ({ cls := "YearSkinsModel", name := "skin", desc := "(III)I" } : Jvm.MethodName) prog_20_method_86_code (4 : Nat) (Option.some Jvm.ClassFile.FieldType.int)) ∈ lw_all := lw_g (lw_at lw_m10 33 rfl) rfl
theorem q2319 : (Jvm.Cond.methodLink "YearSkinsModel" (537 : Nat) ({ cls := "YearSkinsModel", name := "isSkin", desc := "(II)Z" } : Jvm.MethodName)) ∈ lw_all := lw_g (lw_at lw_m10 34 rfl) rfl
theorem q2320 : (Jvm.Cond.privateMethod ({ cls := "YearSkinsModel", name := "isSkin", desc := "(II)Z" } : Jvm.MethodName)) ∈ lw_tbl := lw_at lw_m10 35 rfl
theorem q2321 : (Jvm.Cond.instanceMethod ({ cls := "YearSkinsModel", name := "isSkin", desc := "(II)Z" } : Jvm.MethodName)) ∈ lw_all := lw_g (lw_at lw_m10 36 rfl) rfl
theorem q2322 : (Jvm.Cond.code ({ cls := "YearSkinsModel", name := "isSkin", desc := "(II)Z" } : Jvm.MethodName) prog_20_method_76_code (3 : Nat) (Option.some Jvm.ClassFile.FieldType.boolean)) ∈ lw_all := lw_g (lw_at lw_m10 37 rfl) rfl
theorem q2324 : (Jvm.Cond.instanceMethod ({ cls := "YearSkinsModel", name := "warm", desc := "(II)I" } : Jvm.MethodName)) ∈ lw_all := lw_g (lw_at lw_m10 39 rfl) rfl
theorem q2325 : (Jvm.Cond.selects "YearSkinsModel" ({ cls := "YearSkinsModel", name := "warm", desc := "(II)I" } : Jvm.MethodName) ({ cls := "YearSkinsModel", name := "warm", desc := "(II)I" } : Jvm.MethodName)) ∈ lw_all := lw_g (lw_at lw_m10 40 rfl) rfl
theorem q2326 : (Jvm.Cond.code ({ cls := "YearSkinsModel", name := "warm", desc := "(II)I" } : Jvm.MethodName) prog_20_method_89_code (3 : Nat) (Option.some Jvm.ClassFile.FieldType.int)) ∈ lw_all := lw_g (lw_at lw_m10 41 rfl) rfl
theorem q2327 : (Jvm.Cond.methodLink "YearSkinsModel" (540 : Nat) ({ cls := "YearSkinsModel", name := "isDepth", desc := "(II)Z" } : Jvm.MethodName)) ∈ lw_all := lw_g (lw_at lw_m10 42 rfl) rfl
theorem q2328 : (Jvm.Cond.privateMethod ({ cls := "YearSkinsModel", name := "isDepth", desc := "(II)Z" } : Jvm.MethodName)) ∈ lw_tbl := lw_at lw_m10 43 rfl
theorem q2329 : (Jvm.Cond.instanceMethod ({ cls := "YearSkinsModel", name := "isDepth", desc := "(II)Z" } : Jvm.MethodName)) ∈ lw_all := lw_g (lw_at lw_m10 44 rfl) rfl
theorem q2330 : (Jvm.Cond.code ({ cls := "YearSkinsModel", name := "isDepth", desc := "(II)Z" } : Jvm.MethodName) prog_20_method_87_code (3 : Nat) (Option.some Jvm.ClassFile.FieldType.boolean)) ∈ lw_all := lw_g (lw_at lw_m10 45 rfl) rfl
theorem q2331 : (Jvm.Cond.methodLink "YearSkinsModel" (543 : Nat) ({ cls := "YearSkinsModel", name := "warmth", desc := "(II)I" } : Jvm.MethodName)) ∈ lw_all := lw_g (lw_at lw_m10 46 rfl) rfl
theorem q2332 : (Jvm.Cond.privateMethod ({ cls := "YearSkinsModel", name := "warmth", desc := "(II)I" } : Jvm.MethodName)) ∈ lw_tbl := lw_at lw_m10 47 rfl
theorem q2333 : (Jvm.Cond.instanceMethod ({ cls := "YearSkinsModel", name := "warmth", desc := "(II)I" } : Jvm.MethodName)) ∈ lw_all := lw_g (lw_at lw_m10 48 rfl) rfl
theorem q2334 : (Jvm.Cond.code ({ cls := "YearSkinsModel", name := "warmth", desc := "(II)I" } : Jvm.MethodName) prog_20_method_88_code (5 : Nat) (Option.some Jvm.ClassFile.FieldType.int)) ∈ lw_all := lw_g (lw_at lw_m10 49 rfl) rfl
theorem q2336 : (Jvm.Cond.instanceMethod ({ cls := "YearSkinsModel", name := "light", desc := "(II)I" } : Jvm.MethodName)) ∈ lw_all := lw_g (lw_at lw_m10 51 rfl) rfl
theorem q2337 : (Jvm.Cond.selects "YearSkinsModel" ({ cls := "YearSkinsModel", name := "light", desc := "(II)I" } : Jvm.MethodName) ({ cls := "YearSkinsModel", name := "light", desc := "(II)I" } : Jvm.MethodName)) ∈ lw_all := lw_g (lw_at lw_m10 52 rfl) rfl
theorem q2338 : (Jvm.Cond.code ({ cls := "YearSkinsModel", name := "light", desc := "(II)I" } : Jvm.MethodName) prog_20_method_90_code (4 : Nat) (Option.some Jvm.ClassFile.FieldType.int)) ∈ lw_all := lw_g (lw_at lw_m10 53 rfl) rfl
theorem q2340 : (Jvm.Cond.instanceMethod ({ cls := "YearSkinsModel", name := "heir", desc := "(II)I" } : Jvm.MethodName)) ∈ lw_all := lw_g (lw_at lw_m10 55 rfl) rfl
theorem q2341 : (Jvm.Cond.selects "YearSkinsModel" ({ cls := "YearSkinsModel", name := "heir", desc := "(II)I" } : Jvm.MethodName) ({ cls := "YearSkinsModel", name := "heir", desc := "(II)I" } : Jvm.MethodName)) ∈ lw_all := lw_g (lw_at lw_m10 56 rfl) rfl
theorem q2342 : (Jvm.Cond.code ({ cls := "YearSkinsModel", name := "heir", desc := "(II)I" } : Jvm.MethodName) prog_20_method_91_code (3 : Nat) (Option.some Jvm.ClassFile.FieldType.int)) ∈ lw_all := lw_g (lw_at lw_m10 57 rfl) rfl
theorem q2343 : (Jvm.Cond.methodLink "YearSkinsModel" (546 : Nat) ({ cls := "YearSkinsModel", name := "isHeir", desc := "(I)Z" } : Jvm.MethodName)) ∈ lw_all := lw_g (lw_at lw_m10 58 rfl) rfl
theorem q2344 : (Jvm.Cond.privateMethod ({ cls := "YearSkinsModel", name := "isHeir", desc := "(I)Z" } : Jvm.MethodName)) ∈ lw_tbl := lw_at lw_m10 59 rfl
theorem q2345 : (Jvm.Cond.instanceMethod ({ cls := "YearSkinsModel", name := "isHeir", desc := "(I)Z" } : Jvm.MethodName)) ∈ lw_all := lw_g (lw_at lw_m10 60 rfl) rfl
theorem q2346 : (Jvm.Cond.code ({ cls := "YearSkinsModel", name := "isHeir", desc := "(I)Z" } : Jvm.MethodName) prog_20_method_78_code (2 : Nat) (Option.some Jvm.ClassFile.FieldType.boolean)) ∈ lw_all := lw_g (lw_at lw_m10 61 rfl) rfl
theorem q2348 : (Jvm.Cond.instanceMethod ({ cls := "YearSkinsModel", name := "fits", desc := "(I)I" } : Jvm.MethodName)) ∈ lw_all := lw_g (lw_at lw_m10 63 rfl) rfl
theorem q2349 : (Jvm.Cond.selects "YearSkinsModel" ({ cls := "YearSkinsModel", name := "fits", desc := "(I)I" } : Jvm.MethodName) ({ cls := "YearSkinsModel", name := "fits", desc := "(I)I" } : Jvm.MethodName)) ∈ lw_all := lw_g (lw_at lw_m10 64 rfl) rfl
theorem q2350 : (Jvm.Cond.code ({ cls := "YearSkinsModel", name := "fits", desc := "(I)I" } : Jvm.MethodName) prog_20_method_92_code (2 : Nat) (Option.some Jvm.ClassFile.FieldType.int)) ∈ lw_all := lw_g (lw_at lw_m10 65 rfl) rfl
theorem q2352 : (Jvm.Cond.instanceMethod ({ cls := "YearSkinsModel", name := "door", desc := "(I)I" } : Jvm.MethodName)) ∈ lw_all := lw_g (lw_at lw_m10 67 rfl) rfl
theorem q2353 : (Jvm.Cond.selects "YearSkinsModel" ({ cls := "YearSkinsModel", name := "door", desc := "(I)I" } : Jvm.MethodName) ({ cls := "YearSkinsModel", name := "door", desc := "(I)I" } : Jvm.MethodName)) ∈ lw_all := lw_g (lw_at lw_m10 68 rfl) rfl
theorem q2354 : (Jvm.Cond.code ({ cls := "YearSkinsModel", name := "door", desc := "(I)I" } : Jvm.MethodName) prog_20_method_93_code (2 : Nat) (Option.some Jvm.ClassFile.FieldType.int)) ∈ lw_all := lw_g (lw_at lw_m10 69 rfl) rfl
theorem q2355 : (Jvm.Cond.methodLink "YearSkinsModel" (497 : Nat) ({ cls := "YearSkinsModel", name := "findsDoor", desc := "([II)Z" } : Jvm.MethodName)) ∈ lw_all := lw_g (lw_at lw_m10 70 rfl) rfl
theorem q2356 : (Jvm.Cond.privateMethod ({ cls := "YearSkinsModel", name := "findsDoor", desc := "([II)Z" } : Jvm.MethodName)) ∈ lw_tbl := lw_at lw_m10 71 rfl
theorem q2357 : (Jvm.Cond.instanceMethod ({ cls := "YearSkinsModel", name := "findsDoor", desc := "([II)Z" } : Jvm.MethodName)) ∈ lw_all := lw_g (lw_at lw_m10 72 rfl) rfl
theorem q2358 : (Jvm.Cond.code ({ cls := "YearSkinsModel", name := "findsDoor", desc := "([II)Z" } : Jvm.MethodName) prog_20_method_64_code (8 : Nat) (Option.some Jvm.ClassFile.FieldType.boolean)) ∈ lw_all := lw_g (lw_at lw_m10 73 rfl) rfl
theorem q2359 : (Jvm.Cond.methodLink "YearSkinsModel" (455 : Nat) ({ cls := "YearSkinsModel", name := "doorPlace", desc := "(III)I" } : Jvm.MethodName)) ∈ lw_all := lw_g (lw_at lw_m10 74 rfl) rfl
theorem q2360 : (Jvm.Cond.static ({ cls := "YearSkinsModel", name := "doorPlace", desc := "(III)I" } : Jvm.MethodName)) ∈ lw_all := lw_g (lw_at lw_m10 75 rfl) rfl
theorem q2361 : (Jvm.Cond.code ({ cls := "YearSkinsModel", name := "doorPlace", desc := "(III)I" } : Jvm.MethodName) prog_20_method_56_code (3 : Nat) (Option.some Jvm.ClassFile.FieldType.int)) ∈ lw_all := lw_g (lw_at lw_m10 76 rfl) rfl
theorem q2362 : (Jvm.Cond.methodLink "YearSkinsModel" (446 : Nat) ({ cls := "YearSkinsModel", name := "placeOf", desc := "(III)I" } : Jvm.MethodName)) ∈ lw_all := lw_g (lw_at lw_m10 77 rfl) rfl
theorem q2363 : (Jvm.Cond.static ({ cls := "YearSkinsModel", name := "placeOf", desc := "(III)I" } : Jvm.MethodName)) ∈ lw_all := lw_g (lw_at lw_m10 78 rfl) rfl
theorem q2364 : (Jvm.Cond.code ({ cls := "YearSkinsModel", name := "placeOf", desc := "(III)I" } : Jvm.MethodName) prog_20_method_53_code (3 : Nat) (Option.some Jvm.ClassFile.FieldType.int)) ∈ lw_all := lw_g (lw_at lw_m10 79 rfl) rfl
theorem q2365 : (Jvm.Cond.methodLink "YearSkinsModel" (458 : Nat) ({ cls := "YearSkinsModel", name := "frontPlace", desc := "(III)I" } : Jvm.MethodName)) ∈ lw_all := lw_g (lw_at lw_m10 80 rfl) rfl
theorem q2366 : (Jvm.Cond.static ({ cls := "YearSkinsModel", name := "frontPlace", desc := "(III)I" } : Jvm.MethodName)) ∈ lw_all := lw_g (lw_at lw_m10 81 rfl) rfl
theorem q2367 : (Jvm.Cond.code ({ cls := "YearSkinsModel", name := "frontPlace", desc := "(III)I" } : Jvm.MethodName) prog_20_method_57_code (3 : Nat) (Option.some Jvm.ClassFile.FieldType.int)) ∈ lw_all := lw_g (lw_at lw_m10 82 rfl) rfl
theorem q2368 : (Jvm.Cond.methodLink "YearSkinsModel" (461 : Nat) ({ cls := "YearSkinsModel", name := "roundOf", desc := "(III)I" } : Jvm.MethodName)) ∈ lw_all := lw_g (lw_at lw_m10 83 rfl) rfl
theorem q2369 : (Jvm.Cond.static ({ cls := "YearSkinsModel", name := "roundOf", desc := "(III)I" } : Jvm.MethodName)) ∈ lw_all := lw_g (lw_at lw_m10 84 rfl) rfl
theorem q2370 : (Jvm.Cond.code ({ cls := "YearSkinsModel", name := "roundOf", desc := "(III)I" } : Jvm.MethodName) prog_20_method_58_code (4 : Nat) (Option.some Jvm.ClassFile.FieldType.int)) ∈ lw_all := lw_g (lw_at lw_m10 85 rfl) rfl
theorem q2372 : (Jvm.Cond.instanceMethod ({ cls := "YearSkinsModel", name := "costs", desc := "(II)I" } : Jvm.MethodName)) ∈ lw_all := lw_g (lw_at lw_m10 87 rfl) rfl
theorem q2373 : (Jvm.Cond.selects "YearSkinsModel" ({ cls := "YearSkinsModel", name := "costs", desc := "(II)I" } : Jvm.MethodName) ({ cls := "YearSkinsModel", name := "costs", desc := "(II)I" } : Jvm.MethodName)) ∈ lw_all := lw_g (lw_at lw_m10 88 rfl) rfl
theorem q2374 : (Jvm.Cond.code ({ cls := "YearSkinsModel", name := "costs", desc := "(II)I" } : Jvm.MethodName) prog_20_method_94_code (3 : Nat) (Option.some Jvm.ClassFile.FieldType.int)) ∈ lw_all := lw_g (lw_at lw_m10 89 rfl) rfl
theorem q2375 : (Jvm.Cond.methodLink "YearSkinsModel" (549 : Nat) ({ cls := "YearSkinsModel", name := "isStone", desc := "(I)Z" } : Jvm.MethodName)) ∈ lw_all := lw_g (lw_at lw_m10 90 rfl) rfl
theorem q2376 : (Jvm.Cond.privateMethod ({ cls := "YearSkinsModel", name := "isStone", desc := "(I)Z" } : Jvm.MethodName)) ∈ lw_tbl := lw_at lw_m10 91 rfl
theorem q2377 : (Jvm.Cond.instanceMethod ({ cls := "YearSkinsModel", name := "isStone", desc := "(I)Z" } : Jvm.MethodName)) ∈ lw_all := lw_g (lw_at lw_m10 92 rfl) rfl
theorem q2378 : (Jvm.Cond.code ({ cls := "YearSkinsModel", name := "isStone", desc := "(I)Z" } : Jvm.MethodName) prog_20_method_77_code (2 : Nat) (Option.some Jvm.ClassFile.FieldType.boolean)) ∈ lw_all := lw_g (lw_at lw_m10 93 rfl) rfl
theorem q2379 : (Jvm.Cond.methodLink "YearSkinsModel" (501 : Nat) ({ cls := "YearSkinsModel", name := "costOf", desc := "([III)I" } : Jvm.MethodName)) ∈ lw_all := lw_g (lw_at lw_m10 94 rfl) rfl
theorem q2380 : (Jvm.Cond.privateMethod ({ cls := "YearSkinsModel", name := "costOf", desc := "([III)I" } : Jvm.MethodName)) ∈ lw_tbl := lw_at lw_m10 95 rfl
theorem q2381 : (Jvm.Cond.instanceMethod ({ cls := "YearSkinsModel", name := "costOf", desc := "([III)I" } : Jvm.MethodName)) ∈ lw_all := lw_g (lw_at lw_m10 96 rfl) rfl
theorem q2382 : (Jvm.Cond.code ({ cls := "YearSkinsModel", name := "costOf", desc := "([III)I" } : Jvm.MethodName) prog_20_method_65_code (4 : Nat) (Option.some Jvm.ClassFile.FieldType.int)) ∈ lw_all := lw_g (lw_at lw_m10 97 rfl) rfl
theorem q2384 : (Jvm.Cond.instanceMethod ({ cls := "YearSkinsModel", name := "way", desc := "(II)I" } : Jvm.MethodName)) ∈ lw_all := lw_g (lw_at lw_m10 99 rfl) rfl
theorem q2385 : (Jvm.Cond.selects "YearSkinsModel" ({ cls := "YearSkinsModel", name := "way", desc := "(II)I" } : Jvm.MethodName) ({ cls := "YearSkinsModel", name := "way", desc := "(II)I" } : Jvm.MethodName)) ∈ lw_all := lw_g (lw_at lw_m10 100 rfl) rfl
theorem q2386 : (Jvm.Cond.code ({ cls := "YearSkinsModel", name := "way", desc := "(II)I" } : Jvm.MethodName) prog_20_method_95_code (3 : Nat) (Option.some Jvm.ClassFile.FieldType.int)) ∈ lw_all := lw_g (lw_at lw_m10 101 rfl) rfl
theorem q2387 : (Jvm.Cond.methodLink "YearSkinsModel" (552 : Nat) ({ cls := "YearSkinsModel", name := "wayTo", desc := "([III)I" } : Jvm.MethodName)) ∈ lw_all := lw_g (lw_at lw_m10 102 rfl) rfl
theorem q2388 : (Jvm.Cond.static ({ cls := "YearSkinsModel", name := "wayTo", desc := "([III)I" } : Jvm.MethodName)) ∈ lw_all := lw_g (lw_at lw_m10 103 rfl) rfl
theorem q2389 : (Jvm.Cond.code ({ cls := "YearSkinsModel", name := "wayTo", desc := "([III)I" } : Jvm.MethodName) prog_20_method_61_code (4 : Nat) (Option.some Jvm.ClassFile.FieldType.int)) ∈ lw_all := lw_g (lw_at lw_m10 104 rfl) rfl
theorem q2390 : (Jvm.Cond.methodLink "YearSkinsModel" (468 : Nat) ({ cls := "YearSkinsModel", name := "plainWay", desc := "([III)I" } : Jvm.MethodName)) ∈ lw_all := lw_g (lw_at lw_m10 105 rfl) rfl
theorem q2391 : (Jvm.Cond.static ({ cls := "YearSkinsModel", name := "plainWay", desc := "([III)I" } : Jvm.MethodName)) ∈ lw_all := lw_g (lw_at lw_m10 106 rfl) rfl
theorem q2392 : (Jvm.Cond.code ({ cls := "YearSkinsModel", name := "plainWay", desc := "([III)I" } : Jvm.MethodName) prog_20_method_60_code (5 : Nat) (Option.some Jvm.ClassFile.FieldType.int)) ∈ lw_all := lw_g (lw_at lw_m10 107 rfl) rfl
theorem q2393 : (Jvm.Cond.methodLink "YearSkinsModel" (464 : Nat) ({ cls := "YearSkinsModel", name := "roundIn", desc := "([III)I" } : Jvm.MethodName)) ∈ lw_all := lw_g (lw_at lw_m10 108 rfl) rfl
theorem q2394 : (Jvm.Cond.static ({ cls := "YearSkinsModel", name := "roundIn", desc := "([III)I" } : Jvm.MethodName)) ∈ lw_all := lw_g (lw_at lw_m10 109 rfl) rfl
theorem q2395 : (Jvm.Cond.code ({ cls := "YearSkinsModel", name := "roundIn", desc := "([III)I" } : Jvm.MethodName) prog_20_method_59_code (3 : Nat) (Option.some Jvm.ClassFile.FieldType.int)) ∈ lw_all := lw_g (lw_at lw_m10 110 rfl) rfl
theorem q2397 : (Jvm.Cond.instanceMethod ({ cls := "YearSkinsModel", name := "through", desc := "(II)I" } : Jvm.MethodName)) ∈ lw_all := lw_g (lw_at lw_m10 112 rfl) rfl
theorem q2398 : (Jvm.Cond.selects "YearSkinsModel" ({ cls := "YearSkinsModel", name := "through", desc := "(II)I" } : Jvm.MethodName) ({ cls := "YearSkinsModel", name := "through", desc := "(II)I" } : Jvm.MethodName)) ∈ lw_all := lw_g (lw_at lw_m10 113 rfl) rfl
theorem q2399 : (Jvm.Cond.code ({ cls := "YearSkinsModel", name := "through", desc := "(II)I" } : Jvm.MethodName) prog_20_method_99_code (3 : Nat) (Option.some Jvm.ClassFile.FieldType.int)) ∈ lw_all := lw_g (lw_at lw_m10 114 rfl) rfl
theorem q2400 : (Jvm.Cond.methodLink "YearSkinsModel" (562 : Nat) ({ cls := "YearSkinsModel", name := "throughTo", desc := "(II)I" } : Jvm.MethodName)) ∈ lw_all := lw_g (lw_at lw_m10 115 rfl) rfl
theorem q2401 : (Jvm.Cond.privateMethod ({ cls := "YearSkinsModel", name := "throughTo", desc := "(II)I" } : Jvm.MethodName)) ∈ lw_tbl := lw_at lw_m10 116 rfl
theorem q2402 : (Jvm.Cond.instanceMethod ({ cls := "YearSkinsModel", name := "throughTo", desc := "(II)I" } : Jvm.MethodName)) ∈ lw_all := lw_g (lw_at lw_m10 117 rfl) rfl
theorem q2403 : (Jvm.Cond.code ({ cls := "YearSkinsModel", name := "throughTo", desc := "(II)I" } : Jvm.MethodName) prog_20_method_97_code (9 : Nat) (Option.some Jvm.ClassFile.FieldType.int)) ∈ lw_all := lw_g (lw_at lw_m10 118 rfl) rfl
theorem q2404 : (Jvm.Cond.constant "YearSkinsModel" (555 : Nat) (100000 : Int32)) ∈ lw_all := lw_g (lw_at lw_m10 119 rfl) rfl
theorem q2405 : (Jvm.Cond.methodLink "YearSkinsModel" (556 : Nat) ({ cls := "YearSkinsModel", name := "entry", desc := "(IIZ)I" } : Jvm.MethodName)) ∈ lw_all := lw_g (lw_at lw_m10 120 rfl) rfl
theorem q2406 : (Jvm.Cond.privateMethod ({ cls := "YearSkinsModel", name := "entry", desc := "(IIZ)I" } : Jvm.MethodName)) ∈ lw_tbl := lw_at lw_m10 121 rfl
theorem q2407 : (Jvm.Cond.instanceMethod ({ cls := "YearSkinsModel", name := "entry", desc := "(IIZ)I" } : Jvm.MethodName)) ∈ lw_all := lw_g (lw_at lw_m10 122 rfl) rfl
theorem q2408 : (Jvm.Cond.code ({ cls := "YearSkinsModel", name := "entry", desc := "(IIZ)I" } : Jvm.MethodName) prog_20_method_96_code (6 : Nat) (Option.some Jvm.ClassFile.FieldType.int)) ∈ lw_all := lw_g (lw_at lw_m10 123 rfl) rfl
theorem q2409 : (Jvm.Cond.methodLink "YearSkinsModel" (487 : Nat) ({ cls := "YearSkinsModel", name := "least", desc := "(II)I" } : Jvm.MethodName)) ∈ lw_all := lw_g (lw_at lw_m10 124 rfl) rfl
theorem q2410 : (Jvm.Cond.static ({ cls := "YearSkinsModel", name := "least", desc := "(II)I" } : Jvm.MethodName)) ∈ lw_all := lw_g (lw_at lw_m10 125 rfl) rfl
theorem q2411 : (Jvm.Cond.code ({ cls := "YearSkinsModel", name := "least", desc := "(II)I" } : Jvm.MethodName) prog_20_method_67_code (2 : Nat) (Option.some Jvm.ClassFile.FieldType.int)) ∈ lw_all := lw_g (lw_at lw_m10 126 rfl) rfl
theorem q2412 : (Jvm.Cond.methodLink "YearSkinsModel" (559 : Nat) ({ cls := "YearSkinsModel", name := "inFront", desc := "(II)I" } : Jvm.MethodName)) ∈ lw_all := lw_g (lw_at lw_m10 127 rfl) rfl
theorem q2413 : (Jvm.Cond.static ({ cls := "YearSkinsModel", name := "inFront", desc := "(II)I" } : Jvm.MethodName)) ∈ lw_all := lw_g (lw_at lw_m10 128 rfl) rfl
theorem q2414 : (Jvm.Cond.code ({ cls := "YearSkinsModel", name := "inFront", desc := "(II)I" } : Jvm.MethodName) prog_20_method_98_code (2 : Nat) (Option.some Jvm.ClassFile.FieldType.int)) ∈ lw_all := lw_g (lw_at lw_m10 129 rfl) rfl
theorem q2416 : (Jvm.Cond.instanceMethod ({ cls := "YearSkinsModel", name := "breaks", desc := "(II)I" } : Jvm.MethodName)) ∈ lw_all := lw_g (lw_at lw_m10 131 rfl) rfl
theorem q2417 : (Jvm.Cond.selects "YearSkinsModel" ({ cls := "YearSkinsModel", name := "breaks", desc := "(II)I" } : Jvm.MethodName) ({ cls := "YearSkinsModel", name := "breaks", desc := "(II)I" } : Jvm.MethodName)) ∈ lw_all := lw_g (lw_at lw_m10 132 rfl) rfl
theorem q2418 : (Jvm.Cond.code ({ cls := "YearSkinsModel", name := "breaks", desc := "(II)I" } : Jvm.MethodName) prog_20_method_100_code (3 : Nat) (Option.some Jvm.ClassFile.FieldType.int)) ∈ lw_all := lw_g (lw_at lw_m10 133 rfl) rfl
theorem q2420 : (Jvm.Cond.instanceMethod ({ cls := "YearSkinsModel", name := "round", desc := "(II)I" } : Jvm.MethodName)) ∈ lw_all := lw_g (lw_at lw_m10 135 rfl) rfl
theorem q2421 : (Jvm.Cond.selects "YearSkinsModel" ({ cls := "YearSkinsModel", name := "round", desc := "(II)I" } : Jvm.MethodName) ({ cls := "YearSkinsModel", name := "round", desc := "(II)I" } : Jvm.MethodName)) ∈ lw_all := lw_g (lw_at lw_m10 136 rfl) rfl
theorem q2422 : (Jvm.Cond.code ({ cls := "YearSkinsModel", name := "round", desc := "(II)I" } : Jvm.MethodName) prog_20_method_101_code (3 : Nat) (Option.some Jvm.ClassFile.FieldType.int)) ∈ lw_all := lw_g (lw_at lw_m10 137 rfl) rfl
theorem q2424 : (Jvm.Cond.instanceMethod ({ cls := "YearSkinsModel", name := "in", desc := "(III)I" } : Jvm.MethodName)) ∈ lw_all := lw_g (lw_at lw_m10 139 rfl) rfl
theorem q2425 : (Jvm.Cond.selects "YearSkinsModel" ({ cls := "YearSkinsModel", name := "in", desc := "(III)I" } : Jvm.MethodName) ({ cls := "YearSkinsModel", name := "in", desc := "(III)I" } : Jvm.MethodName)) ∈ lw_all := lw_g (lw_at lw_m10 140 rfl) rfl
theorem q2426 : (Jvm.Cond.code ({ cls := "YearSkinsModel", name := "in", desc := "(III)I" } : Jvm.MethodName) prog_20_method_103_code (7 : Nat) (Option.some Jvm.ClassFile.FieldType.int)) ∈ lw_all := lw_g (lw_at lw_m10 141 rfl) rfl
theorem q2427 : (Jvm.Cond.methodLink "YearSkinsModel" (565 : Nat) ({ cls := "YearSkinsModel", name := "refusesIn", desc := "(ZII)I" } : Jvm.MethodName)) ∈ lw_all := lw_g (lw_at lw_m10 142 rfl) rfl
theorem q2428 : (Jvm.Cond.privateMethod ({ cls := "YearSkinsModel", name := "refusesIn", desc := "(ZII)I" } : Jvm.MethodName)) ∈ lw_tbl := lw_at lw_m10 143 rfl
theorem q2429 : (Jvm.Cond.instanceMethod ({ cls := "YearSkinsModel", name := "refusesIn", desc := "(ZII)I" } : Jvm.MethodName)) ∈ lw_all := lw_g (lw_at lw_m10 144 rfl) rfl
theorem q2430 : (Jvm.Cond.code ({ cls := "YearSkinsModel", name := "refusesIn", desc := "(ZII)I" } : Jvm.MethodName) prog_20_method_102_code (4 : Nat) (Option.some Jvm.ClassFile.FieldType.int)) ∈ lw_all := lw_g (lw_at lw_m10 145 rfl) rfl
theorem q2431 : (Jvm.Cond.methodLink "YearSkinsModel" (569 : Nat) ({ cls := "YearSkinsModel", name := "inYears", desc := "(I)V" } : Jvm.MethodName)) ∈ lw_all := lw_g (lw_at lw_m10 146 rfl) rfl
theorem q2432 : (Jvm.Cond.privateMethod ({ cls := "YearSkinsModel", name := "inYears", desc := "(I)V" } : Jvm.MethodName)) ∈ lw_tbl := lw_at lw_m10 147 rfl
theorem q2433 : (Jvm.Cond.instanceMethod ({ cls := "YearSkinsModel", name := "inYears", desc := "(I)V" } : Jvm.MethodName)) ∈ lw_all := lw_g (lw_at lw_m10 148 rfl) rfl
theorem q2434 : (Jvm.Cond.code ({ cls := "YearSkinsModel", name := "inYears", desc := "(I)V" } : Jvm.MethodName) prog_20_method_73_code (3 : Nat) (Option.none : Option Jvm.ClassFile.FieldType)) ∈ lw_all := lw_g (lw_at lw_m10 149 rfl) rfl
theorem q2435 : (Jvm.Cond.methodLink "YearSkinsModel" (508 : Nat) ({ cls := "YearSkinsModel", name := "copies", desc := "()V" } : Jvm.MethodName)) ∈ lw_all := lw_g (lw_at lw_m10 150 rfl) rfl
theorem q2436 : (Jvm.Cond.privateMethod ({ cls := "YearSkinsModel", name := "copies", desc := "()V" } : Jvm.MethodName)) ∈ lw_tbl := lw_at lw_m10 151 rfl
theorem q2437 : (Jvm.Cond.instanceMethod ({ cls := "YearSkinsModel", name := "copies", desc := "()V" } : Jvm.MethodName)) ∈ lw_all := lw_g (lw_at lw_m10 152 rfl) rfl
theorem q2438 : (Jvm.Cond.code ({ cls := "YearSkinsModel", name := "copies", desc := "()V" } : Jvm.MethodName) prog_20_method_72_code (2 : Nat) (Option.none : Option Jvm.ClassFile.FieldType)) ∈ lw_all := lw_g (lw_at lw_m10 153 rfl) rfl
theorem q2439 : (Jvm.Cond.methodLink "YearSkinsModel" (511 : Nat) ({ cls := "YearSkinsModel", name := "byNumbers", desc := "()V" } : Jvm.MethodName)) ∈ lw_all := lw_g (lw_at lw_m10 154 rfl) rfl
theorem q2440 : (Jvm.Cond.privateMethod ({ cls := "YearSkinsModel", name := "byNumbers", desc := "()V" } : Jvm.MethodName)) ∈ lw_tbl := lw_at lw_m10 155 rfl
theorem q2441 : (Jvm.Cond.instanceMethod ({ cls := "YearSkinsModel", name := "byNumbers", desc := "()V" } : Jvm.MethodName)) ∈ lw_all := lw_g (lw_at lw_m10 156 rfl) rfl
theorem q2442 : (Jvm.Cond.code ({ cls := "YearSkinsModel", name := "byNumbers", desc := "()V" } : Jvm.MethodName) prog_20_method_70_code (2 : Nat) (Option.none : Option Jvm.ClassFile.FieldType)) ∈ lw_all := lw_g (lw_at lw_m10 157 rfl) rfl
theorem q2443 : (Jvm.Cond.methodLink "YearSkinsModel" (514 : Nat) ({ cls := "YearSkinsModel", name := "goesBy", desc := "([I)V" } : Jvm.MethodName)) ∈ lw_all := lw_g (lw_at lw_m10 158 rfl) rfl
theorem q2444 : (Jvm.Cond.privateMethod ({ cls := "YearSkinsModel", name := "goesBy", desc := "([I)V" } : Jvm.MethodName)) ∈ lw_tbl := lw_at lw_m10 159 rfl
theorem q2445 : (Jvm.Cond.instanceMethod ({ cls := "YearSkinsModel", name := "goesBy", desc := "([I)V" } : Jvm.MethodName)) ∈ lw_all := lw_g (lw_at lw_m10 160 rfl) rfl
theorem q2446 : (Jvm.Cond.code ({ cls := "YearSkinsModel", name := "goesBy", desc := "([I)V" } : Jvm.MethodName) prog_20_method_71_code (3 : Nat) (Option.none : Option Jvm.ClassFile.FieldType)) ∈ lw_all := lw_g (lw_at lw_m10 161 rfl) rfl
theorem q2447 : (Jvm.Cond.methodLink "YearSkinsModel" (504 : Nat) ({ cls := "YearSkinsModel", name := "yearOf", desc := "([II)V" } : Jvm.MethodName)) ∈ lw_all := lw_g (lw_at lw_m10 162 rfl) rfl
theorem q2448 : (Jvm.Cond.privateMethod ({ cls := "YearSkinsModel", name := "yearOf", desc := "([II)V" } : Jvm.MethodName)) ∈ lw_tbl := lw_at lw_m10 163 rfl
theorem q2449 : (Jvm.Cond.instanceMethod ({ cls := "YearSkinsModel", name := "yearOf", desc := "([II)V" } : Jvm.MethodName)) ∈ lw_all := lw_g (lw_at lw_m10 164 rfl) rfl
theorem q2450 : (Jvm.Cond.code ({ cls := "YearSkinsModel", name := "yearOf", desc := "([II)V" } : Jvm.MethodName) prog_20_method_68_code (4 : Nat) (Option.none : Option Jvm.ClassFile.FieldType)) ∈ lw_all := lw_g (lw_at lw_m10 165 rfl) rfl
theorem q2451 : (Jvm.Cond.methodLink "YearSkinsModel" (490 : Nat) ({ cls := "YearSkinsModel", name := "drawn", desc := "([I)I" } : Jvm.MethodName)) ∈ lw_all := lw_g (lw_at lw_m10 166 rfl) rfl
theorem q2452 : (Jvm.Cond.static ({ cls := "YearSkinsModel", name := "drawn", desc := "([I)I" } : Jvm.MethodName)) ∈ lw_all := lw_g (lw_at lw_m10 167 rfl) rfl
theorem q2453 : (Jvm.Cond.code ({ cls := "YearSkinsModel", name := "drawn", desc := "([I)I" } : Jvm.MethodName) prog_20_method_66_code (1 : Nat) (Option.some Jvm.ClassFile.FieldType.int)) ∈ lw_all := lw_g (lw_at lw_m10 168 rfl) rfl
theorem q2454 : (Jvm.Cond.constantLong "YearSkinsModel" (481 : Nat) (75 : Int64)) ∈ lw_all := lw_g (lw_at lw_m10 169 rfl) rfl
theorem q2455 : (Jvm.Cond.constantLong "YearSkinsModel" (483 : Nat) (74 : Int64)) ∈ lw_all := lw_g (lw_at lw_m10 170 rfl) rfl
theorem q2456 : (Jvm.Cond.constantLong "YearSkinsModel" (485 : Nat) (65537 : Int64)) ∈ lw_all := lw_g (lw_at lw_m10 171 rfl) rfl
theorem q2457 : (Jvm.Cond.methodLink "YearSkinsModel" (494 : Nat) ({ cls := "YearSkinsModel", name := "rots", desc := "([III)V" } : Jvm.MethodName)) ∈ lw_all := lw_g (lw_at lw_m10 172 rfl) rfl
theorem q2458 : (Jvm.Cond.privateMethod ({ cls := "YearSkinsModel", name := "rots", desc := "([III)V" } : Jvm.MethodName)) ∈ lw_tbl := lw_at lw_m10 173 rfl
theorem q2459 : (Jvm.Cond.instanceMethod ({ cls := "YearSkinsModel", name := "rots", desc := "([III)V" } : Jvm.MethodName)) ∈ lw_all := lw_g (lw_at lw_m10 174 rfl) rfl
theorem q2460 : (Jvm.Cond.code ({ cls := "YearSkinsModel", name := "rots", desc := "([III)V" } : Jvm.MethodName) prog_20_method_69_code (5 : Nat) (Option.none : Option Jvm.ClassFile.FieldType)) ∈ lw_all := lw_g (lw_at lw_m10 175 rfl) rfl
theorem q2462 : (Jvm.Cond.instanceMethod ({ cls := "YearSkinsModel", name := "skinsIn", desc := "(I)I" } : Jvm.MethodName)) ∈ lw_all := lw_g (lw_at lw_m10 177 rfl) rfl
theorem q2463 : (Jvm.Cond.selects "YearSkinsModel" ({ cls := "YearSkinsModel", name := "skinsIn", desc := "(I)I" } : Jvm.MethodName) ({ cls := "YearSkinsModel", name := "skinsIn", desc := "(I)I" } : Jvm.MethodName)) ∈ lw_all := lw_g (lw_at lw_m10 178 rfl) rfl
theorem q2464 : (Jvm.Cond.code ({ cls := "YearSkinsModel", name := "skinsIn", desc := "(I)I" } : Jvm.MethodName) prog_20_method_104_code (3 : Nat) (Option.some Jvm.ClassFile.FieldType.int)) ∈ lw_all := lw_g (lw_at lw_m10 179 rfl) rfl
theorem q2465 : (Jvm.Cond.methodLink "YearSkinsModel" (572 : Nat) ({ cls := "YearSkinsModel", name := "allSkins", desc := "([I)I" } : Jvm.MethodName)) ∈ lw_all := lw_g (lw_at lw_m10 180 rfl) rfl
theorem q2466 : (Jvm.Cond.static ({ cls := "YearSkinsModel", name := "allSkins", desc := "([I)I" } : Jvm.MethodName)) ∈ lw_all := lw_g (lw_at lw_m10 181 rfl) rfl
theorem q2467 : (Jvm.Cond.code ({ cls := "YearSkinsModel", name := "allSkins", desc := "([I)I" } : Jvm.MethodName) prog_20_method_74_code (3 : Nat) (Option.some Jvm.ClassFile.FieldType.int)) ∈ lw_all := lw_g (lw_at lw_m10 182 rfl) rfl
theorem q2469 : (Jvm.Cond.instanceMethod ({ cls := "YearSkinsModel", name := "meet", desc := "(III)I" } : Jvm.MethodName)) ∈ lw_all := lw_g (lw_at lw_m10 184 rfl) rfl
theorem q2470 : (Jvm.Cond.selects "YearSkinsModel" ({ cls := "YearSkinsModel", name := "meet", desc := "(III)I" } : Jvm.MethodName) ({ cls := "YearSkinsModel", name := "meet", desc := "(III)I" } : Jvm.MethodName)) ∈ lw_all := lw_g (lw_at lw_m10 185 rfl) rfl
theorem q2471 : (Jvm.Cond.code ({ cls := "YearSkinsModel", name := "meet", desc := "(III)I" } : Jvm.MethodName) prog_20_method_106_code (6 : Nat) (Option.some Jvm.ClassFile.FieldType.int)) ∈ lw_all := lw_g (lw_at lw_m10 186 rfl) rfl
theorem q2472 : (Jvm.Cond.methodLink "YearSkinsModel" (575 : Nat) ({ cls := "YearSkinsModel", name := "doMeet", desc := "([III)Z" } : Jvm.MethodName)) ∈ lw_all := lw_g (lw_at lw_m10 187 rfl) rfl
theorem q2473 : (Jvm.Cond.privateMethod ({ cls := "YearSkinsModel", name := "doMeet", desc := "([III)Z" } : Jvm.MethodName)) ∈ lw_tbl := lw_at lw_m10 188 rfl
theorem q2474 : (Jvm.Cond.instanceMethod ({ cls := "YearSkinsModel", name := "doMeet", desc := "([III)Z" } : Jvm.MethodName)) ∈ lw_all := lw_g (lw_at lw_m10 189 rfl) rfl
theorem q2475 : (Jvm.Cond.code ({ cls := "YearSkinsModel", name := "doMeet", desc := "([III)Z" } : Jvm.MethodName) prog_20_method_105_code (8 : Nat) (Option.some Jvm.ClassFile.FieldType.boolean)) ∈ lw_all := lw_g (lw_at lw_m10 190 rfl) rfl
theorem q2477 : (Jvm.Cond.instanceMethod ({ cls := "YearSkinsModel", name := "falls", desc := "(III)I" } : Jvm.MethodName)) ∈ lw_all := lw_g (lw_at lw_m10 192 rfl) rfl
theorem q2478 : (Jvm.Cond.selects "YearSkinsModel" ({ cls := "YearSkinsModel", name := "falls", desc := "(III)I" } : Jvm.MethodName) ({ cls := "YearSkinsModel", name := "falls", desc := "(III)I" } : Jvm.MethodName)) ∈ lw_all := lw_g (lw_at lw_m10 193 rfl) rfl
theorem q2479 : (Jvm.Cond.code ({ cls := "YearSkinsModel", name := "falls", desc := "(III)I" } : Jvm.MethodName) prog_20_method_107_code (6 : Nat) (Option.some Jvm.ClassFile.FieldType.int)) ∈ lw_all := lw_g (lw_at lw_m10 194 rfl) rfl
theorem q2481 : (Jvm.Cond.instanceMethod ({ cls := "YearSkinsModel", name := "room", desc := "(I)I" } : Jvm.MethodName)) ∈ lw_all := lw_g (lw_at lw_m10 196 rfl) rfl
theorem q2482 : (Jvm.Cond.selects "YearSkinsModel" ({ cls := "YearSkinsModel", name := "room", desc := "(I)I" } : Jvm.MethodName) ({ cls := "YearSkinsModel", name := "room", desc := "(I)I" } : Jvm.MethodName)) ∈ lw_all := lw_g (lw_at lw_m10 197 rfl) rfl
theorem q2483 : (Jvm.Cond.code ({ cls := "YearSkinsModel", name := "room", desc := "(I)I" } : Jvm.MethodName) prog_20_method_108_code (3 : Nat) (Option.some Jvm.ClassFile.FieldType.int)) ∈ lw_all := lw_g (lw_at lw_m10 198 rfl) rfl
theorem q2485 : (Jvm.Cond.instanceMethod ({ cls := "YearSkinsModel", name := "first", desc := "(I)I" } : Jvm.MethodName)) ∈ lw_all := lw_g (lw_at lw_m10 200 rfl) rfl
theorem q2486 : (Jvm.Cond.selects "YearSkinsModel" ({ cls := "YearSkinsModel", name := "first", desc := "(I)I" } : Jvm.MethodName) ({ cls := "YearSkinsModel", name := "first", desc := "(I)I" } : Jvm.MethodName)) ∈ lw_all := lw_g (lw_at lw_m10 201 rfl) rfl
theorem q2487 : (Jvm.Cond.code ({ cls := "YearSkinsModel", name := "first", desc := "(I)I" } : Jvm.MethodName) prog_20_method_112_code (3 : Nat) (Option.some Jvm.ClassFile.FieldType.int)) ∈ lw_all := lw_g (lw_at lw_m10 202 rfl) rfl
theorem q2488 : (Jvm.Cond.methodLink "YearSkinsModel" (588 : Nat) ({ cls := "YearSkinsModel", name := "findsFirst", desc := "(I)V" } : Jvm.MethodName)) ∈ lw_all := lw_g (lw_at lw_m10 203 rfl) rfl
theorem q2489 : (Jvm.Cond.privateMethod ({ cls := "YearSkinsModel", name := "findsFirst", desc := "(I)V" } : Jvm.MethodName)) ∈ lw_tbl := lw_at lw_m10 204 rfl
theorem q2490 : (Jvm.Cond.instanceMethod ({ cls := "YearSkinsModel", name := "findsFirst", desc := "(I)V" } : Jvm.MethodName)) ∈ lw_all := lw_g (lw_at lw_m10 205 rfl) rfl
theorem q2491 : (Jvm.Cond.code ({ cls := "YearSkinsModel", name := "findsFirst", desc := "(I)V" } : Jvm.MethodName) prog_20_method_109_code (4 : Nat) (Option.none : Option Jvm.ClassFile.FieldType)) ∈ lw_all := lw_g (lw_at lw_m10 206 rfl) rfl
theorem q2492 : (Jvm.Cond.methodLink "YearSkinsModel" (582 : Nat) ({ cls := "YearSkinsModel", name := "turns", desc := "([II)Z" } : Jvm.MethodName)) ∈ lw_all := lw_g (lw_at lw_m10 207 rfl) rfl
theorem q2493 : (Jvm.Cond.static ({ cls := "YearSkinsModel", name := "turns", desc := "([II)Z" } : Jvm.MethodName)) ∈ lw_all := lw_g (lw_at lw_m10 208 rfl) rfl
theorem q2494 : (Jvm.Cond.code ({ cls := "YearSkinsModel", name := "turns", desc := "([II)Z" } : Jvm.MethodName) prog_20_method_110_code (6 : Nat) (Option.some Jvm.ClassFile.FieldType.boolean)) ∈ lw_all := lw_g (lw_at lw_m10 209 rfl) rfl
theorem q2495 : (Jvm.Cond.methodLink "YearSkinsModel" (585 : Nat) ({ cls := "YearSkinsModel", name := "swaps", desc := "([III)V" } : Jvm.MethodName)) ∈ lw_all := lw_g (lw_at lw_m10 210 rfl) rfl
theorem q2496 : (Jvm.Cond.static ({ cls := "YearSkinsModel", name := "swaps", desc := "([III)V" } : Jvm.MethodName)) ∈ lw_all := lw_g (lw_at lw_m10 211 rfl) rfl
theorem q2497 : (Jvm.Cond.code ({ cls := "YearSkinsModel", name := "swaps", desc := "([III)V" } : Jvm.MethodName) prog_20_method_111_code (4 : Nat) (Option.none : Option Jvm.ClassFile.FieldType)) ∈ lw_all := lw_g (lw_at lw_m10 212 rfl) rfl
theorem q2499 : (Jvm.Cond.instanceMethod ({ cls := "YearSkinsModel", name := "firstAt", desc := "(II)I" } : Jvm.MethodName)) ∈ lw_all := lw_g (lw_at lw_m10 214 rfl) rfl
theorem q2500 : (Jvm.Cond.selects "YearSkinsModel" ({ cls := "YearSkinsModel", name := "firstAt", desc := "(II)I" } : Jvm.MethodName) ({ cls := "YearSkinsModel", name := "firstAt", desc := "(II)I" } : Jvm.MethodName)) ∈ lw_all := lw_g (lw_at lw_m10 215 rfl) rfl
theorem q2501 : (Jvm.Cond.code ({ cls := "YearSkinsModel", name := "firstAt", desc := "(II)I" } : Jvm.MethodName) prog_20_method_113_code (4 : Nat) (Option.some Jvm.ClassFile.FieldType.int)) ∈ lw_all := lw_g (lw_at lw_m10 216 rfl) rfl
theorem q2503 : (Jvm.Cond.instanceMethod ({ cls := "YearSkinsModel", name := "heads", desc := "(II)I" } : Jvm.MethodName)) ∈ lw_all := lw_g (lw_at lw_m10 218 rfl) rfl
theorem q2504 : (Jvm.Cond.selects "YearSkinsModel" ({ cls := "YearSkinsModel", name := "heads", desc := "(II)I" } : Jvm.MethodName) ({ cls := "YearSkinsModel", name := "heads", desc := "(II)I" } : Jvm.MethodName)) ∈ lw_all := lw_g (lw_at lw_m10 219 rfl) rfl
theorem q2505 : (Jvm.Cond.code ({ cls := "YearSkinsModel", name := "heads", desc := "(II)I" } : Jvm.MethodName) prog_20_method_114_code (6 : Nat) (Option.some Jvm.ClassFile.FieldType.int)) ∈ lw_all := lw_g (lw_at lw_m10 220 rfl) rfl
theorem q2506 : (Jvm.Cond.constant "YearSkinsModel" (591 : Nat) (65536 : Int32)) ∈ lw_all := lw_g (lw_at lw_m10 221 rfl) rfl
theorem q2508 : (Jvm.Cond.instanceMethod ({ cls := "YearSkinsModel", name := "takes", desc := "(I)I" } : Jvm.MethodName)) ∈ lw_all := lw_g (lw_at lw_m10 223 rfl) rfl
theorem q2509 : (Jvm.Cond.selects "YearSkinsModel" ({ cls := "YearSkinsModel", name := "takes", desc := "(I)I" } : Jvm.MethodName) ({ cls := "YearSkinsModel", name := "takes", desc := "(I)I" } : Jvm.MethodName)) ∈ lw_all := lw_g (lw_at lw_m10 224 rfl) rfl
theorem q2510 : (Jvm.Cond.code ({ cls := "YearSkinsModel", name := "takes", desc := "(I)I" } : Jvm.MethodName) prog_20_method_118_code (2 : Nat) (Option.some Jvm.ClassFile.FieldType.int)) ∈ lw_all := lw_g (lw_at lw_m10 225 rfl) rfl
theorem q2511 : (Jvm.Cond.methodLink "YearSkinsModel" (592 : Nat) ({ cls := "YearSkinsModel", name := "inmost", desc := "(I)I" } : Jvm.MethodName)) ∈ lw_all := lw_g (lw_at lw_m10 226 rfl) rfl
theorem q2512 : (Jvm.Cond.privateMethod ({ cls := "YearSkinsModel", name := "inmost", desc := "(I)I" } : Jvm.MethodName)) ∈ lw_tbl := lw_at lw_m10 227 rfl
theorem q2513 : (Jvm.Cond.instanceMethod ({ cls := "YearSkinsModel", name := "inmost", desc := "(I)I" } : Jvm.MethodName)) ∈ lw_all := lw_g (lw_at lw_m10 228 rfl) rfl
theorem q2514 : (Jvm.Cond.code ({ cls := "YearSkinsModel", name := "inmost", desc := "(I)I" } : Jvm.MethodName) prog_20_method_115_code (3 : Nat) (Option.some Jvm.ClassFile.FieldType.int)) ∈ lw_all := lw_g (lw_at lw_m10 229 rfl) rfl
theorem q2515 : (Jvm.Cond.methodLink "YearSkinsModel" (595 : Nat) ({ cls := "YearSkinsModel", name := "goldOf", desc := "(II)I" } : Jvm.MethodName)) ∈ lw_all := lw_g (lw_at lw_m10 230 rfl) rfl
theorem q2516 : (Jvm.Cond.privateMethod ({ cls := "YearSkinsModel", name := "goldOf", desc := "(II)I" } : Jvm.MethodName)) ∈ lw_tbl := lw_at lw_m10 231 rfl
theorem q2517 : (Jvm.Cond.instanceMethod ({ cls := "YearSkinsModel", name := "goldOf", desc := "(II)I" } : Jvm.MethodName)) ∈ lw_all := lw_g (lw_at lw_m10 232 rfl) rfl
theorem q2518 : (Jvm.Cond.code ({ cls := "YearSkinsModel", name := "goldOf", desc := "(II)I" } : Jvm.MethodName) prog_20_method_116_code (3 : Nat) (Option.some Jvm.ClassFile.FieldType.int)) ∈ lw_all := lw_g (lw_at lw_m10 233 rfl) rfl
theorem q2520 : (Jvm.Cond.instanceMethod ({ cls := "YearSkinsModel", name := "worth", desc := "(I)I" } : Jvm.MethodName)) ∈ lw_all := lw_g (lw_at lw_m10 235 rfl) rfl
theorem q2521 : (Jvm.Cond.selects "YearSkinsModel" ({ cls := "YearSkinsModel", name := "worth", desc := "(I)I" } : Jvm.MethodName) ({ cls := "YearSkinsModel", name := "worth", desc := "(I)I" } : Jvm.MethodName)) ∈ lw_all := lw_g (lw_at lw_m10 236 rfl) rfl
theorem q2522 : (Jvm.Cond.code ({ cls := "YearSkinsModel", name := "worth", desc := "(I)I" } : Jvm.MethodName) prog_20_method_119_code (4 : Nat) (Option.some Jvm.ClassFile.FieldType.int)) ∈ lw_all := lw_g (lw_at lw_m10 237 rfl) rfl
theorem q2523 : (Jvm.Cond.methodLink "YearSkinsModel" (598 : Nat) ({ cls := "YearSkinsModel", name := "isLivedIn", desc := "(II)Z" } : Jvm.MethodName)) ∈ lw_all := lw_g (lw_at lw_m10 238 rfl) rfl
theorem q2524 : (Jvm.Cond.privateMethod ({ cls := "YearSkinsModel", name := "isLivedIn", desc := "(II)Z" } : Jvm.MethodName)) ∈ lw_tbl := lw_at lw_m10 239 rfl
theorem q2525 : (Jvm.Cond.instanceMethod ({ cls := "YearSkinsModel", name := "isLivedIn", desc := "(II)Z" } : Jvm.MethodName)) ∈ lw_all := lw_g (lw_at lw_m11 0 rfl) rfl
theorem q2526 : (Jvm.Cond.code ({ cls := "YearSkinsModel", name := "isLivedIn", desc := "(II)Z" } : Jvm.MethodName) prog_20_method_117_code (4 : Nat) (Option.some Jvm.ClassFile.FieldType.boolean)) ∈ lw_all := lw_g (lw_at lw_m11 1 rfl) rfl
theorem q2528 : (Jvm.Cond.instanceMethod ({ cls := "YearSkinsModel", name := "orders", desc := "()I" } : Jvm.MethodName)) ∈ lw_all := lw_g (lw_at lw_m11 3 rfl) rfl
theorem q2529 : (Jvm.Cond.selects "YearSkinsModel" ({ cls := "YearSkinsModel", name := "orders", desc := "()I" } : Jvm.MethodName) ({ cls := "YearSkinsModel", name := "orders", desc := "()I" } : Jvm.MethodName)) ∈ lw_all := lw_g (lw_at lw_m11 4 rfl) rfl
theorem q2530 : (Jvm.Cond.code ({ cls := "YearSkinsModel", name := "orders", desc := "()I" } : Jvm.MethodName) prog_20_method_123_code (1 : Nat) (Option.some Jvm.ClassFile.FieldType.int)) ∈ lw_all := lw_g (lw_at lw_m11 5 rfl) rfl
theorem q2531 : (Jvm.Cond.methodLink "YearSkinsModel" (610 : Nat) ({ cls := "YearSkinsModel", name := "findsOrders", desc := "(I)V" } : Jvm.MethodName)) ∈ lw_all := lw_g (lw_at lw_m11 6 rfl) rfl
theorem q2532 : (Jvm.Cond.privateMethod ({ cls := "YearSkinsModel", name := "findsOrders", desc := "(I)V" } : Jvm.MethodName)) ∈ lw_tbl := lw_at lw_m11 7 rfl
theorem q2533 : (Jvm.Cond.instanceMethod ({ cls := "YearSkinsModel", name := "findsOrders", desc := "(I)V" } : Jvm.MethodName)) ∈ lw_all := lw_g (lw_at lw_m11 8 rfl) rfl
theorem q2534 : (Jvm.Cond.code ({ cls := "YearSkinsModel", name := "findsOrders", desc := "(I)V" } : Jvm.MethodName) prog_20_method_122_code (6 : Nat) (Option.none : Option Jvm.ClassFile.FieldType)) ∈ lw_all := lw_g (lw_at lw_m11 9 rfl) rfl
theorem q2535 : (Jvm.Cond.methodLink "YearSkinsModel" (607 : Nat) ({ cls := "YearSkinsModel", name := "canBe", desc := "()Z" } : Jvm.MethodName)) ∈ lw_all := lw_g (lw_at lw_m11 10 rfl) rfl
theorem q2536 : (Jvm.Cond.privateMethod ({ cls := "YearSkinsModel", name := "canBe", desc := "()Z" } : Jvm.MethodName)) ∈ lw_tbl := lw_at lw_m11 11 rfl
theorem q2537 : (Jvm.Cond.instanceMethod ({ cls := "YearSkinsModel", name := "canBe", desc := "()Z" } : Jvm.MethodName)) ∈ lw_all := lw_g (lw_at lw_m11 12 rfl) rfl
theorem q2538 : (Jvm.Cond.code ({ cls := "YearSkinsModel", name := "canBe", desc := "()Z" } : Jvm.MethodName) prog_20_method_120_code (5 : Nat) (Option.some Jvm.ClassFile.FieldType.boolean)) ∈ lw_all := lw_g (lw_at lw_m11 13 rfl) rfl
theorem q2539 : (Jvm.Cond.methodLink "YearSkinsModel" (601 : Nat) ({ cls := "YearSkinsModel", name := "before", desc := "(I)I" } : Jvm.MethodName)) ∈ lw_all := lw_g (lw_at lw_m11 14 rfl) rfl
theorem q2540 : (Jvm.Cond.privateMethod ({ cls := "YearSkinsModel", name := "before", desc := "(I)I" } : Jvm.MethodName)) ∈ lw_tbl := lw_at lw_m11 15 rfl
theorem q2541 : (Jvm.Cond.instanceMethod ({ cls := "YearSkinsModel", name := "before", desc := "(I)I" } : Jvm.MethodName)) ∈ lw_all := lw_g (lw_at lw_m11 16 rfl) rfl
theorem q2542 : (Jvm.Cond.code ({ cls := "YearSkinsModel", name := "before", desc := "(I)I" } : Jvm.MethodName) prog_20_method_121_code (2 : Nat) (Option.some Jvm.ClassFile.FieldType.int)) ∈ lw_all := lw_g (lw_at lw_m11 17 rfl) rfl
theorem q2544 : (Jvm.Cond.instanceMethod ({ cls := "YearSkinsModel", name := "order", desc := "(II)I" } : Jvm.MethodName)) ∈ lw_all := lw_g (lw_at lw_m11 19 rfl) rfl
theorem q2545 : (Jvm.Cond.selects "YearSkinsModel" ({ cls := "YearSkinsModel", name := "order", desc := "(II)I" } : Jvm.MethodName) ({ cls := "YearSkinsModel", name := "order", desc := "(II)I" } : Jvm.MethodName)) ∈ lw_all := lw_g (lw_at lw_m11 20 rfl) rfl
theorem q2546 : (Jvm.Cond.code ({ cls := "YearSkinsModel", name := "order", desc := "(II)I" } : Jvm.MethodName) prog_20_method_124_code (3 : Nat) (Option.some Jvm.ClassFile.FieldType.int)) ∈ lw_all := lw_g (lw_at lw_m11 21 rfl) rfl
theorem q2547 : (Jvm.Cond.methodLink "YearSkinsModel" (613 : Nat) ({ cls := "YearSkinsModel", name := "isWall", desc := "(I)Z" } : Jvm.MethodName)) ∈ lw_all := lw_g (lw_at lw_m11 22 rfl) rfl
theorem q2548 : (Jvm.Cond.privateMethod ({ cls := "YearSkinsModel", name := "isWall", desc := "(I)Z" } : Jvm.MethodName)) ∈ lw_tbl := lw_at lw_m11 23 rfl
theorem q2549 : (Jvm.Cond.instanceMethod ({ cls := "YearSkinsModel", name := "isWall", desc := "(I)Z" } : Jvm.MethodName)) ∈ lw_all := lw_g (lw_at lw_m11 24 rfl) rfl
theorem q2550 : (Jvm.Cond.code ({ cls := "YearSkinsModel", name := "isWall", desc := "(I)Z" } : Jvm.MethodName) prog_20_method_79_code (2 : Nat) (Option.some Jvm.ClassFile.FieldType.boolean)) ∈ lw_all := lw_g (lw_at lw_m11 25 rfl) rfl
theorem q2552 : (Jvm.Cond.instanceMethod ({ cls := "YearSkinsModel", name := "soonest", desc := "(I)I" } : Jvm.MethodName)) ∈ lw_all := lw_g (lw_at lw_m11 27 rfl) rfl
theorem q2553 : (Jvm.Cond.selects "YearSkinsModel" ({ cls := "YearSkinsModel", name := "soonest", desc := "(I)I" } : Jvm.MethodName) ({ cls := "YearSkinsModel", name := "soonest", desc := "(I)I" } : Jvm.MethodName)) ∈ lw_all := lw_g (lw_at lw_m11 28 rfl) rfl
theorem q2554 : (Jvm.Cond.code ({ cls := "YearSkinsModel", name := "soonest", desc := "(I)I" } : Jvm.MethodName) prog_20_method_125_code (2 : Nat) (Option.some Jvm.ClassFile.FieldType.int)) ∈ lw_all := lw_g (lw_at lw_m11 29 rfl) rfl
theorem q2556 : (Jvm.Cond.instanceMethod ({ cls := "YearSkinsModel", name := "latest", desc := "(I)I" } : Jvm.MethodName)) ∈ lw_all := lw_g (lw_at lw_m11 31 rfl) rfl
theorem q2557 : (Jvm.Cond.selects "YearSkinsModel" ({ cls := "YearSkinsModel", name := "latest", desc := "(I)I" } : Jvm.MethodName) ({ cls := "YearSkinsModel", name := "latest", desc := "(I)I" } : Jvm.MethodName)) ∈ lw_all := lw_g (lw_at lw_m11 32 rfl) rfl
theorem q2558 : (Jvm.Cond.code ({ cls := "YearSkinsModel", name := "latest", desc := "(I)I" } : Jvm.MethodName) prog_20_method_126_code (2 : Nat) (Option.some Jvm.ClassFile.FieldType.int)) ∈ lw_all := lw_g (lw_at lw_m11 33 rfl) rfl
theorem q2560 : (Jvm.Cond.instanceMethod ({ cls := "YearSkinsModel", name := "surely", desc := "(II)I" } : Jvm.MethodName)) ∈ lw_all := lw_g (lw_at lw_m11 35 rfl) rfl
theorem q2561 : (Jvm.Cond.selects "YearSkinsModel" ({ cls := "YearSkinsModel", name := "surely", desc := "(II)I" } : Jvm.MethodName) ({ cls := "YearSkinsModel", name := "surely", desc := "(II)I" } : Jvm.MethodName)) ∈ lw_all := lw_g (lw_at lw_m11 36 rfl) rfl
theorem q2562 : (Jvm.Cond.code ({ cls := "YearSkinsModel", name := "surely", desc := "(II)I" } : Jvm.MethodName) prog_20_method_127_code (3 : Nat) (Option.some Jvm.ClassFile.FieldType.int)) ∈ lw_all := lw_g (lw_at lw_m11 37 rfl) rfl
theorem q2564 : (Jvm.Cond.instanceMethod ({ cls := "YearSkinsModel", name := "years", desc := "(I)I" } : Jvm.MethodName)) ∈ lw_all := lw_g (lw_at lw_m11 39 rfl) rfl
theorem q2565 : (Jvm.Cond.selects "YearSkinsModel" ({ cls := "YearSkinsModel", name := "years", desc := "(I)I" } : Jvm.MethodName) ({ cls := "YearSkinsModel", name := "years", desc := "(I)I" } : Jvm.MethodName)) ∈ lw_all := lw_g (lw_at lw_m11 40 rfl) rfl
theorem q2566 : (Jvm.Cond.code ({ cls := "YearSkinsModel", name := "years", desc := "(I)I" } : Jvm.MethodName) prog_20_method_129_code (3 : Nat) (Option.some Jvm.ClassFile.FieldType.int)) ∈ lw_all := lw_g (lw_at lw_m11 41 rfl) rfl
theorem q2567 : (Jvm.Cond.methodLink "YearSkinsModel" (616 : Nat) ({ cls := "YearSkinsModel", name := "keeps", desc := "()V" } : Jvm.MethodName)) ∈ lw_all := lw_g (lw_at lw_m11 42 rfl) rfl
theorem q2568 : (Jvm.Cond.privateMethod ({ cls := "YearSkinsModel", name := "keeps", desc := "()V" } : Jvm.MethodName)) ∈ lw_tbl := lw_at lw_m11 43 rfl
theorem q2569 : (Jvm.Cond.instanceMethod ({ cls := "YearSkinsModel", name := "keeps", desc := "()V" } : Jvm.MethodName)) ∈ lw_all := lw_g (lw_at lw_m11 44 rfl) rfl
theorem q2570 : (Jvm.Cond.code ({ cls := "YearSkinsModel", name := "keeps", desc := "()V" } : Jvm.MethodName) prog_20_method_128_code (2 : Nat) (Option.none : Option Jvm.ClassFile.FieldType)) ∈ lw_all := lw_g (lw_at lw_m11 45 rfl) rfl
theorem q2572 : (Jvm.Cond.instanceMethod ({ cls := "YearSkinsModel", name := "build", desc := "(IIIII)I" } : Jvm.MethodName)) ∈ lw_all := lw_g (lw_at lw_m11 47 rfl) rfl
theorem q2573 : (Jvm.Cond.selects "YearSkinsModel" ({ cls := "YearSkinsModel", name := "build", desc := "(IIIII)I" } : Jvm.MethodName) ({ cls := "YearSkinsModel", name := "build", desc := "(IIIII)I" } : Jvm.MethodName)) ∈ lw_all := lw_g (lw_at lw_m11 48 rfl) rfl
theorem q2574 : (Jvm.Cond.code ({ cls := "YearSkinsModel", name := "build", desc := "(IIIII)I" } : Jvm.MethodName) prog_20_method_130_code (8 : Nat) (Option.some Jvm.ClassFile.FieldType.int)) ∈ lw_all := lw_g (lw_at lw_m11 49 rfl) rfl
theorem q2576 : (Jvm.Cond.instanceMethod ({ cls := "YearSkinsModel", name := "fill", desc := "(II)Z" } : Jvm.MethodName)) ∈ lw_all := lw_g (lw_at lw_m11 51 rfl) rfl
theorem q2577 : (Jvm.Cond.selects "YearSkinsModel" ({ cls := "YearSkinsModel", name := "fill", desc := "(II)Z" } : Jvm.MethodName) ({ cls := "YearSkinsModel", name := "fill", desc := "(II)Z" } : Jvm.MethodName)) ∈ lw_all := lw_g (lw_at lw_m11 52 rfl) rfl
theorem q2578 : (Jvm.Cond.code ({ cls := "YearSkinsModel", name := "fill", desc := "(II)Z" } : Jvm.MethodName) prog_20_method_131_code (3 : Nat) (Option.some Jvm.ClassFile.FieldType.boolean)) ∈ lw_all := lw_g (lw_at lw_m11 53 rfl) rfl
theorem q2579 : (Jvm.Cond.methodLink "YearSkinsModel" (619 : Nat) ({ cls := "YearSkinsModel", name := "denied", desc := "(I)Z" } : Jvm.MethodName)) ∈ lw_all := lw_g (lw_at lw_m11 54 rfl) rfl
theorem q2580 : (Jvm.Cond.privateMethod ({ cls := "YearSkinsModel", name := "denied", desc := "(I)Z" } : Jvm.MethodName)) ∈ lw_tbl := lw_at lw_m11 55 rfl
theorem q2581 : (Jvm.Cond.instanceMethod ({ cls := "YearSkinsModel", name := "denied", desc := "(I)Z" } : Jvm.MethodName)) ∈ lw_all := lw_g (lw_at lw_m11 56 rfl) rfl
theorem q2582 : (Jvm.Cond.code ({ cls := "YearSkinsModel", name := "denied", desc := "(I)Z" } : Jvm.MethodName) prog_20_method_4_code (2 : Nat) (Option.some Jvm.ClassFile.FieldType.boolean)) ∈ lw_all := lw_g (lw_at lw_m11 57 rfl) rfl
theorem q2583 : (Jvm.Cond.methodLink "YearSkinsModel" (622 : Nat) ({ cls := "YearSkinsModel", name := "granted", desc := "()Z" } : Jvm.MethodName)) ∈ lw_all := lw_g (lw_at lw_m11 58 rfl) rfl
theorem q2584 : (Jvm.Cond.privateMethod ({ cls := "YearSkinsModel", name := "granted", desc := "()Z" } : Jvm.MethodName)) ∈ lw_tbl := lw_at lw_m11 59 rfl
theorem q2585 : (Jvm.Cond.instanceMethod ({ cls := "YearSkinsModel", name := "granted", desc := "()Z" } : Jvm.MethodName)) ∈ lw_all := lw_g (lw_at lw_m11 60 rfl) rfl
theorem q2586 : (Jvm.Cond.code ({ cls := "YearSkinsModel", name := "granted", desc := "()Z" } : Jvm.MethodName) prog_20_method_6_code (1 : Nat) (Option.some Jvm.ClassFile.FieldType.boolean)) ∈ lw_all := lw_g (lw_at lw_m11 61 rfl) rfl
theorem q2588 : (Jvm.Cond.instanceMethod ({ cls := "YearSkinsModel", name := "take", desc := "(I)I" } : Jvm.MethodName)) ∈ lw_all := lw_g (lw_at lw_m11 63 rfl) rfl
theorem q2589 : (Jvm.Cond.selects "YearSkinsModel" ({ cls := "YearSkinsModel", name := "take", desc := "(I)I" } : Jvm.MethodName) ({ cls := "YearSkinsModel", name := "take", desc := "(I)I" } : Jvm.MethodName)) ∈ lw_all := lw_g (lw_at lw_m11 64 rfl) rfl
theorem q2590 : (Jvm.Cond.code ({ cls := "YearSkinsModel", name := "take", desc := "(I)I" } : Jvm.MethodName) prog_20_method_132_code (4 : Nat) (Option.some Jvm.ClassFile.FieldType.int)) ∈ lw_all := lw_g (lw_at lw_m11 65 rfl) rfl
theorem q2592 : (Jvm.Cond.instanceMethod ({ cls := "YearSkinsModel", name := "lock", desc := "(III)Z" } : Jvm.MethodName)) ∈ lw_all := lw_g (lw_at lw_m11 67 rfl) rfl
theorem q2593 : (Jvm.Cond.selects "YearSkinsModel" ({ cls := "YearSkinsModel", name := "lock", desc := "(III)Z" } : Jvm.MethodName) ({ cls := "YearSkinsModel", name := "lock", desc := "(III)Z" } : Jvm.MethodName)) ∈ lw_all := lw_g (lw_at lw_m11 68 rfl) rfl
theorem q2594 : (Jvm.Cond.code ({ cls := "YearSkinsModel", name := "lock", desc := "(III)Z" } : Jvm.MethodName) prog_20_method_133_code (4 : Nat) (Option.some Jvm.ClassFile.FieldType.boolean)) ∈ lw_all := lw_g (lw_at lw_m11 69 rfl) rfl
theorem q2596 : (Jvm.Cond.instanceMethod ({ cls := "YearSkinsModel", name := "move", desc := "(II)Z" } : Jvm.MethodName)) ∈ lw_all := lw_g (lw_at lw_m11 71 rfl) rfl
theorem q2597 : (Jvm.Cond.selects "YearSkinsModel" ({ cls := "YearSkinsModel", name := "move", desc := "(II)Z" } : Jvm.MethodName) ({ cls := "YearSkinsModel", name := "move", desc := "(II)Z" } : Jvm.MethodName)) ∈ lw_all := lw_g (lw_at lw_m11 72 rfl) rfl
theorem q2598 : (Jvm.Cond.code ({ cls := "YearSkinsModel", name := "move", desc := "(II)Z" } : Jvm.MethodName) prog_20_method_134_code (4 : Nat) (Option.some Jvm.ClassFile.FieldType.boolean)) ∈ lw_all := lw_g (lw_at lw_m11 73 rfl) rfl
theorem q2600 : (Jvm.Cond.instanceMethod ({ cls := "YearSkinsModel", name := "give", desc := "(III)Z" } : Jvm.MethodName)) ∈ lw_all := lw_g (lw_at lw_m11 75 rfl) rfl
theorem q2601 : (Jvm.Cond.selects "YearSkinsModel" ({ cls := "YearSkinsModel", name := "give", desc := "(III)Z" } : Jvm.MethodName) ({ cls := "YearSkinsModel", name := "give", desc := "(III)Z" } : Jvm.MethodName)) ∈ lw_all := lw_g (lw_at lw_m11 76 rfl) rfl
theorem q2602 : (Jvm.Cond.code ({ cls := "YearSkinsModel", name := "give", desc := "(III)Z" } : Jvm.MethodName) prog_20_method_135_code (4 : Nat) (Option.some Jvm.ClassFile.FieldType.boolean)) ∈ lw_all := lw_g (lw_at lw_m11 77 rfl) rfl
theorem q2604 : (Jvm.Cond.instanceMethod ({ cls := "YearSkinsModel", name := "seed", desc := "(I)Z" } : Jvm.MethodName)) ∈ lw_all := lw_g (lw_at lw_m11 79 rfl) rfl
theorem q2605 : (Jvm.Cond.selects "YearSkinsModel" ({ cls := "YearSkinsModel", name := "seed", desc := "(I)Z" } : Jvm.MethodName) ({ cls := "YearSkinsModel", name := "seed", desc := "(I)Z" } : Jvm.MethodName)) ∈ lw_all := lw_g (lw_at lw_m11 80 rfl) rfl
theorem q2606 : (Jvm.Cond.code ({ cls := "YearSkinsModel", name := "seed", desc := "(I)Z" } : Jvm.MethodName) prog_20_method_136_code (2 : Nat) (Option.some Jvm.ClassFile.FieldType.boolean)) ∈ lw_all := lw_g (lw_at lw_m11 81 rfl) rfl
theorem q2608 : (Jvm.Cond.instanceMethod ({ cls := "YearSkinsModel", name := "undo", desc := "()Z" } : Jvm.MethodName)) ∈ lw_all := lw_g (lw_at lw_m11 83 rfl) rfl
theorem q2609 : (Jvm.Cond.selects "YearSkinsModel" ({ cls := "YearSkinsModel", name := "undo", desc := "()Z" } : Jvm.MethodName) ({ cls := "YearSkinsModel", name := "undo", desc := "()Z" } : Jvm.MethodName)) ∈ lw_all := lw_g (lw_at lw_m11 84 rfl) rfl
theorem q2610 : (Jvm.Cond.code ({ cls := "YearSkinsModel", name := "undo", desc := "()Z" } : Jvm.MethodName) prog_20_method_137_code (2 : Nat) (Option.some Jvm.ClassFile.FieldType.boolean)) ∈ lw_all := lw_g (lw_at lw_m11 85 rfl) rfl
theorem q2612 : (Jvm.Cond.instanceMethod ({ cls := "YearSkinsModel", name := "mark", desc := "()I" } : Jvm.MethodName)) ∈ lw_all := lw_g (lw_at lw_m11 87 rfl) rfl
theorem q2613 : (Jvm.Cond.selects "YearSkinsModel" ({ cls := "YearSkinsModel", name := "mark", desc := "()I" } : Jvm.MethodName) ({ cls := "YearSkinsModel", name := "mark", desc := "()I" } : Jvm.MethodName)) ∈ lw_all := lw_g (lw_at lw_m11 88 rfl) rfl
theorem q2614 : (Jvm.Cond.code ({ cls := "YearSkinsModel", name := "mark", desc := "()I" } : Jvm.MethodName) prog_20_method_138_code (2 : Nat) (Option.some Jvm.ClassFile.FieldType.int)) ∈ lw_all := lw_g (lw_at lw_m11 89 rfl) rfl
theorem q2616 : (Jvm.Cond.instanceMethod ({ cls := "YearSkinsModel", name := "back", desc := "(I)Z" } : Jvm.MethodName)) ∈ lw_all := lw_g (lw_at lw_m11 91 rfl) rfl
theorem q2617 : (Jvm.Cond.selects "YearSkinsModel" ({ cls := "YearSkinsModel", name := "back", desc := "(I)Z" } : Jvm.MethodName) ({ cls := "YearSkinsModel", name := "back", desc := "(I)Z" } : Jvm.MethodName)) ∈ lw_all := lw_g (lw_at lw_m11 92 rfl) rfl
theorem q2618 : (Jvm.Cond.code ({ cls := "YearSkinsModel", name := "back", desc := "(I)Z" } : Jvm.MethodName) prog_20_method_139_code (3 : Nat) (Option.some Jvm.ClassFile.FieldType.boolean)) ∈ lw_all := lw_g (lw_at lw_m11 93 rfl) rfl
theorem q2620 : (Jvm.Cond.instanceMethod ({ cls := "YearSkinsModel", name := "stone", desc := "(II)I" } : Jvm.MethodName)) ∈ lw_all := lw_g (lw_at lw_m11 95 rfl) rfl
theorem q2621 : (Jvm.Cond.selects "YearSkinsModel" ({ cls := "YearSkinsModel", name := "stone", desc := "(II)I" } : Jvm.MethodName) ({ cls := "YearSkinsModel", name := "stone", desc := "(II)I" } : Jvm.MethodName)) ∈ lw_all := lw_g (lw_at lw_m11 96 rfl) rfl
theorem q2622 : (Jvm.Cond.code ({ cls := "YearSkinsModel", name := "stone", desc := "(II)I" } : Jvm.MethodName) prog_20_method_140_code (3 : Nat) (Option.some Jvm.ClassFile.FieldType.int)) ∈ lw_all := lw_g (lw_at lw_m11 97 rfl) rfl
theorem q2624 : (Jvm.Cond.instanceMethod ({ cls := "YearSkinsModel", name := "led", desc := "(I)I" } : Jvm.MethodName)) ∈ lw_all := lw_g (lw_at lw_m11 99 rfl) rfl
theorem q2625 : (Jvm.Cond.selects "YearSkinsModel" ({ cls := "YearSkinsModel", name := "led", desc := "(I)I" } : Jvm.MethodName) ({ cls := "YearSkinsModel", name := "led", desc := "(I)I" } : Jvm.MethodName)) ∈ lw_all := lw_g (lw_at lw_m11 100 rfl) rfl
theorem q2626 : (Jvm.Cond.code ({ cls := "YearSkinsModel", name := "led", desc := "(I)I" } : Jvm.MethodName) prog_20_method_141_code (4 : Nat) (Option.some Jvm.ClassFile.FieldType.int)) ∈ lw_all := lw_g (lw_at lw_m11 101 rfl) rfl
theorem q2628 : (Jvm.Cond.instanceMethod ({ cls := "YearSkinsModel", name := "size", desc := "(I)I" } : Jvm.MethodName)) ∈ lw_all := lw_g (lw_at lw_m11 103 rfl) rfl
theorem q2629 : (Jvm.Cond.selects "YearSkinsModel" ({ cls := "YearSkinsModel", name := "size", desc := "(I)I" } : Jvm.MethodName) ({ cls := "YearSkinsModel", name := "size", desc := "(I)I" } : Jvm.MethodName)) ∈ lw_all := lw_g (lw_at lw_m11 104 rfl) rfl
theorem q2630 : (Jvm.Cond.code ({ cls := "YearSkinsModel", name := "size", desc := "(I)I" } : Jvm.MethodName) prog_20_method_142_code (2 : Nat) (Option.some Jvm.ClassFile.FieldType.int)) ∈ lw_all := lw_g (lw_at lw_m11 105 rfl) rfl
theorem q2632 : (Jvm.Cond.instanceMethod ({ cls := "YearSkinsModel", name := "trouble", desc := "()I" } : Jvm.MethodName)) ∈ lw_all := lw_g (lw_at lw_m11 107 rfl) rfl
theorem q2633 : (Jvm.Cond.selects "YearSkinsModel" ({ cls := "YearSkinsModel", name := "trouble", desc := "()I" } : Jvm.MethodName) ({ cls := "YearSkinsModel", name := "trouble", desc := "()I" } : Jvm.MethodName)) ∈ lw_all := lw_g (lw_at lw_m11 108 rfl) rfl
theorem q2634 : (Jvm.Cond.code ({ cls := "YearSkinsModel", name := "trouble", desc := "()I" } : Jvm.MethodName) prog_20_method_143_code (1 : Nat) (Option.some Jvm.ClassFile.FieldType.int)) ∈ lw_all := lw_g (lw_at lw_m11 109 rfl) rfl
theorem q2647 : (Jvm.Cond.castable "YearSkinsModel" "java/lang/Object") ∈ lw_tbl := lw_at lw_m11 122 rfl
theorem in_X9 : ∀ w ∈ wsX90, w ∈ lw_all := lw_in wsX90 [1799, 1801, 1803, 1805, 1807, 1809, 1811, 1813, 1815, 1817, 1819, 1821, 1823, 1825, 1827, 1829, 1831, 1833, 1835, 1837, 1839, 1841, 1843, 1845, 1847, 1849, 1851, 1853, 1855, 1857, 1859, 1861, 1863, 1865, 1867, 1869, 1871] (by decide +kernel) (by decide +kernel)
