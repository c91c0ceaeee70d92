/-! YearSkins$Land -/
set_option maxRecDepth 100000
def RX10 : String := "YearSkins$Land"
def TX10 : u_T := fun k => match k with
  | 0 => ("YearSkins$Land", "waterX", "[I", true)
  | 1 => ("YearSkins$Land", "waterY", "[I", true)
  | 2 => ("YearSkins$Land", "older", "[I", true)
  | 3 => ("YearSkins$Land", "younger", "[I", true)
  | 4 => ("YearSkins$Land", "stones", "[LYearSkins$Stone;", true)
  | 5 => ("YearSkins$Land", "sites", "[LYearSkins$Site;", true)
  | 6 => ("YearSkins$Land", "heirs", "[LYearSkins$Heir;", true)
  | 7 => ("YearSkins$Land", "walls", "[LYearSkins$Wall;", true)
  | 8 => ("YearSkins$Land", "wide", "I", false)
  | 9 => ("YearSkins$Land", "high", "I", false)
  | 10 => ("YearSkins$Land", "births", "I", false)
  | 11 => ("YearSkins$Land", "fire", "I", false)
  | 12 => ("YearSkins$Land", "earns", "I", false)
  | 13 => ("YearSkins$Land", "waterMany", "I", false)
  | 14 => ("YearSkins$Land", "stoneMany", "I", false)
  | 15 => ("YearSkins$Land", "siteMany", "I", false)
  | 16 => ("YearSkins$Land", "heirMany", "I", false)
  | 17 => ("YearSkins$Land", "wallMany", "I", false)
  | 18 => ("YearSkins$Land", "olderMany", "I", false)
  | 19 => ("YearSkins$Land", "far", "Z", false)
  | 20 => ("YearSkins$Land", "share", "Z", false)
  | _ => ("YearSkins$Land", "hasYears", "Z", false)
def tyX10 : Nat → FieldType := fun k => match k with
  | 0 => .array .int
  | 1 => .array .int
  | 2 => .array .int
  | 3 => .array .int
  | 4 => .array (.object "YearSkins$Stone")
  | 5 => .array (.object "YearSkins$Site")
  | 6 => .array (.object "YearSkins$Heir")
  | 7 => .array (.object "YearSkins$Wall")
  | 8 => .int
  | 9 => .int
  | 10 => .int
  | 11 => .int
  | 12 => .int
  | 13 => .int
  | 14 => .int
  | 15 => .int
  | 16 => .int
  | 17 => .int
  | 18 => .int
  | 19 => .boolean
  | 20 => .boolean
  | _ => .boolean
abbrev wsX100 : List Cond := u_ws RX10 TX10 22
set_option maxRecDepth 100000 in
theorem nmX10 : ∀ a, a < 22 → ∀ b, b < 22 → a ≠ b → (TX10 a).2.1 ≠ (TX10 b).2.1 := by decide +kernel
set_option maxRecDepth 100000 in
theorem tyX10_ok : ∀ k, k < 22 → parseFieldDescriptor (TX10 k).2.2.1 = some (tyX10 k) := by decide +kernel
abbrev cX10_init : ByteArray := prog_5_method_1_code
def yX10_init : MethodName := ⟨RX10, "<init>", "()V"⟩
def dkwX10_init_3 : List UInt8 := [177]
abbrev dktX10_init_3 : List UInt8 := dkwX10_init_3 ++ []
def dkwX10_init_2 : List UInt8 := [189, 0, 30, 181, 0, 32, 42, 16, 6, 189, 0, 36, 181, 0, 38, 42, 16, 6, 189, 0, 42, 181, 0, 44]
abbrev dktX10_init_2 : List UInt8 := dkwX10_init_2 ++ dktX10_init_3
def dkwX10_init_1 : List UInt8 := [188, 10, 181, 0, 18, 42, 16, 8, 188, 10, 181, 0, 21, 42, 7, 189, 0, 24, 181, 0, 26, 42, 7]
abbrev dktX10_init_1 : List UInt8 := dkwX10_init_1 ++ dktX10_init_2
def dkwX10_init_0 : List UInt8 := [42, 183, 0, 3, 42, 16, 10, 188, 10, 181, 0, 9, 42, 16, 10, 188, 10, 181, 0, 15, 42, 16, 8]
abbrev dktX10_init_0 : List UInt8 := dkwX10_init_0 ++ dktX10_init_1
theorem dksX10_init_0 : cX10_init.data.toList.drop 0 = dktX10_init_0 := by decide +kernel
theorem dksX10_init_1 : cX10_init.data.toList.drop 23 = dktX10_init_1 := dk_seg dksX10_init_0 23 rfl rfl
theorem dksX10_init_2 : cX10_init.data.toList.drop 46 = dktX10_init_2 := dk_seg dksX10_init_1 23 rfl rfl
theorem dksX10_init_3 : cX10_init.data.toList.drop 70 = dktX10_init_3 := dk_seg dksX10_init_2 24 rfl rfl
theorem dX10_init_0 : decode cX10_init 0 = .ok (.aload_n 0, 1) := dk_42 (dk_at dksX10_init_0 0 rfl rfl)
theorem dX10_init_1 : decode cX10_init 1 = .ok (.invokespecial 3, 3) := dk_183 0 3 (dk_at dksX10_init_0 1 rfl rfl)
theorem dX10_init_4 : decode cX10_init 4 = .ok (.aload_n 0, 1) := dk_42 (dk_at dksX10_init_0 4 rfl rfl)
theorem dX10_init_5 : decode cX10_init 5 = .ok (.bipush 10, 2) := dk_16 10 (dk_at dksX10_init_0 5 rfl rfl)
theorem dX10_init_7 : decode cX10_init 7 = .ok (.newarray .int, 2) := dk_188_10 (dk_at dksX10_init_0 7 rfl rfl)
theorem dX10_init_9 : decode cX10_init 9 = .ok (.putfield 9, 3) := dk_181 0 9 (dk_at dksX10_init_0 9 rfl rfl)
theorem dX10_init_12 : decode cX10_init 12 = .ok (.aload_n 0, 1) := dk_42 (dk_at dksX10_init_0 12 rfl rfl)
theorem dX10_init_13 : decode cX10_init 13 = .ok (.bipush 10, 2) := dk_16 10 (dk_at dksX10_init_0 13 rfl rfl)
theorem dX10_init_15 : decode cX10_init 15 = .ok (.newarray .int, 2) := dk_188_10 (dk_at dksX10_init_0 15 rfl rfl)
theorem dX10_init_17 : decode cX10_init 17 = .ok (.putfield 15, 3) := dk_181 0 15 (dk_at dksX10_init_0 17 rfl rfl)
theorem dX10_init_20 : decode cX10_init 20 = .ok (.aload_n 0, 1) := dk_42 (dk_at dksX10_init_0 20 rfl rfl)
theorem dX10_init_21 : decode cX10_init 21 = .ok (.bipush 8, 2) := dk_16 8 (dk_at dksX10_init_0 21 rfl rfl)
theorem dX10_init_23 : decode cX10_init 23 = .ok (.newarray .int, 2) := dk_188_10 (dk_at dksX10_init_1 0 rfl rfl)
theorem dX10_init_25 : decode cX10_init 25 = .ok (.putfield 18, 3) := dk_181 0 18 (dk_at dksX10_init_1 2 rfl rfl)
theorem dX10_init_28 : decode cX10_init 28 = .ok (.aload_n 0, 1) := dk_42 (dk_at dksX10_init_1 5 rfl rfl)
theorem dX10_init_29 : decode cX10_init 29 = .ok (.bipush 8, 2) := dk_16 8 (dk_at dksX10_init_1 6 rfl rfl)
theorem dX10_init_31 : decode cX10_init 31 = .ok (.newarray .int, 2) := dk_188_10 (dk_at dksX10_init_1 8 rfl rfl)
theorem dX10_init_33 : decode cX10_init 33 = .ok (.putfield 21, 3) := dk_181 0 21 (dk_at dksX10_init_1 10 rfl rfl)
theorem dX10_init_36 : decode cX10_init 36 = .ok (.aload_n 0, 1) := dk_42 (dk_at dksX10_init_1 13 rfl rfl)
theorem dX10_init_37 : decode cX10_init 37 = .ok (.iconst 4, 1) := dk_7 (dk_at dksX10_init_1 14 rfl rfl)
theorem dX10_init_38 : decode cX10_init 38 = .ok (.anewarray 24, 3) := dk_189 0 24 (dk_at dksX10_init_1 15 rfl rfl)
theorem dX10_init_41 : decode cX10_init 41 = .ok (.putfield 26, 3) := dk_181 0 26 (dk_at dksX10_init_1 18 rfl rfl)
theorem dX10_init_44 : decode cX10_init 44 = .ok (.aload_n 0, 1) := dk_42 (dk_at dksX10_init_1 21 rfl rfl)
theorem dX10_init_45 : decode cX10_init 45 = .ok (.iconst 4, 1) := dk_7 (dk_at dksX10_init_1 22 rfl rfl)
theorem dX10_init_46 : decode cX10_init 46 = .ok (.anewarray 30, 3) := dk_189 0 30 (dk_at dksX10_init_2 0 rfl rfl)
theorem dX10_init_49 : decode cX10_init 49 = .ok (.putfield 32, 3) := dk_181 0 32 (dk_at dksX10_init_2 3 rfl rfl)
theorem dX10_init_52 : decode cX10_init 52 = .ok (.aload_n 0, 1) := dk_42 (dk_at dksX10_init_2 6 rfl rfl)
theorem dX10_init_53 : decode cX10_init 53 = .ok (.bipush 6, 2) := dk_16 6 (dk_at dksX10_init_2 7 rfl rfl)
theorem dX10_init_55 : decode cX10_init 55 = .ok (.anewarray 36, 3) := dk_189 0 36 (dk_at dksX10_init_2 9 rfl rfl)
theorem dX10_init_58 : decode cX10_init 58 = .ok (.putfield 38, 3) := dk_181 0 38 (dk_at dksX10_init_2 12 rfl rfl)
theorem dX10_init_61 : decode cX10_init 61 = .ok (.aload_n 0, 1) := dk_42 (dk_at dksX10_init_2 15 rfl rfl)
theorem dX10_init_62 : decode cX10_init 62 = .ok (.bipush 6, 2) := dk_16 6 (dk_at dksX10_init_2 16 rfl rfl)
theorem dX10_init_64 : decode cX10_init 64 = .ok (.anewarray 42, 3) := dk_189 0 42 (dk_at dksX10_init_2 18 rfl rfl)
theorem dX10_init_67 : decode cX10_init 67 = .ok (.putfield 44, 3) := dk_181 0 44 (dk_at dksX10_init_2 21 rfl rfl)
theorem dX10_init_70 : decode cX10_init 70 = .ok (.return_, 1) := dk_177 (dk_at dksX10_init_3 0 rfl rfl)
abbrev cX10_isWater : ByteArray := prog_5_method_5_code
def yX10_isWater : MethodName := ⟨RX10, "isWater", "(II)Z"⟩
def dkwX10_isWater_2 : List UInt8 := [132, 4, 1, 167, 255, 212, 29, 172]
abbrev dktX10_isWater_2 : List UInt8 := dkwX10_isWater_2 ++ []
def dkwX10_isWater_1 : List UInt8 := [46, 27, 160, 0, 18, 42, 180, 0, 15, 21, 4, 46, 28, 160, 0, 7, 4, 167, 0, 4, 3, 62]
abbrev dktX10_isWater_1 : List UInt8 := dkwX10_isWater_1 ++ dktX10_isWater_2
def dkwX10_isWater_0 : List UInt8 := [3, 62, 3, 54, 4, 21, 4, 42, 180, 0, 87, 162, 0, 41, 29, 154, 0, 25, 42, 180, 0, 9, 21, 4]
abbrev dktX10_isWater_0 : List UInt8 := dkwX10_isWater_0 ++ dktX10_isWater_1
theorem dksX10_isWater_0 : cX10_isWater.data.toList.drop 0 = dktX10_isWater_0 := by decide +kernel
theorem dksX10_isWater_1 : cX10_isWater.data.toList.drop 24 = dktX10_isWater_1 := dk_seg dksX10_isWater_0 24 rfl rfl
theorem dksX10_isWater_2 : cX10_isWater.data.toList.drop 46 = dktX10_isWater_2 := dk_seg dksX10_isWater_1 22 rfl rfl
theorem dX10_isWater_0 : decode cX10_isWater 0 = .ok (.iconst 0, 1) := dk_3 (dk_at dksX10_isWater_0 0 rfl rfl)
theorem dX10_isWater_1 : decode cX10_isWater 1 = .ok (.istore_n 3, 1) := dk_62 (dk_at dksX10_isWater_0 1 rfl rfl)
theorem dX10_isWater_2 : decode cX10_isWater 2 = .ok (.iconst 0, 1) := dk_3 (dk_at dksX10_isWater_0 2 rfl rfl)
theorem dX10_isWater_3 : decode cX10_isWater 3 = .ok (.istore 4, 2) := dk_54 4 (dk_at dksX10_isWater_0 3 rfl rfl)
theorem dX10_isWater_5 : decode cX10_isWater 5 = .ok (.iload 4, 2) := dk_21 4 (dk_at dksX10_isWater_0 5 rfl rfl)
theorem dX10_isWater_7 : decode cX10_isWater 7 = .ok (.aload_n 0, 1) := dk_42 (dk_at dksX10_isWater_0 7 rfl rfl)
theorem dX10_isWater_8 : decode cX10_isWater 8 = .ok (.getfield 87, 3) := dk_180 0 87 (dk_at dksX10_isWater_0 8 rfl rfl)
theorem dX10_isWater_11 : decode cX10_isWater 11 = .ok (.if_icmp .ge 41, 3) := dk_162 0 41 (dk_at dksX10_isWater_0 11 rfl rfl)
theorem dX10_isWater_14 : decode cX10_isWater 14 = .ok (.iload_n 3, 1) := dk_29 (dk_at dksX10_isWater_0 14 rfl rfl)
theorem dX10_isWater_15 : decode cX10_isWater 15 = .ok (.ifCond .ne 25, 3) := dk_154 0 25 (dk_at dksX10_isWater_0 15 rfl rfl)
theorem dX10_isWater_18 : decode cX10_isWater 18 = .ok (.aload_n 0, 1) := dk_42 (dk_at dksX10_isWater_0 18 rfl rfl)
theorem dX10_isWater_19 : decode cX10_isWater 19 = .ok (.getfield 9, 3) := dk_180 0 9 (dk_at dksX10_isWater_0 19 rfl rfl)
theorem dX10_isWater_22 : decode cX10_isWater 22 = .ok (.iload 4, 2) := dk_21 4 (dk_at dksX10_isWater_0 22 rfl rfl)
theorem dX10_isWater_24 : decode cX10_isWater 24 = .ok (.iaload, 1) := dk_46 (dk_at dksX10_isWater_1 0 rfl rfl)
theorem dX10_isWater_25 : decode cX10_isWater 25 = .ok (.iload_n 1, 1) := dk_27 (dk_at dksX10_isWater_1 1 rfl rfl)
theorem dX10_isWater_26 : decode cX10_isWater 26 = .ok (.if_icmp .ne 18, 3) := dk_160 0 18 (dk_at dksX10_isWater_1 2 rfl rfl)
theorem dX10_isWater_29 : decode cX10_isWater 29 = .ok (.aload_n 0, 1) := dk_42 (dk_at dksX10_isWater_1 5 rfl rfl)
theorem dX10_isWater_30 : decode cX10_isWater 30 = .ok (.getfield 15, 3) := dk_180 0 15 (dk_at dksX10_isWater_1 6 rfl rfl)
theorem dX10_isWater_33 : decode cX10_isWater 33 = .ok (.iload 4, 2) := dk_21 4 (dk_at dksX10_isWater_1 9 rfl rfl)
theorem dX10_isWater_35 : decode cX10_isWater 35 = .ok (.iaload, 1) := dk_46 (dk_at dksX10_isWater_1 11 rfl rfl)
theorem dX10_isWater_36 : decode cX10_isWater 36 = .ok (.iload_n 2, 1) := dk_28 (dk_at dksX10_isWater_1 12 rfl rfl)
theorem dX10_isWater_37 : decode cX10_isWater 37 = .ok (.if_icmp .ne 7, 3) := dk_160 0 7 (dk_at dksX10_isWater_1 13 rfl rfl)
theorem dX10_isWater_40 : decode cX10_isWater 40 = .ok (.iconst 1, 1) := dk_4 (dk_at dksX10_isWater_1 16 rfl rfl)
theorem dX10_isWater_41 : decode cX10_isWater 41 = .ok (.goto 4, 3) := dk_167 0 4 (dk_at dksX10_isWater_1 17 rfl rfl)
theorem dX10_isWater_44 : decode cX10_isWater 44 = .ok (.iconst 0, 1) := dk_3 (dk_at dksX10_isWater_1 20 rfl rfl)
theorem dX10_isWater_45 : decode cX10_isWater 45 = .ok (.istore_n 3, 1) := dk_62 (dk_at dksX10_isWater_1 21 rfl rfl)
theorem dX10_isWater_46 : decode cX10_isWater 46 = .ok (.iinc 4 1, 3) := dk_132 4 1 (dk_at dksX10_isWater_2 0 rfl rfl)
theorem dX10_isWater_49 : decode cX10_isWater 49 = .ok (.goto (-44), 3) := dk_167 255 212 (dk_at dksX10_isWater_2 3 rfl rfl)
theorem dX10_isWater_52 : decode cX10_isWater 52 = .ok (.iload_n 3, 1) := dk_29 (dk_at dksX10_isWater_2 6 rfl rfl)
theorem dX10_isWater_53 : decode cX10_isWater 53 = .ok (.ireturn, 1) := dk_172 (dk_at dksX10_isWater_2 7 rfl rfl)
abbrev cX10_find : ByteArray := prog_5_method_3_code
def yX10_find : MethodName := ⟨RX10, "find", "(Ljava/lang/String;)LYearSkins$Named;"⟩
def dkwX10_find_2 : List UInt8 := [77, 44, 199, 0, 18, 42, 180, 0, 44, 42, 180, 0, 74, 43, 184, 0, 64, 167, 0, 4, 44, 176]
abbrev dktX10_find_2 : List UInt8 := dkwX10_find_2 ++ []
def dkwX10_find_1 : List UInt8 := [180, 0, 68, 43, 184, 0, 64, 77, 44, 199, 0, 16, 42, 180, 0, 38, 42, 180, 0, 71, 43, 184, 0, 64]
abbrev dktX10_find_1 : List UInt8 := dkwX10_find_1 ++ dktX10_find_2
def dkwX10_find_0 : List UInt8 := [42, 180, 0, 26, 42, 180, 0, 60, 43, 184, 0, 64, 77, 44, 199, 0, 16, 42, 180, 0, 32, 42]
abbrev dktX10_find_0 : List UInt8 := dkwX10_find_0 ++ dktX10_find_1
theorem dksX10_find_0 : cX10_find.data.toList.drop 0 = dktX10_find_0 := by decide +kernel
theorem dksX10_find_1 : cX10_find.data.toList.drop 22 = dktX10_find_1 := dk_seg dksX10_find_0 22 rfl rfl
theorem dksX10_find_2 : cX10_find.data.toList.drop 46 = dktX10_find_2 := dk_seg dksX10_find_1 24 rfl rfl
theorem dX10_find_0 : decode cX10_find 0 = .ok (.aload_n 0, 1) := dk_42 (dk_at dksX10_find_0 0 rfl rfl)
theorem dX10_find_1 : decode cX10_find 1 = .ok (.getfield 26, 3) := dk_180 0 26 (dk_at dksX10_find_0 1 rfl rfl)
theorem dX10_find_4 : decode cX10_find 4 = .ok (.aload_n 0, 1) := dk_42 (dk_at dksX10_find_0 4 rfl rfl)
theorem dX10_find_5 : decode cX10_find 5 = .ok (.getfield 60, 3) := dk_180 0 60 (dk_at dksX10_find_0 5 rfl rfl)
theorem dX10_find_8 : decode cX10_find 8 = .ok (.aload_n 1, 1) := dk_43 (dk_at dksX10_find_0 8 rfl rfl)
theorem dX10_find_9 : decode cX10_find 9 = .ok (.invokestatic 64, 3) := dk_184 0 64 (dk_at dksX10_find_0 9 rfl rfl)
theorem dX10_find_12 : decode cX10_find 12 = .ok (.astore_n 2, 1) := dk_77 (dk_at dksX10_find_0 12 rfl rfl)
theorem dX10_find_13 : decode cX10_find 13 = .ok (.aload_n 2, 1) := dk_44 (dk_at dksX10_find_0 13 rfl rfl)
theorem dX10_find_14 : decode cX10_find 14 = .ok (.ifnonnull 16, 3) := dk_199 0 16 (dk_at dksX10_find_0 14 rfl rfl)
theorem dX10_find_17 : decode cX10_find 17 = .ok (.aload_n 0, 1) := dk_42 (dk_at dksX10_find_0 17 rfl rfl)
theorem dX10_find_18 : decode cX10_find 18 = .ok (.getfield 32, 3) := dk_180 0 32 (dk_at dksX10_find_0 18 rfl rfl)
theorem dX10_find_21 : decode cX10_find 21 = .ok (.aload_n 0, 1) := dk_42 (dk_at dksX10_find_0 21 rfl rfl)
theorem dX10_find_22 : decode cX10_find 22 = .ok (.getfield 68, 3) := dk_180 0 68 (dk_at dksX10_find_1 0 rfl rfl)
theorem dX10_find_25 : decode cX10_find 25 = .ok (.aload_n 1, 1) := dk_43 (dk_at dksX10_find_1 3 rfl rfl)
theorem dX10_find_26 : decode cX10_find 26 = .ok (.invokestatic 64, 3) := dk_184 0 64 (dk_at dksX10_find_1 4 rfl rfl)
theorem dX10_find_29 : decode cX10_find 29 = .ok (.astore_n 2, 1) := dk_77 (dk_at dksX10_find_1 7 rfl rfl)
theorem dX10_find_30 : decode cX10_find 30 = .ok (.aload_n 2, 1) := dk_44 (dk_at dksX10_find_1 8 rfl rfl)
theorem dX10_find_31 : decode cX10_find 31 = .ok (.ifnonnull 16, 3) := dk_199 0 16 (dk_at dksX10_find_1 9 rfl rfl)
theorem dX10_find_34 : decode cX10_find 34 = .ok (.aload_n 0, 1) := dk_42 (dk_at dksX10_find_1 12 rfl rfl)
theorem dX10_find_35 : decode cX10_find 35 = .ok (.getfield 38, 3) := dk_180 0 38 (dk_at dksX10_find_1 13 rfl rfl)
theorem dX10_find_38 : decode cX10_find 38 = .ok (.aload_n 0, 1) := dk_42 (dk_at dksX10_find_1 16 rfl rfl)
theorem dX10_find_39 : decode cX10_find 39 = .ok (.getfield 71, 3) := dk_180 0 71 (dk_at dksX10_find_1 17 rfl rfl)
theorem dX10_find_42 : decode cX10_find 42 = .ok (.aload_n 1, 1) := dk_43 (dk_at dksX10_find_1 20 rfl rfl)
theorem dX10_find_43 : decode cX10_find 43 = .ok (.invokestatic 64, 3) := dk_184 0 64 (dk_at dksX10_find_1 21 rfl rfl)
theorem dX10_find_46 : decode cX10_find 46 = .ok (.astore_n 2, 1) := dk_77 (dk_at dksX10_find_2 0 rfl rfl)
theorem dX10_find_47 : decode cX10_find 47 = .ok (.aload_n 2, 1) := dk_44 (dk_at dksX10_find_2 1 rfl rfl)
theorem dX10_find_48 : decode cX10_find 48 = .ok (.ifnonnull 18, 3) := dk_199 0 18 (dk_at dksX10_find_2 2 rfl rfl)
theorem dX10_find_51 : decode cX10_find 51 = .ok (.aload_n 0, 1) := dk_42 (dk_at dksX10_find_2 5 rfl rfl)
theorem dX10_find_52 : decode cX10_find 52 = .ok (.getfield 44, 3) := dk_180 0 44 (dk_at dksX10_find_2 6 rfl rfl)
theorem dX10_find_55 : decode cX10_find 55 = .ok (.aload_n 0, 1) := dk_42 (dk_at dksX10_find_2 9 rfl rfl)
theorem dX10_find_56 : decode cX10_find 56 = .ok (.getfield 74, 3) := dk_180 0 74 (dk_at dksX10_find_2 10 rfl rfl)
theorem dX10_find_59 : decode cX10_find 59 = .ok (.aload_n 1, 1) := dk_43 (dk_at dksX10_find_2 13 rfl rfl)
theorem dX10_find_60 : decode cX10_find 60 = .ok (.invokestatic 64, 3) := dk_184 0 64 (dk_at dksX10_find_2 14 rfl rfl)
theorem dX10_find_63 : decode cX10_find 63 = .ok (.goto 4, 3) := dk_167 0 4 (dk_at dksX10_find_2 17 rfl rfl)
theorem dX10_find_66 : decode cX10_find 66 = .ok (.aload_n 2, 1) := dk_44 (dk_at dksX10_find_2 20 rfl rfl)
theorem dX10_find_67 : decode cX10_find 67 = .ok (.areturn, 1) := dk_176 (dk_at dksX10_find_2 21 rfl rfl)
abbrev cX10_among : ByteArray := prog_5_method_2_code
def yX10_among : MethodName := ⟨RX10, "among", "([LYearSkins$Named;ILjava/lang/String;)LYearSkins$Named;"⟩
def dkwX10_among_1 : List UInt8 := [132, 3, 1, 167, 255, 231, 1, 176]
abbrev dktX10_among_1 : List UInt8 := dkwX10_among_1 ++ []
def dkwX10_among_0 : List UInt8 := [3, 62, 29, 27, 162, 0, 26, 42, 29, 50, 180, 0, 48, 44, 182, 0, 54, 153, 0, 7, 42, 29, 50, 176]
abbrev dktX10_among_0 : List UInt8 := dkwX10_among_0 ++ dktX10_among_1
theorem dksX10_among_0 : cX10_among.data.toList.drop 0 = dktX10_among_0 := by decide +kernel
theorem dksX10_among_1 : cX10_among.data.toList.drop 24 = dktX10_among_1 := dk_seg dksX10_among_0 24 rfl rfl
theorem dX10_among_0 : decode cX10_among 0 = .ok (.iconst 0, 1) := dk_3 (dk_at dksX10_among_0 0 rfl rfl)
theorem dX10_among_1 : decode cX10_among 1 = .ok (.istore_n 3, 1) := dk_62 (dk_at dksX10_among_0 1 rfl rfl)
theorem dX10_among_2 : decode cX10_among 2 = .ok (.iload_n 3, 1) := dk_29 (dk_at dksX10_among_0 2 rfl rfl)
theorem dX10_among_3 : decode cX10_among 3 = .ok (.iload_n 1, 1) := dk_27 (dk_at dksX10_among_0 3 rfl rfl)
theorem dX10_among_4 : decode cX10_among 4 = .ok (.if_icmp .ge 26, 3) := dk_162 0 26 (dk_at dksX10_among_0 4 rfl rfl)
theorem dX10_among_7 : decode cX10_among 7 = .ok (.aload_n 0, 1) := dk_42 (dk_at dksX10_among_0 7 rfl rfl)
theorem dX10_among_8 : decode cX10_among 8 = .ok (.iload_n 3, 1) := dk_29 (dk_at dksX10_among_0 8 rfl rfl)
theorem dX10_among_9 : decode cX10_among 9 = .ok (.aaload, 1) := dk_50 (dk_at dksX10_among_0 9 rfl rfl)
theorem dX10_among_10 : decode cX10_among 10 = .ok (.getfield 48, 3) := dk_180 0 48 (dk_at dksX10_among_0 10 rfl rfl)
theorem dX10_among_13 : decode cX10_among 13 = .ok (.aload_n 2, 1) := dk_44 (dk_at dksX10_among_0 13 rfl rfl)
theorem dX10_among_14 : decode cX10_among 14 = .ok (.invokevirtual 54, 3) := dk_182 0 54 (dk_at dksX10_among_0 14 rfl rfl)
theorem dX10_among_17 : decode cX10_among 17 = .ok (.ifCond .eq 7, 3) := dk_153 0 7 (dk_at dksX10_among_0 17 rfl rfl)
theorem dX10_among_20 : decode cX10_among 20 = .ok (.aload_n 0, 1) := dk_42 (dk_at dksX10_among_0 20 rfl rfl)
theorem dX10_among_21 : decode cX10_among 21 = .ok (.iload_n 3, 1) := dk_29 (dk_at dksX10_among_0 21 rfl rfl)
theorem dX10_among_22 : decode cX10_among 22 = .ok (.aaload, 1) := dk_50 (dk_at dksX10_among_0 22 rfl rfl)
theorem dX10_among_23 : decode cX10_among 23 = .ok (.areturn, 1) := dk_176 (dk_at dksX10_among_0 23 rfl rfl)
theorem dX10_among_24 : decode cX10_among 24 = .ok (.iinc 3 1, 3) := dk_132 3 1 (dk_at dksX10_among_1 0 rfl rfl)
theorem dX10_among_27 : decode cX10_among 27 = .ok (.goto (-25), 3) := dk_167 255 231 (dk_at dksX10_among_1 3 rfl rfl)
theorem dX10_among_30 : decode cX10_among 30 = .ok (.aconst_null, 1) := dk_1 (dk_at dksX10_among_1 6 rfl rfl)
theorem dX10_among_31 : decode cX10_among 31 = .ok (.areturn, 1) := dk_176 (dk_at dksX10_among_1 7 rfl rfl)
abbrev cX10_isGround : ByteArray := prog_5_method_6_code
def yX10_isGround : MethodName := ⟨RX10, "isGround", "(II)Z"⟩
def dkwX10_isGround_0 : List UInt8 := [42, 27, 28, 182, 0, 90, 153, 0, 16, 42, 27, 28, 182, 0, 94, 154, 0, 7, 4, 167, 0, 4, 3, 172]
abbrev dktX10_isGround_0 : List UInt8 := dkwX10_isGround_0 ++ []
theorem dksX10_isGround_0 : cX10_isGround.data.toList.drop 0 = dktX10_isGround_0 := by decide +kernel
theorem dX10_isGround_0 : decode cX10_isGround 0 = .ok (.aload_n 0, 1) := dk_42 (dk_at dksX10_isGround_0 0 rfl rfl)
theorem dX10_isGround_1 : decode cX10_isGround 1 = .ok (.iload_n 1, 1) := dk_27 (dk_at dksX10_isGround_0 1 rfl rfl)
theorem dX10_isGround_2 : decode cX10_isGround 2 = .ok (.iload_n 2, 1) := dk_28 (dk_at dksX10_isGround_0 2 rfl rfl)
theorem dX10_isGround_3 : decode cX10_isGround 3 = .ok (.invokevirtual 90, 3) := dk_182 0 90 (dk_at dksX10_isGround_0 3 rfl rfl)
theorem dX10_isGround_6 : decode cX10_isGround 6 = .ok (.ifCond .eq 16, 3) := dk_153 0 16 (dk_at dksX10_isGround_0 6 rfl rfl)
theorem dX10_isGround_9 : decode cX10_isGround 9 = .ok (.aload_n 0, 1) := dk_42 (dk_at dksX10_isGround_0 9 rfl rfl)
theorem dX10_isGround_10 : decode cX10_isGround 10 = .ok (.iload_n 1, 1) := dk_27 (dk_at dksX10_isGround_0 10 rfl rfl)
theorem dX10_isGround_11 : decode cX10_isGround 11 = .ok (.iload_n 2, 1) := dk_28 (dk_at dksX10_isGround_0 11 rfl rfl)
theorem dX10_isGround_12 : decode cX10_isGround 12 = .ok (.invokevirtual 94, 3) := dk_182 0 94 (dk_at dksX10_isGround_0 12 rfl rfl)
theorem dX10_isGround_15 : decode cX10_isGround 15 = .ok (.ifCond .ne 7, 3) := dk_154 0 7 (dk_at dksX10_isGround_0 15 rfl rfl)
theorem dX10_isGround_18 : decode cX10_isGround 18 = .ok (.iconst 1, 1) := dk_4 (dk_at dksX10_isGround_0 18 rfl rfl)
theorem dX10_isGround_19 : decode cX10_isGround 19 = .ok (.goto 4, 3) := dk_167 0 4 (dk_at dksX10_isGround_0 19 rfl rfl)
theorem dX10_isGround_22 : decode cX10_isGround 22 = .ok (.iconst 0, 1) := dk_3 (dk_at dksX10_isGround_0 22 rfl rfl)
theorem dX10_isGround_23 : decode cX10_isGround 23 = .ok (.ireturn, 1) := dk_172 (dk_at dksX10_isGround_0 23 rfl rfl)
abbrev cX10_isCell : ByteArray := prog_5_method_4_code
def yX10_isCell : MethodName := ⟨RX10, "isCell", "(II)Z"⟩
def dkwX10_isCell_1 : List UInt8 := [184, 0, 80, 153, 0, 7, 4, 167, 0, 4, 3, 172]
abbrev dktX10_isCell_1 : List UInt8 := dkwX10_isCell_1 ++ []
def dkwX10_isCell_0 : List UInt8 := [27, 3, 42, 180, 0, 77, 4, 100, 184, 0, 80, 153, 0, 21, 28, 3, 42, 180, 0, 84, 4, 100]
abbrev dktX10_isCell_0 : List UInt8 := dkwX10_isCell_0 ++ dktX10_isCell_1
theorem dksX10_isCell_0 : cX10_isCell.data.toList.drop 0 = dktX10_isCell_0 := by decide +kernel
theorem dksX10_isCell_1 : cX10_isCell.data.toList.drop 22 = dktX10_isCell_1 := dk_seg dksX10_isCell_0 22 rfl rfl
theorem dX10_isCell_0 : decode cX10_isCell 0 = .ok (.iload_n 1, 1) := dk_27 (dk_at dksX10_isCell_0 0 rfl rfl)
theorem dX10_isCell_1 : decode cX10_isCell 1 = .ok (.iconst 0, 1) := dk_3 (dk_at dksX10_isCell_0 1 rfl rfl)
theorem dX10_isCell_2 : decode cX10_isCell 2 = .ok (.aload_n 0, 1) := dk_42 (dk_at dksX10_isCell_0 2 rfl rfl)
theorem dX10_isCell_3 : decode cX10_isCell 3 = .ok (.getfield 77, 3) := dk_180 0 77 (dk_at dksX10_isCell_0 3 rfl rfl)
theorem dX10_isCell_6 : decode cX10_isCell 6 = .ok (.iconst 1, 1) := dk_4 (dk_at dksX10_isCell_0 6 rfl rfl)
theorem dX10_isCell_7 : decode cX10_isCell 7 = .ok (.isub, 1) := dk_100 (dk_at dksX10_isCell_0 7 rfl rfl)
theorem dX10_isCell_8 : decode cX10_isCell 8 = .ok (.invokestatic 80, 3) := dk_184 0 80 (dk_at dksX10_isCell_0 8 rfl rfl)
theorem dX10_isCell_11 : decode cX10_isCell 11 = .ok (.ifCond .eq 21, 3) := dk_153 0 21 (dk_at dksX10_isCell_0 11 rfl rfl)
theorem dX10_isCell_14 : decode cX10_isCell 14 = .ok (.iload_n 2, 1) := dk_28 (dk_at dksX10_isCell_0 14 rfl rfl)
theorem dX10_isCell_15 : decode cX10_isCell 15 = .ok (.iconst 0, 1) := dk_3 (dk_at dksX10_isCell_0 15 rfl rfl)
theorem dX10_isCell_16 : decode cX10_isCell 16 = .ok (.aload_n 0, 1) := dk_42 (dk_at dksX10_isCell_0 16 rfl rfl)
theorem dX10_isCell_17 : decode cX10_isCell 17 = .ok (.getfield 84, 3) := dk_180 0 84 (dk_at dksX10_isCell_0 17 rfl rfl)
theorem dX10_isCell_20 : decode cX10_isCell 20 = .ok (.iconst 1, 1) := dk_4 (dk_at dksX10_isCell_0 20 rfl rfl)
theorem dX10_isCell_21 : decode cX10_isCell 21 = .ok (.isub, 1) := dk_100 (dk_at dksX10_isCell_0 21 rfl rfl)
theorem dX10_isCell_22 : decode cX10_isCell 22 = .ok (.invokestatic 80, 3) := dk_184 0 80 (dk_at dksX10_isCell_1 0 rfl rfl)
theorem dX10_isCell_25 : decode cX10_isCell 25 = .ok (.ifCond .eq 7, 3) := dk_153 0 7 (dk_at dksX10_isCell_1 3 rfl rfl)
theorem dX10_isCell_28 : decode cX10_isCell 28 = .ok (.iconst 1, 1) := dk_4 (dk_at dksX10_isCell_1 6 rfl rfl)
theorem dX10_isCell_29 : decode cX10_isCell 29 = .ok (.goto 4, 3) := dk_167 0 4 (dk_at dksX10_isCell_1 7 rfl rfl)
theorem dX10_isCell_32 : decode cX10_isCell 32 = .ok (.iconst 0, 1) := dk_3 (dk_at dksX10_isCell_1 10 rfl rfl)
theorem dX10_isCell_33 : decode cX10_isCell 33 = .ok (.ireturn, 1) := dk_172 (dk_at dksX10_isCell_1 11 rfl rfl)
abbrev cX10_areTold : ByteArray := prog_5_method_7_code
def yX10_areTold : MethodName := ⟨RX10, "areTold", "(II)Z"⟩
def dkwX10_areTold_3 : List UInt8 := [167, 255, 190, 29, 172]
abbrev dktX10_areTold_3 : List UInt8 := dkwX10_areTold_3 ++ []
def dkwX10_areTold_2 : List UInt8 := [160, 0, 18, 42, 180, 0, 21, 21, 4, 46, 27, 160, 0, 7, 4, 167, 0, 4, 3, 62, 132, 4, 1]
abbrev dktX10_areTold_2 : List UInt8 := dkwX10_areTold_2 ++ dktX10_areTold_3
def dkwX10_areTold_1 : List UInt8 := [46, 27, 160, 0, 14, 42, 180, 0, 21, 21, 4, 46, 28, 159, 0, 25, 42, 180, 0, 18, 21, 4, 46, 28]
abbrev dktX10_areTold_1 : List UInt8 := dkwX10_areTold_1 ++ dktX10_areTold_2
def dkwX10_areTold_0 : List UInt8 := [3, 62, 3, 54, 4, 21, 4, 42, 180, 0, 97, 162, 0, 63, 29, 154, 0, 47, 42, 180, 0, 18, 21, 4]
abbrev dktX10_areTold_0 : List UInt8 := dkwX10_areTold_0 ++ dktX10_areTold_1
theorem dksX10_areTold_0 : cX10_areTold.data.toList.drop 0 = dktX10_areTold_0 := by decide +kernel
theorem dksX10_areTold_1 : cX10_areTold.data.toList.drop 24 = dktX10_areTold_1 := dk_seg dksX10_areTold_0 24 rfl rfl
theorem dksX10_areTold_2 : cX10_areTold.data.toList.drop 48 = dktX10_areTold_2 := dk_seg dksX10_areTold_1 24 rfl rfl
theorem dksX10_areTold_3 : cX10_areTold.data.toList.drop 71 = dktX10_areTold_3 := dk_seg dksX10_areTold_2 23 rfl rfl
theorem dX10_areTold_0 : decode cX10_areTold 0 = .ok (.iconst 0, 1) := dk_3 (dk_at dksX10_areTold_0 0 rfl rfl)
theorem dX10_areTold_1 : decode cX10_areTold 1 = .ok (.istore_n 3, 1) := dk_62 (dk_at dksX10_areTold_0 1 rfl rfl)
theorem dX10_areTold_2 : decode cX10_areTold 2 = .ok (.iconst 0, 1) := dk_3 (dk_at dksX10_areTold_0 2 rfl rfl)
theorem dX10_areTold_3 : decode cX10_areTold 3 = .ok (.istore 4, 2) := dk_54 4 (dk_at dksX10_areTold_0 3 rfl rfl)
theorem dX10_areTold_5 : decode cX10_areTold 5 = .ok (.iload 4, 2) := dk_21 4 (dk_at dksX10_areTold_0 5 rfl rfl)
theorem dX10_areTold_7 : decode cX10_areTold 7 = .ok (.aload_n 0, 1) := dk_42 (dk_at dksX10_areTold_0 7 rfl rfl)
theorem dX10_areTold_8 : decode cX10_areTold 8 = .ok (.getfield 97, 3) := dk_180 0 97 (dk_at dksX10_areTold_0 8 rfl rfl)
theorem dX10_areTold_11 : decode cX10_areTold 11 = .ok (.if_icmp .ge 63, 3) := dk_162 0 63 (dk_at dksX10_areTold_0 11 rfl rfl)
theorem dX10_areTold_14 : decode cX10_areTold 14 = .ok (.iload_n 3, 1) := dk_29 (dk_at dksX10_areTold_0 14 rfl rfl)
theorem dX10_areTold_15 : decode cX10_areTold 15 = .ok (.ifCond .ne 47, 3) := dk_154 0 47 (dk_at dksX10_areTold_0 15 rfl rfl)
theorem dX10_areTold_18 : decode cX10_areTold 18 = .ok (.aload_n 0, 1) := dk_42 (dk_at dksX10_areTold_0 18 rfl rfl)
theorem dX10_areTold_19 : decode cX10_areTold 19 = .ok (.getfield 18, 3) := dk_180 0 18 (dk_at dksX10_areTold_0 19 rfl rfl)
theorem dX10_areTold_22 : decode cX10_areTold 22 = .ok (.iload 4, 2) := dk_21 4 (dk_at dksX10_areTold_0 22 rfl rfl)
theorem dX10_areTold_24 : decode cX10_areTold 24 = .ok (.iaload, 1) := dk_46 (dk_at dksX10_areTold_1 0 rfl rfl)
theorem dX10_areTold_25 : decode cX10_areTold 25 = .ok (.iload_n 1, 1) := dk_27 (dk_at dksX10_areTold_1 1 rfl rfl)
theorem dX10_areTold_26 : decode cX10_areTold 26 = .ok (.if_icmp .ne 14, 3) := dk_160 0 14 (dk_at dksX10_areTold_1 2 rfl rfl)
theorem dX10_areTold_29 : decode cX10_areTold 29 = .ok (.aload_n 0, 1) := dk_42 (dk_at dksX10_areTold_1 5 rfl rfl)
theorem dX10_areTold_30 : decode cX10_areTold 30 = .ok (.getfield 21, 3) := dk_180 0 21 (dk_at dksX10_areTold_1 6 rfl rfl)
theorem dX10_areTold_33 : decode cX10_areTold 33 = .ok (.iload 4, 2) := dk_21 4 (dk_at dksX10_areTold_1 9 rfl rfl)
theorem dX10_areTold_35 : decode cX10_areTold 35 = .ok (.iaload, 1) := dk_46 (dk_at dksX10_areTold_1 11 rfl rfl)
theorem dX10_areTold_36 : decode cX10_areTold 36 = .ok (.iload_n 2, 1) := dk_28 (dk_at dksX10_areTold_1 12 rfl rfl)
theorem dX10_areTold_37 : decode cX10_areTold 37 = .ok (.if_icmp .eq 25, 3) := dk_159 0 25 (dk_at dksX10_areTold_1 13 rfl rfl)
theorem dX10_areTold_40 : decode cX10_areTold 40 = .ok (.aload_n 0, 1) := dk_42 (dk_at dksX10_areTold_1 16 rfl rfl)
theorem dX10_areTold_41 : decode cX10_areTold 41 = .ok (.getfield 18, 3) := dk_180 0 18 (dk_at dksX10_areTold_1 17 rfl rfl)
theorem dX10_areTold_44 : decode cX10_areTold 44 = .ok (.iload 4, 2) := dk_21 4 (dk_at dksX10_areTold_1 20 rfl rfl)
theorem dX10_areTold_46 : decode cX10_areTold 46 = .ok (.iaload, 1) := dk_46 (dk_at dksX10_areTold_1 22 rfl rfl)
theorem dX10_areTold_47 : decode cX10_areTold 47 = .ok (.iload_n 2, 1) := dk_28 (dk_at dksX10_areTold_1 23 rfl rfl)
theorem dX10_areTold_48 : decode cX10_areTold 48 = .ok (.if_icmp .ne 18, 3) := dk_160 0 18 (dk_at dksX10_areTold_2 0 rfl rfl)
theorem dX10_areTold_51 : decode cX10_areTold 51 = .ok (.aload_n 0, 1) := dk_42 (dk_at dksX10_areTold_2 3 rfl rfl)
theorem dX10_areTold_52 : decode cX10_areTold 52 = .ok (.getfield 21, 3) := dk_180 0 21 (dk_at dksX10_areTold_2 4 rfl rfl)
theorem dX10_areTold_55 : decode cX10_areTold 55 = .ok (.iload 4, 2) := dk_21 4 (dk_at dksX10_areTold_2 7 rfl rfl)
theorem dX10_areTold_57 : decode cX10_areTold 57 = .ok (.iaload, 1) := dk_46 (dk_at dksX10_areTold_2 9 rfl rfl)
theorem dX10_areTold_58 : decode cX10_areTold 58 = .ok (.iload_n 1, 1) := dk_27 (dk_at dksX10_areTold_2 10 rfl rfl)
theorem dX10_areTold_59 : decode cX10_areTold 59 = .ok (.if_icmp .ne 7, 3) := dk_160 0 7 (dk_at dksX10_areTold_2 11 rfl rfl)
theorem dX10_areTold_62 : decode cX10_areTold 62 = .ok (.iconst 1, 1) := dk_4 (dk_at dksX10_areTold_2 14 rfl rfl)
theorem dX10_areTold_63 : decode cX10_areTold 63 = .ok (.goto 4, 3) := dk_167 0 4 (dk_at dksX10_areTold_2 15 rfl rfl)
theorem dX10_areTold_66 : decode cX10_areTold 66 = .ok (.iconst 0, 1) := dk_3 (dk_at dksX10_areTold_2 18 rfl rfl)
theorem dX10_areTold_67 : decode cX10_areTold 67 = .ok (.istore_n 3, 1) := dk_62 (dk_at dksX10_areTold_2 19 rfl rfl)
theorem dX10_areTold_68 : decode cX10_areTold 68 = .ok (.iinc 4 1, 3) := dk_132 4 1 (dk_at dksX10_areTold_2 20 rfl rfl)
theorem dX10_areTold_71 : decode cX10_areTold 71 = .ok (.goto (-66), 3) := dk_167 255 190 (dk_at dksX10_areTold_3 0 rfl rfl)
theorem dX10_areTold_74 : decode cX10_areTold 74 = .ok (.iload_n 3, 1) := dk_29 (dk_at dksX10_areTold_3 3 rfl rfl)
theorem dX10_areTold_75 : decode cX10_areTold 75 = .ok (.ireturn, 1) := dk_172 (dk_at dksX10_areTold_3 4 rfl rfl)
theorem q138 : (Jvm.Cond.initialized "YearSkins$Land") ∈ lw_all := lw_g (lw_at lw_m1 13 rfl) rfl
theorem q544 : (Jvm.Cond.instantiable "YearSkins$Land" (22 : Nat)) ∈ lw_all := lw_g (lw_at lw_m2 179 rfl) rfl
theorem q546 : (Jvm.Cond.instanceMethod ({ cls := "YearSkins$Land", name := "<init>", desc := "()V" } : Jvm.MethodName)) ∈ lw_all := lw_g (lw_at lw_m2 181 rfl) rfl
theorem q547 : (Jvm.Cond.code ({ cls := "YearSkins$Land", name := "<init>", desc := "()V" } : Jvm.MethodName) prog_5_method_1_code (1 : Nat) (Option.none : Option Jvm.ClassFile.FieldType)) ∈ lw_all := lw_g (lw_at lw_m2 182 rfl) rfl
theorem q548 : (Jvm.Cond.methodLink "YearSkins$Land" (3 : Nat) ({ cls := "java/lang/Object", name := "<init>", desc := "()V" } : Jvm.MethodName)) ∈ lw_all := lw_g (lw_at lw_m2 183 rfl) rfl
theorem q549 : (Jvm.Cond.classLink "YearSkins$Land" (24 : Nat) "YearSkins$Stone") ∈ lw_all := lw_g (lw_at lw_m2 184 rfl) rfl
theorem q551 : (Jvm.Cond.classLink "YearSkins$Land" (30 : Nat) "YearSkins$Site") ∈ lw_all := lw_g (lw_at lw_m2 186 rfl) rfl
theorem q553 : (Jvm.Cond.classLink "YearSkins$Land" (36 : Nat) "YearSkins$Heir") ∈ lw_all := lw_g (lw_at lw_m2 188 rfl) rfl
theorem q555 : (Jvm.Cond.classLink "YearSkins$Land" (42 : Nat) "YearSkins$Wall") ∈ lw_all := lw_g (lw_at lw_m2 190 rfl) rfl
theorem q557 : (Jvm.Cond.fieldLink "YearSkins$Land" (9 : Nat) "YearSkins$Land" "waterX" "[I") ∈ lw_all := lw_g (lw_at lw_m2 192 rfl) rfl
theorem q559 : (Jvm.Cond.fieldLink "YearSkins$Land" (15 : Nat) "YearSkins$Land" "waterY" "[I") ∈ lw_all := lw_g (lw_at lw_m2 194 rfl) rfl
theorem q561 : (Jvm.Cond.fieldLink "YearSkins$Land" (18 : Nat) "YearSkins$Land" "older" "[I") ∈ lw_all := lw_g (lw_at lw_m2 196 rfl) rfl
theorem q564 : (Jvm.Cond.fieldLink "YearSkins$Land" (21 : Nat) "YearSkins$Land" "younger" "[I") ∈ lw_all := lw_g (lw_at lw_m2 199 rfl) rfl
theorem q567 : (Jvm.Cond.fieldLink "YearSkins$Land" (26 : Nat) "YearSkins$Land" "stones" "[LYearSkins$Stone;") ∈ lw_all := lw_g (lw_at lw_m2 202 rfl) rfl
theorem q570 : (Jvm.Cond.fieldLink "YearSkins$Land" (32 : Nat) "YearSkins$Land" "sites" "[LYearSkins$Site;") ∈ lw_all := lw_g (lw_at lw_m2 205 rfl) rfl
theorem q572 : (Jvm.Cond.fieldLink "YearSkins$Land" (38 : Nat) "YearSkins$Land" "heirs" "[LYearSkins$Heir;") ∈ lw_all := lw_g (lw_at lw_m2 207 rfl) rfl
theorem q576 : (Jvm.Cond.fieldLink "YearSkins$Land" (44 : Nat) "YearSkins$Land" "walls" "[LYearSkins$Wall;") ∈ lw_all := lw_g (lw_at lw_m2 211 rfl) rfl
theorem q579 : (Jvm.Cond.fieldLink "YearSkins$Land" (77 : Nat) "YearSkins$Land" "wide" "I") ∈ lw_all := lw_g (lw_at lw_m2 214 rfl) rfl
theorem q583 : (Jvm.Cond.fieldLink "YearSkins$Land" (84 : Nat) "YearSkins$Land" "high" "I") ∈ lw_all := lw_g (lw_at lw_m2 218 rfl) rfl
theorem q593 : (Jvm.Cond.fieldLink "YearSkins$Land" (87 : Nat) "YearSkins$Land" "waterMany" "I") ∈ lw_all := lw_g (lw_at lw_m2 228 rfl) rfl
theorem q595 : (Jvm.Cond.fieldLink "YearSkins$Land" (60 : Nat) "YearSkins$Land" "stoneMany" "I") ∈ lw_all := lw_g (lw_at lw_m2 230 rfl) rfl
theorem q598 : (Jvm.Cond.fieldLink "YearSkins$Land" (68 : Nat) "YearSkins$Land" "siteMany" "I") ∈ lw_all := lw_g (lw_at lw_m2 233 rfl) rfl
theorem q601 : (Jvm.Cond.fieldLink "YearSkins$Land" (71 : Nat) "YearSkins$Land" "heirMany" "I") ∈ lw_all := lw_g (lw_at lw_m2 236 rfl) rfl
theorem q605 : (Jvm.Cond.fieldLink "YearSkins$Land" (74 : Nat) "YearSkins$Land" "wallMany" "I") ∈ lw_all := lw_g (lw_at lw_m3 0 rfl) rfl
theorem q610 : (Jvm.Cond.fieldLink "YearSkins$Land" (97 : Nat) "YearSkins$Land" "olderMany" "I") ∈ lw_all := lw_g (lw_at lw_m3 5 rfl) rfl
theorem q619 : (Jvm.Cond.laysFinal "YearSkins$Land" "YearSkins$Land" "waterX" "[I") ∈ lw_all := lw_g (lw_at lw_m3 14 rfl) rfl
theorem q620 : (Jvm.Cond.soleField "YearSkins$Land" "waterX") ∈ lw_all := lw_g (lw_at lw_m3 15 rfl) rfl
theorem q621 : (Jvm.Cond.laysFinal "YearSkins$Land" "YearSkins$Land" "waterY" "[I") ∈ lw_all := lw_g (lw_at lw_m3 16 rfl) rfl
theorem q622 : (Jvm.Cond.soleField "YearSkins$Land" "waterY") ∈ lw_all := lw_g (lw_at lw_m3 17 rfl) rfl
theorem q623 : (Jvm.Cond.laysFinal "YearSkins$Land" "YearSkins$Land" "older" "[I") ∈ lw_all := lw_g (lw_at lw_m3 18 rfl) rfl
theorem q624 : (Jvm.Cond.soleField "YearSkins$Land" "older") ∈ lw_all := lw_g (lw_at lw_m3 19 rfl) rfl
theorem q625 : (Jvm.Cond.laysFinal "YearSkins$Land" "YearSkins$Land" "younger" "[I") ∈ lw_all := lw_g (lw_at lw_m3 20 rfl) rfl
theorem q626 : (Jvm.Cond.soleField "YearSkins$Land" "younger") ∈ lw_all := lw_g (lw_at lw_m3 21 rfl) rfl
theorem q627 : (Jvm.Cond.laysFinal "YearSkins$Land" "YearSkins$Land" "stones" "[LYearSkins$Stone;") ∈ lw_all := lw_g (lw_at lw_m3 22 rfl) rfl
theorem q628 : (Jvm.Cond.soleField "YearSkins$Land" "stones") ∈ lw_all := lw_g (lw_at lw_m3 23 rfl) rfl
theorem q629 : (Jvm.Cond.laysFinal "YearSkins$Land" "YearSkins$Land" "sites" "[LYearSkins$Site;") ∈ lw_all := lw_g (lw_at lw_m3 24 rfl) rfl
theorem q630 : (Jvm.Cond.soleField "YearSkins$Land" "sites") ∈ lw_all := lw_g (lw_at lw_m3 25 rfl) rfl
theorem q631 : (Jvm.Cond.laysFinal "YearSkins$Land" "YearSkins$Land" "heirs" "[LYearSkins$Heir;") ∈ lw_all := lw_g (lw_at lw_m3 26 rfl) rfl
theorem q632 : (Jvm.Cond.soleField "YearSkins$Land" "heirs") ∈ lw_all := lw_g (lw_at lw_m3 27 rfl) rfl
theorem q633 : (Jvm.Cond.laysFinal "YearSkins$Land" "YearSkins$Land" "walls" "[LYearSkins$Wall;") ∈ lw_all := lw_g (lw_at lw_m3 28 rfl) rfl
theorem q634 : (Jvm.Cond.soleField "YearSkins$Land" "walls") ∈ lw_all := lw_g (lw_at lw_m3 29 rfl) rfl
theorem q635 : (Jvm.Cond.lays "YearSkins$Land" "YearSkins$Land" "wide" "I") ∈ lw_all := lw_g (lw_at lw_m3 30 rfl) rfl
theorem q636 : (Jvm.Cond.soleField "YearSkins$Land" "wide") ∈ lw_all := lw_g (lw_at lw_m3 31 rfl) rfl
theorem q637 : (Jvm.Cond.lays "YearSkins$Land" "YearSkins$Land" "high" "I") ∈ lw_all := lw_g (lw_at lw_m3 32 rfl) rfl
theorem q638 : (Jvm.Cond.soleField "YearSkins$Land" "high") ∈ lw_all := lw_g (lw_at lw_m3 33 rfl) rfl
theorem q639 : (Jvm.Cond.lays "YearSkins$Land" "YearSkins$Land" "births" "I") ∈ lw_all := lw_g (lw_at lw_m3 34 rfl) rfl
theorem q640 : (Jvm.Cond.soleField "YearSkins$Land" "births") ∈ lw_all := lw_g (lw_at lw_m3 35 rfl) rfl
theorem q641 : (Jvm.Cond.lays "YearSkins$Land" "YearSkins$Land" "fire" "I") ∈ lw_all := lw_g (lw_at lw_m3 36 rfl) rfl
theorem q642 : (Jvm.Cond.soleField "YearSkins$Land" "fire") ∈ lw_all := lw_g (lw_at lw_m3 37 rfl) rfl
theorem q643 : (Jvm.Cond.lays "YearSkins$Land" "YearSkins$Land" "earns" "I") ∈ lw_all := lw_g (lw_at lw_m3 38 rfl) rfl
theorem q644 : (Jvm.Cond.soleField "YearSkins$Land" "earns") ∈ lw_all := lw_g (lw_at lw_m3 39 rfl) rfl
theorem q645 : (Jvm.Cond.lays "YearSkins$Land" "YearSkins$Land" "waterMany" "I") ∈ lw_all := lw_g (lw_at lw_m3 40 rfl) rfl
theorem q646 : (Jvm.Cond.soleField "YearSkins$Land" "waterMany") ∈ lw_all := lw_g (lw_at lw_m3 41 rfl) rfl
theorem q647 : (Jvm.Cond.lays "YearSkins$Land" "YearSkins$Land" "stoneMany" "I") ∈ lw_all := lw_g (lw_at lw_m3 42 rfl) rfl
theorem q648 : (Jvm.Cond.soleField "YearSkins$Land" "stoneMany") ∈ lw_all := lw_g (lw_at lw_m3 43 rfl) rfl
theorem q649 : (Jvm.Cond.lays "YearSkins$Land" "YearSkins$Land" "siteMany" "I") ∈ lw_all := lw_g (lw_at lw_m3 44 rfl) rfl
theorem q650 : (Jvm.Cond.soleField "YearSkins$Land" "siteMany") ∈ lw_all := lw_g (lw_at lw_m3 45 rfl) rfl
theorem q651 : (Jvm.Cond.lays "YearSkins$Land" "YearSkins$Land" "heirMany" "I") ∈ lw_all := lw_g (lw_at lw_m3 46 rfl) rfl
theorem q652 : (Jvm.Cond.soleField "YearSkins$Land" "heirMany") ∈ lw_all := lw_g (lw_at lw_m3 47 rfl) rfl
theorem q653 : (Jvm.Cond.lays "YearSkins$Land" "YearSkins$Land" "wallMany" "I") ∈ lw_all := lw_g (lw_at lw_m3 48 rfl) rfl
theorem q654 : (Jvm.Cond.soleField "YearSkins$Land" "wallMany") ∈ lw_all := lw_g (lw_at lw_m3 49 rfl) rfl
theorem q655 : (Jvm.Cond.lays "YearSkins$Land" "YearSkins$Land" "olderMany" "I") ∈ lw_all := lw_g (lw_at lw_m3 50 rfl) rfl
theorem q656 : (Jvm.Cond.soleField "YearSkins$Land" "olderMany") ∈ lw_all := lw_g (lw_at lw_m3 51 rfl) rfl
theorem q657 : (Jvm.Cond.lays "YearSkins$Land" "YearSkins$Land" "far" "Z") ∈ lw_all := lw_g (lw_at lw_m3 52 rfl) rfl
theorem q658 : (Jvm.Cond.soleField "YearSkins$Land" "far") ∈ lw_all := lw_g (lw_at lw_m3 53 rfl) rfl
theorem q659 : (Jvm.Cond.lays "YearSkins$Land" "YearSkins$Land" "share" "Z") ∈ lw_all := lw_g (lw_at lw_m3 54 rfl) rfl
theorem q660 : (Jvm.Cond.soleField "YearSkins$Land" "share") ∈ lw_all := lw_g (lw_at lw_m3 55 rfl) rfl
theorem q661 : (Jvm.Cond.lays "YearSkins$Land" "YearSkins$Land" "hasYears" "Z") ∈ lw_all := lw_g (lw_at lw_m3 56 rfl) rfl
theorem q662 : (Jvm.Cond.soleField "YearSkins$Land" "hasYears") ∈ lw_all := lw_g (lw_at lw_m3 57 rfl) rfl
theorem q663 : (Jvm.Cond.superclass "YearSkins$Land" "java/lang/Object") ∈ lw_all := lw_g (lw_at lw_m3 58 rfl) rfl
theorem q902 : (Jvm.Cond.instanceMethod ({ cls := "YearSkins$Land", name := "isWater", desc := "(II)Z" } : Jvm.MethodName)) ∈ lw_all := lw_g (lw_at lw_m4 57 rfl) rfl
theorem q903 : (Jvm.Cond.selects "YearSkins$Land" ({ cls := "YearSkins$Land", name := "isWater", desc := "(II)Z" } : Jvm.MethodName) ({ cls := "YearSkins$Land", name := "isWater", desc := "(II)Z" } : Jvm.MethodName)) ∈ lw_all := lw_g (lw_at lw_m4 58 rfl) rfl
theorem q904 : (Jvm.Cond.code ({ cls := "YearSkins$Land", name := "isWater", desc := "(II)Z" } : Jvm.MethodName) prog_5_method_5_code (5 : Nat) (Option.some Jvm.ClassFile.FieldType.boolean)) ∈ lw_all := lw_g (lw_at lw_m4 59 rfl) rfl
theorem q918 : (Jvm.Cond.instanceMethod ({ cls := "YearSkins$Land", name := "find", desc := "(Ljava/lang/String;)LYearSkins$Named;" } : Jvm.MethodName)) ∈ lw_all := lw_g (lw_at lw_m4 73 rfl) rfl
theorem q919 : (Jvm.Cond.selects "YearSkins$Land" ({ cls := "YearSkins$Land", name := "find", desc := "(Ljava/lang/String;)LYearSkins$Named;" } : Jvm.MethodName) ({ cls := "YearSkins$Land", name := "find", desc := "(Ljava/lang/String;)LYearSkins$Named;" } : Jvm.MethodName)) ∈ lw_all := lw_g (lw_at lw_m4 74 rfl) rfl
theorem q920 : (Jvm.Cond.code ({ cls := "YearSkins$Land", name := "find", desc := "(Ljava/lang/String;)LYearSkins$Named;" } : Jvm.MethodName) prog_5_method_3_code (3 : Nat) (Option.some (Jvm.ClassFile.FieldType.object "YearSkins$Named"))) ∈ lw_all := lw_g (lw_at lw_m4 75 rfl) rfl
theorem q921 : (Jvm.Cond.methodLink "YearSkins$Land" (64 : Nat) ({ cls := "YearSkins$Land", name := "among", desc := "([LYearSkins$Named;ILjava/lang/String;)LYearSkins$Named;" } : Jvm.MethodName)) ∈ lw_all := lw_g (lw_at lw_m4 76 rfl) rfl
theorem q922 : (Jvm.Cond.static ({ cls := "YearSkins$Land", name := "among", desc := "([LYearSkins$Named;ILjava/lang/String;)LYearSkins$Named;" } : Jvm.MethodName)) ∈ lw_all := lw_g (lw_at lw_m4 77 rfl) rfl
theorem q923 : (Jvm.Cond.code ({ cls := "YearSkins$Land", name := "among", desc := "([LYearSkins$Named;ILjava/lang/String;)LYearSkins$Named;" } : Jvm.MethodName) prog_5_method_2_code (4 : Nat) (Option.some (Jvm.ClassFile.FieldType.object "YearSkins$Named"))) ∈ lw_all := lw_g (lw_at lw_m4 78 rfl) rfl
theorem q924 : (Jvm.Cond.methodLink "YearSkins$Land" (54 : Nat) ({ cls := "java/lang/String", name := "equals", desc := "(Ljava/lang/Object;)Z" } : Jvm.MethodName)) ∈ lw_all := lw_g (lw_at lw_m4 79 rfl) rfl
theorem q956 : (Jvm.Cond.fieldLink "YearSkins$Land" (48 : Nat) "YearSkins$Named" "name" "Ljava/lang/String;") ∈ lw_all := lw_g (lw_at lw_m4 111 rfl) rfl
theorem q1105 : (Jvm.Cond.instanceMethod ({ cls := "YearSkins$Land", name := "isGround", desc := "(II)Z" } : Jvm.MethodName)) ∈ lw_all := lw_g (lw_at lw_m5 20 rfl) rfl
theorem q1106 : (Jvm.Cond.selects "YearSkins$Land" ({ cls := "YearSkins$Land", name := "isGround", desc := "(II)Z" } : Jvm.MethodName) ({ cls := "YearSkins$Land", name := "isGround", desc := "(II)Z" } : Jvm.MethodName)) ∈ lw_all := lw_g (lw_at lw_m5 21 rfl) rfl
theorem q1107 : (Jvm.Cond.code ({ cls := "YearSkins$Land", name := "isGround", desc := "(II)Z" } : Jvm.MethodName) prog_5_method_6_code (3 : Nat) (Option.some Jvm.ClassFile.FieldType.boolean)) ∈ lw_all := lw_g (lw_at lw_m5 22 rfl) rfl
theorem q1108 : (Jvm.Cond.methodLink "YearSkins$Land" (90 : Nat) ({ cls := "YearSkins$Land", name := "isCell", desc := "(II)Z" } : Jvm.MethodName)) ∈ lw_all := lw_g (lw_at lw_m5 23 rfl) rfl
theorem q1109 : (Jvm.Cond.instanceMethod ({ cls := "YearSkins$Land", name := "isCell", desc := "(II)Z" } : Jvm.MethodName)) ∈ lw_all := lw_g (lw_at lw_m5 24 rfl) rfl
theorem q1110 : (Jvm.Cond.selects "YearSkins$Land" ({ cls := "YearSkins$Land", name := "isCell", desc := "(II)Z" } : Jvm.MethodName) ({ cls := "YearSkins$Land", name := "isCell", desc := "(II)Z" } : Jvm.MethodName)) ∈ lw_all := lw_g (lw_at lw_m5 25 rfl) rfl
theorem q1111 : (Jvm.Cond.code ({ cls := "YearSkins$Land", name := "isCell", desc := "(II)Z" } : Jvm.MethodName) prog_5_method_4_code (3 : Nat) (Option.some Jvm.ClassFile.FieldType.boolean)) ∈ lw_all := lw_g (lw_at lw_m5 26 rfl) rfl
theorem q1112 : (Jvm.Cond.methodLinkNest "YearSkins$Land" (80 : Nat) ({ cls := "YearSkins", name := "within", desc := "(III)Z" } : Jvm.MethodName) "YearSkins") ∈ lw_tbl := lw_at lw_m5 27 rfl
theorem q1113 : (Jvm.Cond.methodLink "YearSkins$Land" (94 : Nat) ({ cls := "YearSkins$Land", name := "isWater", desc := "(II)Z" } : Jvm.MethodName)) ∈ lw_all := lw_g (lw_at lw_m5 28 rfl) rfl
theorem q1184 : (Jvm.Cond.instanceMethod ({ cls := "YearSkins$Land", name := "areTold", desc := "(II)Z" } : Jvm.MethodName)) ∈ lw_all := lw_g (lw_at lw_m5 99 rfl) rfl
theorem q1185 : (Jvm.Cond.selects "YearSkins$Land" ({ cls := "YearSkins$Land", name := "areTold", desc := "(II)Z" } : Jvm.MethodName) ({ cls := "YearSkins$Land", name := "areTold", desc := "(II)Z" } : Jvm.MethodName)) ∈ lw_all := lw_g (lw_at lw_m5 100 rfl) rfl
theorem q1186 : (Jvm.Cond.code ({ cls := "YearSkins$Land", name := "areTold", desc := "(II)Z" } : Jvm.MethodName) prog_5_method_7_code (5 : Nat) (Option.some Jvm.ClassFile.FieldType.boolean)) ∈ lw_all := lw_g (lw_at lw_m5 101 rfl) rfl
theorem q2648 : (Jvm.Cond.castable "YearSkins$Land" "java/lang/Object") ∈ lw_tbl := lw_at lw_m11 123 rfl
theorem in_X10 : ∀ w ∈ wsX100, w ∈ lw_all := lw_in wsX100 [619, 621, 623, 625, 627, 629, 631, 633, 635, 637, 639, 641, 643, 645, 647, 649, 651, 653, 655, 657, 659, 661] (by decide +kernel) (by decide +kernel)
/-! YearSkins$Named -/
set_option maxRecDepth 100000
def RX11 : String := "YearSkins$Named"
abbrev cX11_init : ByteArray := prog_6_method_1_code
def yX11_init : MethodName := ⟨RX11, "<init>", "(Ljava/lang/String;I)V"⟩
def dkwX11_init_0 : List UInt8 := [42, 183, 0, 1, 42, 43, 181, 0, 7, 42, 28, 181, 0, 13, 177]
abbrev dktX11_init_0 : List UInt8 := dkwX11_init_0 ++ []
theorem dksX11_init_0 : cX11_init.data.toList.drop 0 = dktX11_init_0 := by decide +kernel
theorem dX11_init_0 : decode cX11_init 0 = .ok (.aload_n 0, 1) := dk_42 (dk_at dksX11_init_0 0 rfl rfl)
theorem dX11_init_1 : decode cX11_init 1 = .ok (.invokespecial 1, 3) := dk_183 0 1 (dk_at dksX11_init_0 1 rfl rfl)
theorem dX11_init_4 : decode cX11_init 4 = .ok (.aload_n 0, 1) := dk_42 (dk_at dksX11_init_0 4 rfl rfl)
theorem dX11_init_5 : decode cX11_init 5 = .ok (.aload_n 1, 1) := dk_43 (dk_at dksX11_init_0 5 rfl rfl)
theorem dX11_init_6 : decode cX11_init 6 = .ok (.putfield 7, 3) := dk_181 0 7 (dk_at dksX11_init_0 6 rfl rfl)
theorem dX11_init_9 : decode cX11_init 9 = .ok (.aload_n 0, 1) := dk_42 (dk_at dksX11_init_0 9 rfl rfl)
theorem dX11_init_10 : decode cX11_init 10 = .ok (.iload_n 2, 1) := dk_28 (dk_at dksX11_init_0 10 rfl rfl)
theorem dX11_init_11 : decode cX11_init 11 = .ok (.putfield 13, 3) := dk_181 0 13 (dk_at dksX11_init_0 11 rfl rfl)
theorem dX11_init_14 : decode cX11_init 14 = .ok (.return_, 1) := dk_177 (dk_at dksX11_init_0 14 rfl rfl)
theorem q144 : (Jvm.Cond.initialized "YearSkins$Named") ∈ lw_all := lw_g (lw_at lw_m1 19 rfl) rfl
theorem q939 : (Jvm.Cond.instanceMethod ({ cls := "YearSkins$Named", name := "<init>", desc := "(Ljava/lang/String;I)V" } : Jvm.MethodName)) ∈ lw_all := lw_g (lw_at lw_m4 94 rfl) rfl
theorem q940 : (Jvm.Cond.code ({ cls := "YearSkins$Named", name := "<init>", desc := "(Ljava/lang/String;I)V" } : Jvm.MethodName) prog_6_method_1_code (3 : Nat) (Option.none : Option Jvm.ClassFile.FieldType)) ∈ lw_all := lw_g (lw_at lw_m4 95 rfl) rfl
theorem q941 : (Jvm.Cond.methodLink "YearSkins$Named" (1 : Nat) ({ cls := "java/lang/Object", name := "<init>", desc := "()V" } : Jvm.MethodName)) ∈ lw_all := lw_g (lw_at lw_m4 96 rfl) rfl
theorem q955 : (Jvm.Cond.fieldLink "YearSkins$Named" (7 : Nat) "YearSkins$Named" "name" "Ljava/lang/String;") ∈ lw_all := lw_g (lw_at lw_m4 110 rfl) rfl
theorem q957 : (Jvm.Cond.fieldLink "YearSkins$Named" (13 : Nat) "YearSkins$Named" "number" "I") ∈ lw_all := lw_g (lw_at lw_m4 112 rfl) rfl
theorem q973 : (Jvm.Cond.soleField "YearSkins$Named" "name") ∈ lw_all := lw_g (lw_at lw_m4 128 rfl) rfl
theorem q975 : (Jvm.Cond.soleField "YearSkins$Named" "number") ∈ lw_all := lw_g (lw_at lw_m4 130 rfl) rfl
/-! YearSkins$Stone -/
set_option maxRecDepth 100000
def RX12 : String := "YearSkins$Stone"
abbrev cX12_init : ByteArray := prog_14_method_1_code
def yX12_init : MethodName := ⟨RX12, "<init>", "(Ljava/lang/String;I)V"⟩
def dkwX12_init_0 : List UInt8 := [42, 43, 28, 183, 0, 1, 177]
abbrev dktX12_init_0 : List UInt8 := dkwX12_init_0 ++ []
theorem dksX12_init_0 : cX12_init.data.toList.drop 0 = dktX12_init_0 := by decide +kernel
theorem dX12_init_0 : decode cX12_init 0 = .ok (.aload_n 0, 1) := dk_42 (dk_at dksX12_init_0 0 rfl rfl)
theorem dX12_init_1 : decode cX12_init 1 = .ok (.aload_n 1, 1) := dk_43 (dk_at dksX12_init_0 1 rfl rfl)
theorem dX12_init_2 : decode cX12_init 2 = .ok (.iload_n 2, 1) := dk_28 (dk_at dksX12_init_0 2 rfl rfl)
theorem dX12_init_3 : decode cX12_init 3 = .ok (.invokespecial 1, 3) := dk_183 0 1 (dk_at dksX12_init_0 3 rfl rfl)
theorem dX12_init_6 : decode cX12_init 6 = .ok (.return_, 1) := dk_177 (dk_at dksX12_init_0 6 rfl rfl)
abbrev cX12_damp : ByteArray := prog_14_method_3_code
def yX12_damp : MethodName := ⟨RX12, "damp", "()I"⟩
theorem dX12_damp_0 : decode cX12_damp 0 = .ok (.iconst 1, 1) := by decide +kernel
theorem dX12_damp_1 : decode cX12_damp 1 = .ok (.ireturn, 1) := by decide +kernel
abbrev cX12_burns : ByteArray := prog_14_method_4_code
def yX12_burns : MethodName := ⟨RX12, "burns", "()Z"⟩
theorem dX12_burns_0 : decode cX12_burns 0 = .ok (.iconst 0, 1) := by decide +kernel
theorem dX12_burns_1 : decode cX12_burns 1 = .ok (.ireturn, 1) := by decide +kernel
theorem q145 : (Jvm.Cond.initialized "YearSkins$Stone") ∈ lw_all := lw_g (lw_at lw_m1 20 rfl) rfl
theorem q936 : (Jvm.Cond.instanceMethod ({ cls := "YearSkins$Stone", name := "<init>", desc := "(Ljava/lang/String;I)V" } : Jvm.MethodName)) ∈ lw_all := lw_g (lw_at lw_m4 91 rfl) rfl
theorem q937 : (Jvm.Cond.code ({ cls := "YearSkins$Stone", name := "<init>", desc := "(Ljava/lang/String;I)V" } : Jvm.MethodName) prog_14_method_1_code (3 : Nat) (Option.none : Option Jvm.ClassFile.FieldType)) ∈ lw_all := lw_g (lw_at lw_m4 92 rfl) rfl
theorem q938 : (Jvm.Cond.methodLink "YearSkins$Stone" (1 : Nat) ({ cls := "YearSkins$Named", name := "<init>", desc := "(Ljava/lang/String;I)V" } : Jvm.MethodName)) ∈ lw_all := lw_g (lw_at lw_m4 93 rfl) rfl
theorem q959 : (Jvm.Cond.sameField "YearSkins$Stone" "YearSkins$Named" "number" "I") ∈ lw_all := lw_g (lw_at lw_m4 114 rfl) rfl
theorem q965 : (Jvm.Cond.soleField "YearSkins$Stone" "costs") ∈ lw_all := lw_g (lw_at lw_m4 120 rfl) rfl
theorem q967 : (Jvm.Cond.soleField "YearSkins$Stone" "warm") ∈ lw_all := lw_g (lw_at lw_m4 122 rfl) rfl
theorem q969 : (Jvm.Cond.soleField "YearSkins$Stone" "rots") ∈ lw_all := lw_g (lw_at lw_m4 124 rfl) rfl
theorem q971 : (Jvm.Cond.soleField "YearSkins$Stone" "strong") ∈ lw_all := lw_g (lw_at lw_m4 126 rfl) rfl
theorem q1462 : (Jvm.Cond.instanceMethod ({ cls := "YearSkins$Stone", name := "damp", desc := "()I" } : Jvm.MethodName)) ∈ lw_all := lw_g (lw_at lw_m6 137 rfl) rfl
theorem q1463 : (Jvm.Cond.sameMethod "YearSkins$Stone" "YearSkins$Stone" "damp" "()I") ∈ lw_all := lw_g (lw_at lw_m6 138 rfl) rfl
theorem q1469 : (Jvm.Cond.code ({ cls := "YearSkins$Stone", name := "damp", desc := "()I" } : Jvm.MethodName) prog_14_method_3_code (1 : Nat) (Option.some Jvm.ClassFile.FieldType.int)) ∈ lw_all := lw_g (lw_at lw_m6 144 rfl) rfl
theorem q1475 : (Jvm.Cond.instanceMethod ({ cls := "YearSkins$Stone", name := "burns", desc := "()Z" } : Jvm.MethodName)) ∈ lw_all := lw_g (lw_at lw_m6 150 rfl) rfl
theorem q1476 : (Jvm.Cond.sameMethod "YearSkins$Stone" "YearSkins$Stone" "burns" "()Z") ∈ lw_all := lw_g (lw_at lw_m6 151 rfl) rfl
theorem q1482 : (Jvm.Cond.code ({ cls := "YearSkins$Stone", name := "burns", desc := "()Z" } : Jvm.MethodName) prog_14_method_4_code (1 : Nat) (Option.some Jvm.ClassFile.FieldType.boolean)) ∈ lw_all := lw_g (lw_at lw_m6 157 rfl) rfl
theorem q1708 : (Jvm.Cond.declares ({ cls := "YearSkins$Stone", name := "kind", desc := "()I" } : Jvm.MethodName)) ∈ lw_tbl := lw_at lw_m7 143 rfl
theorem q1709 : (Jvm.Cond.sameMethod "YearSkins$Stone" "YearSkins$Stone" "kind" "()I") ∈ lw_all := lw_g (lw_at lw_m7 144 rfl) rfl
/-! YearSkins$Hard -/
set_option maxRecDepth 100000
def RX13 : String := "YearSkins$Hard"
def TX13 : u_T := fun k => match k with
  | 0 => ("YearSkins$Stone", "costs", "I", false)
  | 1 => ("YearSkins$Stone", "warm", "I", false)
  | 2 => ("YearSkins$Stone", "rots", "I", false)
  | 3 => ("YearSkins$Stone", "strong", "I", false)
  | 4 => ("YearSkins$Named", "name", "Ljava/lang/String;", true)
  | _ => ("YearSkins$Named", "number", "I", true)
def tyX13 : Nat → FieldType := fun k => match k with
  | 0 => .int
  | 1 => .int
  | 2 => .int
  | 3 => .int
  | 4 => .object "java/lang/String"
  | _ => .int
abbrev wsX130 : List Cond := u_ws RX13 TX13 6
theorem nmX13 : ∀ a, a < 6 → ∀ b, b < 6 → a ≠ b → (TX13 a).2.1 ≠ (TX13 b).2.1 := by decide +kernel
theorem tyX13_ok : ∀ k, k < 6 → parseFieldDescriptor (TX13 k).2.2.1 = some (tyX13 k) := by decide +kernel
abbrev cX13_init : ByteArray := prog_2_method_1_code
def yX13_init : MethodName := ⟨RX13, "<init>", "(Ljava/lang/String;I)V"⟩
def dkwX13_init_0 : List UInt8 := [42, 43, 28, 183, 0, 1, 177]
abbrev dktX13_init_0 : List UInt8 := dkwX13_init_0 ++ []
theorem dksX13_init_0 : cX13_init.data.toList.drop 0 = dktX13_init_0 := by decide +kernel
theorem dX13_init_0 : decode cX13_init 0 = .ok (.aload_n 0, 1) := dk_42 (dk_at dksX13_init_0 0 rfl rfl)
theorem dX13_init_1 : decode cX13_init 1 = .ok (.aload_n 1, 1) := dk_43 (dk_at dksX13_init_0 1 rfl rfl)
theorem dX13_init_2 : decode cX13_init 2 = .ok (.iload_n 2, 1) := dk_28 (dk_at dksX13_init_0 2 rfl rfl)
theorem dX13_init_3 : decode cX13_init 3 = .ok (.invokespecial 1, 3) := dk_183 0 1 (dk_at dksX13_init_0 3 rfl rfl)
theorem dX13_init_6 : decode cX13_init 6 = .ok (.return_, 1) := dk_177 (dk_at dksX13_init_0 6 rfl rfl)
abbrev cX13_kind : ByteArray := prog_2_method_2_code
def yX13_kind : MethodName := ⟨RX13, "kind", "()I"⟩
theorem dX13_kind_0 : decode cX13_kind 0 = .ok (.iconst 0, 1) := by decide +kernel
theorem dX13_kind_1 : decode cX13_kind 1 = .ok (.ireturn, 1) := by decide +kernel
theorem q146 : (Jvm.Cond.initialized "YearSkins$Hard") ∈ lw_all := lw_g (lw_at lw_m1 21 rfl) rfl
theorem q931 : (Jvm.Cond.instantiable "YearSkins$Hard" (6 : Nat)) ∈ lw_all := lw_g (lw_at lw_m4 86 rfl) rfl
theorem q933 : (Jvm.Cond.instanceMethod ({ cls := "YearSkins$Hard", name := "<init>", desc := "(Ljava/lang/String;I)V" } : Jvm.MethodName)) ∈ lw_all := lw_g (lw_at lw_m4 88 rfl) rfl
theorem q934 : (Jvm.Cond.code ({ cls := "YearSkins$Hard", name := "<init>", desc := "(Ljava/lang/String;I)V" } : Jvm.MethodName) prog_2_method_1_code (3 : Nat) (Option.none : Option Jvm.ClassFile.FieldType)) ∈ lw_all := lw_g (lw_at lw_m4 89 rfl) rfl
theorem q935 : (Jvm.Cond.methodLink "YearSkins$Hard" (1 : Nat) ({ cls := "YearSkins$Stone", name := "<init>", desc := "(Ljava/lang/String;I)V" } : Jvm.MethodName)) ∈ lw_all := lw_g (lw_at lw_m4 90 rfl) rfl
theorem q964 : (Jvm.Cond.lays "YearSkins$Hard" "YearSkins$Stone" "costs" "I") ∈ lw_all := lw_g (lw_at lw_m4 119 rfl) rfl
theorem q966 : (Jvm.Cond.lays "YearSkins$Hard" "YearSkins$Stone" "warm" "I") ∈ lw_all := lw_g (lw_at lw_m4 121 rfl) rfl
theorem q968 : (Jvm.Cond.lays "YearSkins$Hard" "YearSkins$Stone" "rots" "I") ∈ lw_all := lw_g (lw_at lw_m4 123 rfl) rfl
theorem q970 : (Jvm.Cond.lays "YearSkins$Hard" "YearSkins$Stone" "strong" "I") ∈ lw_all := lw_g (lw_at lw_m4 125 rfl) rfl
theorem q972 : (Jvm.Cond.laysFinal "YearSkins$Hard" "YearSkins$Named" "name" "Ljava/lang/String;") ∈ lw_all := lw_g (lw_at lw_m4 127 rfl) rfl
theorem q974 : (Jvm.Cond.laysFinal "YearSkins$Hard" "YearSkins$Named" "number" "I") ∈ lw_all := lw_g (lw_at lw_m4 129 rfl) rfl
theorem q976 : (Jvm.Cond.superclass "YearSkins$Hard" "YearSkins$Stone") ∈ lw_all := lw_g (lw_at lw_m4 131 rfl) rfl
theorem q1464 : (Jvm.Cond.selects "YearSkins$Hard" ({ cls := "YearSkins$Stone", name := "damp", desc := "()I" } : Jvm.MethodName) ({ cls := "YearSkins$Stone", name := "damp", desc := "()I" } : Jvm.MethodName)) ∈ lw_all := lw_g (lw_at lw_m6 139 rfl) rfl
theorem q1477 : (Jvm.Cond.selects "YearSkins$Hard" ({ cls := "YearSkins$Stone", name := "burns", desc := "()Z" } : Jvm.MethodName) ({ cls := "YearSkins$Stone", name := "burns", desc := "()Z" } : Jvm.MethodName)) ∈ lw_all := lw_g (lw_at lw_m6 152 rfl) rfl
theorem q1710 : (Jvm.Cond.selects "YearSkins$Hard" ({ cls := "YearSkins$Stone", name := "kind", desc := "()I" } : Jvm.MethodName) ({ cls := "YearSkins$Hard", name := "kind", desc := "()I" } : Jvm.MethodName)) ∈ lw_all := lw_g (lw_at lw_m7 145 rfl) rfl
theorem q1711 : (Jvm.Cond.instanceMethod ({ cls := "YearSkins$Hard", name := "kind", desc := "()I" } : Jvm.MethodName)) ∈ lw_all := lw_g (lw_at lw_m7 146 rfl) rfl
theorem q1712 : (Jvm.Cond.code ({ cls := "YearSkins$Hard", name := "kind", desc := "()I" } : Jvm.MethodName) prog_2_method_2_code (1 : Nat) (Option.some Jvm.ClassFile.FieldType.int)) ∈ lw_all := lw_g (lw_at lw_m7 147 rfl) rfl
theorem q2636 : (Jvm.Cond.castable "YearSkins$Hard" "YearSkins$Stone") ∈ lw_tbl := lw_at lw_m11 111 rfl
theorem q2651 : (Jvm.Cond.castable "YearSkins$Hard" "java/lang/Object") ∈ lw_tbl := lw_at lw_m11 126 rfl
theorem in_X13 : ∀ w ∈ wsX130, w ∈ lw_all := lw_in wsX130 [964, 966, 968, 970, 972, 974] (by decide +kernel) (by decide +kernel)
/-! YearSkins$Soft -/
set_option maxRecDepth 100000
def RX14 : String := "YearSkins$Soft"
def TX14 : u_T := fun k => match k with
  | 0 => ("YearSkins$Stone", "costs", "I", false)
  | 1 => ("YearSkins$Stone", "warm", "I", false)
  | 2 => ("YearSkins$Stone", "rots", "I", false)
  | 3 => ("YearSkins$Stone", "strong", "I", false)
  | 4 => ("YearSkins$Named", "name", "Ljava/lang/String;", true)
  | _ => ("YearSkins$Named", "number", "I", true)
def tyX14 : Nat → FieldType := fun k => match k with
  | 0 => .int
  | 1 => .int
  | 2 => .int
  | 3 => .int
  | 4 => .object "java/lang/String"
  | _ => .int
abbrev wsX140 : List Cond := u_ws RX14 TX14 6
theorem nmX14 : ∀ a, a < 6 → ∀ b, b < 6 → a ≠ b → (TX14 a).2.1 ≠ (TX14 b).2.1 := by decide +kernel
theorem tyX14_ok : ∀ k, k < 6 → parseFieldDescriptor (TX14 k).2.2.1 = some (tyX14 k) := by decide +kernel
abbrev cX14_init : ByteArray := prog_13_method_1_code
def yX14_init : MethodName := ⟨RX14, "<init>", "(Ljava/lang/String;I)V"⟩
def dkwX14_init_0 : List UInt8 := [42, 43, 28, 183, 0, 1, 177]
abbrev dktX14_init_0 : List UInt8 := dkwX14_init_0 ++ []
theorem dksX14_init_0 : cX14_init.data.toList.drop 0 = dktX14_init_0 := by decide +kernel
theorem dX14_init_0 : decode cX14_init 0 = .ok (.aload_n 0, 1) := dk_42 (dk_at dksX14_init_0 0 rfl rfl)
theorem dX14_init_1 : decode cX14_init 1 = .ok (.aload_n 1, 1) := dk_43 (dk_at dksX14_init_0 1 rfl rfl)
theorem dX14_init_2 : decode cX14_init 2 = .ok (.iload_n 2, 1) := dk_28 (dk_at dksX14_init_0 2 rfl rfl)
theorem dX14_init_3 : decode cX14_init 3 = .ok (.invokespecial 1, 3) := dk_183 0 1 (dk_at dksX14_init_0 3 rfl rfl)
theorem dX14_init_6 : decode cX14_init 6 = .ok (.return_, 1) := dk_177 (dk_at dksX14_init_0 6 rfl rfl)
abbrev cX14_damp : ByteArray := prog_13_method_3_code
def yX14_damp : MethodName := ⟨RX14, "damp", "()I"⟩
theorem dX14_damp_0 : decode cX14_damp 0 = .ok (.iconst 2, 1) := by decide +kernel
theorem dX14_damp_1 : decode cX14_damp 1 = .ok (.ireturn, 1) := by decide +kernel
abbrev cX14_kind : ByteArray := prog_13_method_2_code
def yX14_kind : MethodName := ⟨RX14, "kind", "()I"⟩
theorem dX14_kind_0 : decode cX14_kind 0 = .ok (.iconst 1, 1) := by decide +kernel
theorem dX14_kind_1 : decode cX14_kind 1 = .ok (.ireturn, 1) := by decide +kernel
theorem q147 : (Jvm.Cond.initialized "YearSkins$Soft") ∈ lw_all := lw_g (lw_at lw_m1 22 rfl) rfl
theorem q979 : (Jvm.Cond.instantiable "YearSkins$Soft" (6 : Nat)) ∈ lw_all := lw_g (lw_at lw_m4 134 rfl) rfl
theorem q981 : (Jvm.Cond.instanceMethod ({ cls := "YearSkins$Soft", name := "<init>", desc := "(Ljava/lang/String;I)V" } : Jvm.MethodName)) ∈ lw_all := lw_g (lw_at lw_m4 136 rfl) rfl
theorem q982 : (Jvm.Cond.code ({ cls := "YearSkins$Soft", name := "<init>", desc := "(Ljava/lang/String;I)V" } : Jvm.MethodName) prog_13_method_1_code (3 : Nat) (Option.none : Option Jvm.ClassFile.FieldType)) ∈ lw_all := lw_g (lw_at lw_m4 137 rfl) rfl
theorem q983 : (Jvm.Cond.methodLink "YearSkins$Soft" (1 : Nat) ({ cls := "YearSkins$Stone", name := "<init>", desc := "(Ljava/lang/String;I)V" } : Jvm.MethodName)) ∈ lw_all := lw_g (lw_at lw_m4 138 rfl) rfl
theorem q984 : (Jvm.Cond.lays "YearSkins$Soft" "YearSkins$Stone" "costs" "I") ∈ lw_all := lw_g (lw_at lw_m4 139 rfl) rfl
theorem q985 : (Jvm.Cond.lays "YearSkins$Soft" "YearSkins$Stone" "warm" "I") ∈ lw_all := lw_g (lw_at lw_m4 140 rfl) rfl
theorem q986 : (Jvm.Cond.lays "YearSkins$Soft" "YearSkins$Stone" "rots" "I") ∈ lw_all := lw_g (lw_at lw_m4 141 rfl) rfl
theorem q987 : (Jvm.Cond.lays "YearSkins$Soft" "YearSkins$Stone" "strong" "I") ∈ lw_all := lw_g (lw_at lw_m4 142 rfl) rfl
theorem q988 : (Jvm.Cond.laysFinal "YearSkins$Soft" "YearSkins$Named" "name" "Ljava/lang/String;") ∈ lw_all := lw_g (lw_at lw_m4 143 rfl) rfl
theorem q989 : (Jvm.Cond.laysFinal "YearSkins$Soft" "YearSkins$Named" "number" "I") ∈ lw_all := lw_g (lw_at lw_m4 144 rfl) rfl
theorem q990 : (Jvm.Cond.superclass "YearSkins$Soft" "YearSkins$Stone") ∈ lw_all := lw_g (lw_at lw_m4 145 rfl) rfl
theorem q1465 : (Jvm.Cond.selects "YearSkins$Soft" ({ cls := "YearSkins$Stone", name := "damp", desc := "()I" } : Jvm.MethodName) ({ cls := "YearSkins$Soft", name := "damp", desc := "()I" } : Jvm.MethodName)) ∈ lw_all := lw_g (lw_at lw_m6 140 rfl) rfl
theorem q1466 : (Jvm.Cond.instanceMethod ({ cls := "YearSkins$Soft", name := "damp", desc := "()I" } : Jvm.MethodName)) ∈ lw_all := lw_g (lw_at lw_m6 141 rfl) rfl
theorem q1467 : (Jvm.Cond.code ({ cls := "YearSkins$Soft", name := "damp", desc := "()I" } : Jvm.MethodName) prog_13_method_3_code (1 : Nat) (Option.some Jvm.ClassFile.FieldType.int)) ∈ lw_all := lw_g (lw_at lw_m6 142 rfl) rfl
theorem q1478 : (Jvm.Cond.selects "YearSkins$Soft" ({ cls := "YearSkins$Stone", name := "burns", desc := "()Z" } : Jvm.MethodName) ({ cls := "YearSkins$Stone", name := "burns", desc := "()Z" } : Jvm.MethodName)) ∈ lw_all := lw_g (lw_at lw_m6 153 rfl) rfl
theorem q1713 : (Jvm.Cond.selects "YearSkins$Soft" ({ cls := "YearSkins$Stone", name := "kind", desc := "()I" } : Jvm.MethodName) ({ cls := "YearSkins$Soft", name := "kind", desc := "()I" } : Jvm.MethodName)) ∈ lw_all := lw_g (lw_at lw_m7 148 rfl) rfl
theorem q1714 : (Jvm.Cond.instanceMethod ({ cls := "YearSkins$Soft", name := "kind", desc := "()I" } : Jvm.MethodName)) ∈ lw_all := lw_g (lw_at lw_m7 149 rfl) rfl
theorem q1715 : (Jvm.Cond.code ({ cls := "YearSkins$Soft", name := "kind", desc := "()I" } : Jvm.MethodName) prog_13_method_2_code (1 : Nat) (Option.some Jvm.ClassFile.FieldType.int)) ∈ lw_all := lw_g (lw_at lw_m7 150 rfl) rfl
theorem q2637 : (Jvm.Cond.castable "YearSkins$Soft" "YearSkins$Stone") ∈ lw_tbl := lw_at lw_m11 112 rfl
theorem q2652 : (Jvm.Cond.castable "YearSkins$Soft" "java/lang/Object") ∈ lw_tbl := lw_at lw_m11 127 rfl
theorem in_X14 : ∀ w ∈ wsX140, w ∈ lw_all := lw_in wsX140 [984, 985, 986, 987, 988, 989] (by decide +kernel) (by decide +kernel)
/-! YearSkins$Wood -/
set_option maxRecDepth 100000
def RX15 : String := "YearSkins$Wood"
def TX15 : u_T := fun k => match k with
  | 0 => ("YearSkins$Stone", "costs", "I", false)
  | 1 => ("YearSkins$Stone", "warm", "I", false)
  | 2 => ("YearSkins$Stone", "rots", "I", false)
  | 3 => ("YearSkins$Stone", "strong", "I", false)
  | 4 => ("YearSkins$Named", "name", "Ljava/lang/String;", true)
  | _ => ("YearSkins$Named", "number", "I", true)
def tyX15 : Nat → FieldType := fun k => match k with
  | 0 => .int
  | 1 => .int
  | 2 => .int
  | 3 => .int
  | 4 => .object "java/lang/String"
  | _ => .int
abbrev wsX150 : List Cond := u_ws RX15 TX15 6
theorem nmX15 : ∀ a, a < 6 → ∀ b, b < 6 → a ≠ b → (TX15 a).2.1 ≠ (TX15 b).2.1 := by decide +kernel
theorem tyX15_ok : ∀ k, k < 6 → parseFieldDescriptor (TX15 k).2.2.1 = some (tyX15 k) := by decide +kernel
abbrev cX15_init : ByteArray := prog_18_method_1_code
def yX15_init : MethodName := ⟨RX15, "<init>", "(Ljava/lang/String;I)V"⟩
def dkwX15_init_0 : List UInt8 := [42, 43, 28, 183, 0, 1, 177]
abbrev dktX15_init_0 : List UInt8 := dkwX15_init_0 ++ []
theorem dksX15_init_0 : cX15_init.data.toList.drop 0 = dktX15_init_0 := by decide +kernel
theorem dX15_init_0 : decode cX15_init 0 = .ok (.aload_n 0, 1) := dk_42 (dk_at dksX15_init_0 0 rfl rfl)
theorem dX15_init_1 : decode cX15_init 1 = .ok (.aload_n 1, 1) := dk_43 (dk_at dksX15_init_0 1 rfl rfl)
theorem dX15_init_2 : decode cX15_init 2 = .ok (.iload_n 2, 1) := dk_28 (dk_at dksX15_init_0 2 rfl rfl)
theorem dX15_init_3 : decode cX15_init 3 = .ok (.invokespecial 1, 3) := dk_183 0 1 (dk_at dksX15_init_0 3 rfl rfl)
theorem dX15_init_6 : decode cX15_init 6 = .ok (.return_, 1) := dk_177 (dk_at dksX15_init_0 6 rfl rfl)
abbrev cX15_burns : ByteArray := prog_18_method_3_code
def yX15_burns : MethodName := ⟨RX15, "burns", "()Z"⟩
theorem dX15_burns_0 : decode cX15_burns 0 = .ok (.iconst 1, 1) := by decide +kernel
theorem dX15_burns_1 : decode cX15_burns 1 = .ok (.ireturn, 1) := by decide +kernel
abbrev cX15_kind : ByteArray := prog_18_method_2_code
def yX15_kind : MethodName := ⟨RX15, "kind", "()I"⟩
theorem dX15_kind_0 : decode cX15_kind 0 = .ok (.iconst 2, 1) := by decide +kernel
theorem dX15_kind_1 : decode cX15_kind 1 = .ok (.ireturn, 1) := by decide +kernel
theorem q148 : (Jvm.Cond.initialized "YearSkins$Wood") ∈ lw_all := lw_g (lw_at lw_m1 23 rfl) rfl
theorem q993 : (Jvm.Cond.instantiable "YearSkins$Wood" (6 : Nat)) ∈ lw_all := lw_g (lw_at lw_m4 148 rfl) rfl
theorem q995 : (Jvm.Cond.instanceMethod ({ cls := "YearSkins$Wood", name := "<init>", desc := "(Ljava/lang/String;I)V" } : Jvm.MethodName)) ∈ lw_all := lw_g (lw_at lw_m4 150 rfl) rfl
theorem q996 : (Jvm.Cond.code ({ cls := "YearSkins$Wood", name := "<init>", desc := "(Ljava/lang/String;I)V" } : Jvm.MethodName) prog_18_method_1_code (3 : Nat) (Option.none : Option Jvm.ClassFile.FieldType)) ∈ lw_all := lw_g (lw_at lw_m4 151 rfl) rfl
theorem q997 : (Jvm.Cond.methodLink "YearSkins$Wood" (1 : Nat) ({ cls := "YearSkins$Stone", name := "<init>", desc := "(Ljava/lang/String;I)V" } : Jvm.MethodName)) ∈ lw_all := lw_g (lw_at lw_m4 152 rfl) rfl
theorem q998 : (Jvm.Cond.lays "YearSkins$Wood" "YearSkins$Stone" "costs" "I") ∈ lw_all := lw_g (lw_at lw_m4 153 rfl) rfl
theorem q999 : (Jvm.Cond.lays "YearSkins$Wood" "YearSkins$Stone" "warm" "I") ∈ lw_all := lw_g (lw_at lw_m4 154 rfl) rfl
theorem q1000 : (Jvm.Cond.lays "YearSkins$Wood" "YearSkins$Stone" "rots" "I") ∈ lw_all := lw_g (lw_at lw_m4 155 rfl) rfl
theorem q1001 : (Jvm.Cond.lays "YearSkins$Wood" "YearSkins$Stone" "strong" "I") ∈ lw_all := lw_g (lw_at lw_m4 156 rfl) rfl
theorem q1002 : (Jvm.Cond.laysFinal "YearSkins$Wood" "YearSkins$Named" "name" "Ljava/lang/String;") ∈ lw_all := lw_g (lw_at lw_m4 157 rfl) rfl
theorem q1003 : (Jvm.Cond.laysFinal "YearSkins$Wood" "YearSkins$Named" "number" "I") ∈ lw_all := lw_g (lw_at lw_m4 158 rfl) rfl
theorem q1004 : (Jvm.Cond.superclass "YearSkins$Wood" "YearSkins$Stone") ∈ lw_all := lw_g (lw_at lw_m4 159 rfl) rfl
theorem q1468 : (Jvm.Cond.selects "YearSkins$Wood" ({ cls := "YearSkins$Stone", name := "damp", desc := "()I" } : Jvm.MethodName) ({ cls := "YearSkins$Stone", name := "damp", desc := "()I" } : Jvm.MethodName)) ∈ lw_all := lw_g (lw_at lw_m6 143 rfl) rfl
theorem q1479 : (Jvm.Cond.selects "YearSkins$Wood" ({ cls := "YearSkins$Stone", name := "burns", desc := "()Z" } : Jvm.MethodName) ({ cls := "YearSkins$Wood", name := "burns", desc := "()Z" } : Jvm.MethodName)) ∈ lw_all := lw_g (lw_at lw_m6 154 rfl) rfl
theorem q1480 : (Jvm.Cond.instanceMethod ({ cls := "YearSkins$Wood", name := "burns", desc := "()Z" } : Jvm.MethodName)) ∈ lw_all := lw_g (lw_at lw_m6 155 rfl) rfl
theorem q1481 : (Jvm.Cond.code ({ cls := "YearSkins$Wood", name := "burns", desc := "()Z" } : Jvm.MethodName) prog_18_method_3_code (1 : Nat) (Option.some Jvm.ClassFile.FieldType.boolean)) ∈ lw_all := lw_g (lw_at lw_m6 156 rfl) rfl
theorem q1716 : (Jvm.Cond.selects "YearSkins$Wood" ({ cls := "YearSkins$Stone", name := "kind", desc := "()I" } : Jvm.MethodName) ({ cls := "YearSkins$Wood", name := "kind", desc := "()I" } : Jvm.MethodName)) ∈ lw_all := lw_g (lw_at lw_m7 151 rfl) rfl
theorem q1717 : (Jvm.Cond.instanceMethod ({ cls := "YearSkins$Wood", name := "kind", desc := "()I" } : Jvm.MethodName)) ∈ lw_all := lw_g (lw_at lw_m7 152 rfl) rfl
theorem q1718 : (Jvm.Cond.code ({ cls := "YearSkins$Wood", name := "kind", desc := "()I" } : Jvm.MethodName) prog_18_method_2_code (1 : Nat) (Option.some Jvm.ClassFile.FieldType.int)) ∈ lw_all := lw_g (lw_at lw_m7 153 rfl) rfl
theorem q2638 : (Jvm.Cond.castable "YearSkins$Wood" "YearSkins$Stone") ∈ lw_tbl := lw_at lw_m11 113 rfl
theorem q2653 : (Jvm.Cond.castable "YearSkins$Wood" "java/lang/Object") ∈ lw_tbl := lw_at lw_m11 128 rfl
theorem in_X15 : ∀ w ∈ wsX150, w ∈ lw_all := lw_in wsX150 [998, 999, 1000, 1001, 1002, 1003] (by decide +kernel) (by decide +kernel)
/-! YearSkins$Site -/
set_option maxRecDepth 100000
def RX16 : String := "YearSkins$Site"
def TX16 : u_T := fun k => match k with
  | 0 => ("YearSkins$Named", "name", "Ljava/lang/String;", true)
  | 1 => ("YearSkins$Named", "number", "I", true)
  | 2 => ("YearSkins$Site", "x", "I", false)
  | 3 => ("YearSkins$Site", "y", "I", false)
  | _ => ("YearSkins$Site", "stone", "LYearSkins$Stone;", false)
def tyX16 : Nat → FieldType := fun k => match k with
  | 0 => .object "java/lang/String"
  | 1 => .int
  | 2 => .int
  | 3 => .int
  | _ => .object "YearSkins$Stone"
abbrev wsX160 : List Cond := u_ws RX16 TX16 5
theorem nmX16 : ∀ a, a < 5 → ∀ b, b < 5 → a ≠ b → (TX16 a).2.1 ≠ (TX16 b).2.1 := by decide +kernel
theorem tyX16_ok : ∀ k, k < 5 → parseFieldDescriptor (TX16 k).2.2.1 = some (tyX16 k) := by decide +kernel
abbrev cX16_init : ByteArray := prog_11_method_1_code
def yX16_init : MethodName := ⟨RX16, "<init>", "(Ljava/lang/String;I)V"⟩
def dkwX16_init_0 : List UInt8 := [42, 43, 28, 183, 0, 1, 177]
abbrev dktX16_init_0 : List UInt8 := dkwX16_init_0 ++ []
theorem dksX16_init_0 : cX16_init.data.toList.drop 0 = dktX16_init_0 := by decide +kernel
theorem dX16_init_0 : decode cX16_init 0 = .ok (.aload_n 0, 1) := dk_42 (dk_at dksX16_init_0 0 rfl rfl)
theorem dX16_init_1 : decode cX16_init 1 = .ok (.aload_n 1, 1) := dk_43 (dk_at dksX16_init_0 1 rfl rfl)
theorem dX16_init_2 : decode cX16_init 2 = .ok (.iload_n 2, 1) := dk_28 (dk_at dksX16_init_0 2 rfl rfl)
theorem dX16_init_3 : decode cX16_init 3 = .ok (.invokespecial 1, 3) := dk_183 0 1 (dk_at dksX16_init_0 3 rfl rfl)
theorem dX16_init_6 : decode cX16_init 6 = .ok (.return_, 1) := dk_177 (dk_at dksX16_init_0 6 rfl rfl)
theorem q149 : (Jvm.Cond.initialized "YearSkins$Site") ∈ lw_all := lw_g (lw_at lw_m1 24 rfl) rfl
theorem q961 : (Jvm.Cond.sameField "YearSkins$Site" "YearSkins$Named" "number" "I") ∈ lw_all := lw_g (lw_at lw_m4 116 rfl) rfl
theorem q1014 : (Jvm.Cond.instantiable "YearSkins$Site" (5 : Nat)) ∈ lw_all := lw_g (lw_at lw_m4 169 rfl) rfl
theorem q1016 : (Jvm.Cond.instanceMethod ({ cls := "YearSkins$Site", name := "<init>", desc := "(Ljava/lang/String;I)V" } : Jvm.MethodName)) ∈ lw_all := lw_g (lw_at lw_m4 171 rfl) rfl
theorem q1017 : (Jvm.Cond.code ({ cls := "YearSkins$Site", name := "<init>", desc := "(Ljava/lang/String;I)V" } : Jvm.MethodName) prog_11_method_1_code (3 : Nat) (Option.none : Option Jvm.ClassFile.FieldType)) ∈ lw_all := lw_g (lw_at lw_m4 172 rfl) rfl
theorem q1018 : (Jvm.Cond.methodLink "YearSkins$Site" (1 : Nat) ({ cls := "YearSkins$Named", name := "<init>", desc := "(Ljava/lang/String;I)V" } : Jvm.MethodName)) ∈ lw_all := lw_g (lw_at lw_m4 173 rfl) rfl
theorem q1030 : (Jvm.Cond.lays "YearSkins$Site" "YearSkins$Site" "x" "I") ∈ lw_all := lw_g (lw_at lw_m4 185 rfl) rfl
theorem q1031 : (Jvm.Cond.soleField "YearSkins$Site" "x") ∈ lw_all := lw_g (lw_at lw_m4 186 rfl) rfl
theorem q1032 : (Jvm.Cond.lays "YearSkins$Site" "YearSkins$Site" "y" "I") ∈ lw_all := lw_g (lw_at lw_m4 187 rfl) rfl
theorem q1033 : (Jvm.Cond.soleField "YearSkins$Site" "y") ∈ lw_all := lw_g (lw_at lw_m4 188 rfl) rfl
theorem q1034 : (Jvm.Cond.lays "YearSkins$Site" "YearSkins$Site" "stone" "LYearSkins$Stone;") ∈ lw_all := lw_g (lw_at lw_m4 189 rfl) rfl
theorem q1035 : (Jvm.Cond.soleField "YearSkins$Site" "stone") ∈ lw_all := lw_g (lw_at lw_m4 190 rfl) rfl
theorem q1036 : (Jvm.Cond.laysFinal "YearSkins$Site" "YearSkins$Named" "name" "Ljava/lang/String;") ∈ lw_all := lw_g (lw_at lw_m4 191 rfl) rfl
theorem q1037 : (Jvm.Cond.laysFinal "YearSkins$Site" "YearSkins$Named" "number" "I") ∈ lw_all := lw_g (lw_at lw_m4 192 rfl) rfl
theorem q1038 : (Jvm.Cond.superclass "YearSkins$Site" "YearSkins$Named") ∈ lw_all := lw_g (lw_at lw_m4 193 rfl) rfl
theorem q2654 : (Jvm.Cond.castable "YearSkins$Site" "java/lang/Object") ∈ lw_tbl := lw_at lw_m11 129 rfl
theorem in_X16 : ∀ w ∈ wsX160, w ∈ lw_all := lw_in wsX160 [1036, 1037, 1030, 1032, 1034] (by decide +kernel) (by decide +kernel)
/-! YearSkins$Ring -/
set_option maxRecDepth 100000
def RX17 : String := "YearSkins$Ring"
abbrev cX17_x : ByteArray := prog_10_method_2_code
def yX17_x : MethodName := ⟨RX17, "x", "(II)I"⟩
def dkwX17_x_1 : List UInt8 := [160, 0, 7, 26, 167, 0, 16, 28, 5, 160, 0, 9, 26, 29, 100, 167, 0, 5, 26, 116, 172]
abbrev dktX17_x_1 : List UInt8 := dkwX17_x_1 ++ []
def dkwX17_x_0 : List UInt8 := [27, 5, 26, 104, 108, 61, 27, 5, 26, 104, 112, 62, 28, 154, 0, 9, 29, 26, 100, 167, 0, 25, 28, 4]
abbrev dktX17_x_0 : List UInt8 := dkwX17_x_0 ++ dktX17_x_1
theorem dksX17_x_0 : cX17_x.data.toList.drop 0 = dktX17_x_0 := by decide +kernel
theorem dksX17_x_1 : cX17_x.data.toList.drop 24 = dktX17_x_1 := dk_seg dksX17_x_0 24 rfl rfl
theorem dX17_x_0 : decode cX17_x 0 = .ok (.iload_n 1, 1) := dk_27 (dk_at dksX17_x_0 0 rfl rfl)
theorem dX17_x_1 : decode cX17_x 1 = .ok (.iconst 2, 1) := dk_5 (dk_at dksX17_x_0 1 rfl rfl)
theorem dX17_x_2 : decode cX17_x 2 = .ok (.iload_n 0, 1) := dk_26 (dk_at dksX17_x_0 2 rfl rfl)
theorem dX17_x_3 : decode cX17_x 3 = .ok (.imul, 1) := dk_104 (dk_at dksX17_x_0 3 rfl rfl)
theorem dX17_x_4 : decode cX17_x 4 = .ok (.idiv, 1) := dk_108 (dk_at dksX17_x_0 4 rfl rfl)
theorem dX17_x_5 : decode cX17_x 5 = .ok (.istore_n 2, 1) := dk_61 (dk_at dksX17_x_0 5 rfl rfl)
theorem dX17_x_6 : decode cX17_x 6 = .ok (.iload_n 1, 1) := dk_27 (dk_at dksX17_x_0 6 rfl rfl)
theorem dX17_x_7 : decode cX17_x 7 = .ok (.iconst 2, 1) := dk_5 (dk_at dksX17_x_0 7 rfl rfl)
theorem dX17_x_8 : decode cX17_x 8 = .ok (.iload_n 0, 1) := dk_26 (dk_at dksX17_x_0 8 rfl rfl)
theorem dX17_x_9 : decode cX17_x 9 = .ok (.imul, 1) := dk_104 (dk_at dksX17_x_0 9 rfl rfl)
theorem dX17_x_10 : decode cX17_x 10 = .ok (.irem, 1) := dk_112 (dk_at dksX17_x_0 10 rfl rfl)
theorem dX17_x_11 : decode cX17_x 11 = .ok (.istore_n 3, 1) := dk_62 (dk_at dksX17_x_0 11 rfl rfl)
theorem dX17_x_12 : decode cX17_x 12 = .ok (.iload_n 2, 1) := dk_28 (dk_at dksX17_x_0 12 rfl rfl)
theorem dX17_x_13 : decode cX17_x 13 = .ok (.ifCond .ne 9, 3) := dk_154 0 9 (dk_at dksX17_x_0 13 rfl rfl)
theorem dX17_x_16 : decode cX17_x 16 = .ok (.iload_n 3, 1) := dk_29 (dk_at dksX17_x_0 16 rfl rfl)
theorem dX17_x_17 : decode cX17_x 17 = .ok (.iload_n 0, 1) := dk_26 (dk_at dksX17_x_0 17 rfl rfl)
theorem dX17_x_18 : decode cX17_x 18 = .ok (.isub, 1) := dk_100 (dk_at dksX17_x_0 18 rfl rfl)
theorem dX17_x_19 : decode cX17_x 19 = .ok (.goto 25, 3) := dk_167 0 25 (dk_at dksX17_x_0 19 rfl rfl)
theorem dX17_x_22 : decode cX17_x 22 = .ok (.iload_n 2, 1) := dk_28 (dk_at dksX17_x_0 22 rfl rfl)
theorem dX17_x_23 : decode cX17_x 23 = .ok (.iconst 1, 1) := dk_4 (dk_at dksX17_x_0 23 rfl rfl)
theorem dX17_x_24 : decode cX17_x 24 = .ok (.if_icmp .ne 7, 3) := dk_160 0 7 (dk_at dksX17_x_1 0 rfl rfl)
theorem dX17_x_27 : decode cX17_x 27 = .ok (.iload_n 0, 1) := dk_26 (dk_at dksX17_x_1 3 rfl rfl)
theorem dX17_x_28 : decode cX17_x 28 = .ok (.goto 16, 3) := dk_167 0 16 (dk_at dksX17_x_1 4 rfl rfl)
theorem dX17_x_31 : decode cX17_x 31 = .ok (.iload_n 2, 1) := dk_28 (dk_at dksX17_x_1 7 rfl rfl)
theorem dX17_x_32 : decode cX17_x 32 = .ok (.iconst 2, 1) := dk_5 (dk_at dksX17_x_1 8 rfl rfl)
theorem dX17_x_33 : decode cX17_x 33 = .ok (.if_icmp .ne 9, 3) := dk_160 0 9 (dk_at dksX17_x_1 9 rfl rfl)
theorem dX17_x_36 : decode cX17_x 36 = .ok (.iload_n 0, 1) := dk_26 (dk_at dksX17_x_1 12 rfl rfl)
theorem dX17_x_37 : decode cX17_x 37 = .ok (.iload_n 3, 1) := dk_29 (dk_at dksX17_x_1 13 rfl rfl)
theorem dX17_x_38 : decode cX17_x 38 = .ok (.isub, 1) := dk_100 (dk_at dksX17_x_1 14 rfl rfl)
theorem dX17_x_39 : decode cX17_x 39 = .ok (.goto 5, 3) := dk_167 0 5 (dk_at dksX17_x_1 15 rfl rfl)
theorem dX17_x_42 : decode cX17_x 42 = .ok (.iload_n 0, 1) := dk_26 (dk_at dksX17_x_1 18 rfl rfl)
theorem dX17_x_43 : decode cX17_x 43 = .ok (.ineg, 1) := dk_116 (dk_at dksX17_x_1 19 rfl rfl)
theorem dX17_x_44 : decode cX17_x 44 = .ok (.ireturn, 1) := dk_172 (dk_at dksX17_x_1 20 rfl rfl)
abbrev cX17_y : ByteArray := prog_10_method_3_code
def yX17_y : MethodName := ⟨RX17, "y", "(II)I"⟩
def dkwX17_y_1 : List UInt8 := [160, 0, 9, 29, 26, 100, 167, 0, 15, 28, 5, 160, 0, 7, 26, 167, 0, 6, 26, 29, 100, 172]
abbrev dktX17_y_1 : List UInt8 := dkwX17_y_1 ++ []
def dkwX17_y_0 : List UInt8 := [27, 5, 26, 104, 108, 61, 27, 5, 26, 104, 112, 62, 28, 154, 0, 8, 26, 116, 167, 0, 26, 28, 4]
abbrev dktX17_y_0 : List UInt8 := dkwX17_y_0 ++ dktX17_y_1
theorem dksX17_y_0 : cX17_y.data.toList.drop 0 = dktX17_y_0 := by decide +kernel
theorem dksX17_y_1 : cX17_y.data.toList.drop 23 = dktX17_y_1 := dk_seg dksX17_y_0 23 rfl rfl
theorem dX17_y_0 : decode cX17_y 0 = .ok (.iload_n 1, 1) := dk_27 (dk_at dksX17_y_0 0 rfl rfl)
theorem dX17_y_1 : decode cX17_y 1 = .ok (.iconst 2, 1) := dk_5 (dk_at dksX17_y_0 1 rfl rfl)
theorem dX17_y_2 : decode cX17_y 2 = .ok (.iload_n 0, 1) := dk_26 (dk_at dksX17_y_0 2 rfl rfl)
theorem dX17_y_3 : decode cX17_y 3 = .ok (.imul, 1) := dk_104 (dk_at dksX17_y_0 3 rfl rfl)
theorem dX17_y_4 : decode cX17_y 4 = .ok (.idiv, 1) := dk_108 (dk_at dksX17_y_0 4 rfl rfl)
theorem dX17_y_5 : decode cX17_y 5 = .ok (.istore_n 2, 1) := dk_61 (dk_at dksX17_y_0 5 rfl rfl)
theorem dX17_y_6 : decode cX17_y 6 = .ok (.iload_n 1, 1) := dk_27 (dk_at dksX17_y_0 6 rfl rfl)
theorem dX17_y_7 : decode cX17_y 7 = .ok (.iconst 2, 1) := dk_5 (dk_at dksX17_y_0 7 rfl rfl)
theorem dX17_y_8 : decode cX17_y 8 = .ok (.iload_n 0, 1) := dk_26 (dk_at dksX17_y_0 8 rfl rfl)
theorem dX17_y_9 : decode cX17_y 9 = .ok (.imul, 1) := dk_104 (dk_at dksX17_y_0 9 rfl rfl)
theorem dX17_y_10 : decode cX17_y 10 = .ok (.irem, 1) := dk_112 (dk_at dksX17_y_0 10 rfl rfl)
theorem dX17_y_11 : decode cX17_y 11 = .ok (.istore_n 3, 1) := dk_62 (dk_at dksX17_y_0 11 rfl rfl)
theorem dX17_y_12 : decode cX17_y 12 = .ok (.iload_n 2, 1) := dk_28 (dk_at dksX17_y_0 12 rfl rfl)
theorem dX17_y_13 : decode cX17_y 13 = .ok (.ifCond .ne 8, 3) := dk_154 0 8 (dk_at dksX17_y_0 13 rfl rfl)
theorem dX17_y_16 : decode cX17_y 16 = .ok (.iload_n 0, 1) := dk_26 (dk_at dksX17_y_0 16 rfl rfl)
theorem dX17_y_17 : decode cX17_y 17 = .ok (.ineg, 1) := dk_116 (dk_at dksX17_y_0 17 rfl rfl)
theorem dX17_y_18 : decode cX17_y 18 = .ok (.goto 26, 3) := dk_167 0 26 (dk_at dksX17_y_0 18 rfl rfl)
theorem dX17_y_21 : decode cX17_y 21 = .ok (.iload_n 2, 1) := dk_28 (dk_at dksX17_y_0 21 rfl rfl)
theorem dX17_y_22 : decode cX17_y 22 = .ok (.iconst 1, 1) := dk_4 (dk_at dksX17_y_0 22 rfl rfl)
theorem dX17_y_23 : decode cX17_y 23 = .ok (.if_icmp .ne 9, 3) := dk_160 0 9 (dk_at dksX17_y_1 0 rfl rfl)
theorem dX17_y_26 : decode cX17_y 26 = .ok (.iload_n 3, 1) := dk_29 (dk_at dksX17_y_1 3 rfl rfl)
theorem dX17_y_27 : decode cX17_y 27 = .ok (.iload_n 0, 1) := dk_26 (dk_at dksX17_y_1 4 rfl rfl)
theorem dX17_y_28 : decode cX17_y 28 = .ok (.isub, 1) := dk_100 (dk_at dksX17_y_1 5 rfl rfl)
theorem dX17_y_29 : decode cX17_y 29 = .ok (.goto 15, 3) := dk_167 0 15 (dk_at dksX17_y_1 6 rfl rfl)
theorem dX17_y_32 : decode cX17_y 32 = .ok (.iload_n 2, 1) := dk_28 (dk_at dksX17_y_1 9 rfl rfl)
theorem dX17_y_33 : decode cX17_y 33 = .ok (.iconst 2, 1) := dk_5 (dk_at dksX17_y_1 10 rfl rfl)
theorem dX17_y_34 : decode cX17_y 34 = .ok (.if_icmp .ne 7, 3) := dk_160 0 7 (dk_at dksX17_y_1 11 rfl rfl)
theorem dX17_y_37 : decode cX17_y 37 = .ok (.iload_n 0, 1) := dk_26 (dk_at dksX17_y_1 14 rfl rfl)
theorem dX17_y_38 : decode cX17_y 38 = .ok (.goto 6, 3) := dk_167 0 6 (dk_at dksX17_y_1 15 rfl rfl)
theorem dX17_y_41 : decode cX17_y 41 = .ok (.iload_n 0, 1) := dk_26 (dk_at dksX17_y_1 18 rfl rfl)
theorem dX17_y_42 : decode cX17_y 42 = .ok (.iload_n 3, 1) := dk_29 (dk_at dksX17_y_1 19 rfl rfl)
theorem dX17_y_43 : decode cX17_y 43 = .ok (.isub, 1) := dk_100 (dk_at dksX17_y_1 20 rfl rfl)
theorem dX17_y_44 : decode cX17_y 44 = .ok (.ireturn, 1) := dk_172 (dk_at dksX17_y_1 21 rfl rfl)
abbrev cX17_door : ByteArray := prog_10_method_6_code
def yX17_door : MethodName := ⟨RX17, "door", "(III)I"⟩
def dkwX17_door_3 : List UInt8 := [4, 28, 96, 26, 100, 26, 184, 0, 7, 172, 26, 26, 116, 4, 28, 96, 26, 100, 184, 0, 7, 172]
abbrev dktX17_door_3 : List UInt8 := dkwX17_door_3 ++ []
def dkwX17_door_2 : List UInt8 := [26, 4, 28, 96, 26, 100, 26, 116, 184, 0, 7, 172, 26, 26, 4, 28, 96, 26, 100, 184, 0, 7, 172, 26]
abbrev dktX17_door_2 : List UInt8 := dkwX17_door_2 ++ dktX17_door_3
def dkwX17_door_1 : List UInt8 := [170, 0, 0, 0, 0, 0, 61, 0, 0, 0, 0, 0, 0, 0, 2, 0, 0, 0, 27, 0, 0, 0, 39, 0, 0, 0, 50]
abbrev dktX17_door_1 : List UInt8 := dkwX17_door_1 ++ dktX17_door_2
def dkwX17_door_0 : List UInt8 := [27]
abbrev dktX17_door_0 : List UInt8 := dkwX17_door_0 ++ dktX17_door_1
theorem dksX17_door_0 : cX17_door.data.toList.drop 0 = dktX17_door_0 := by decide +kernel
theorem dksX17_door_1 : cX17_door.data.toList.drop 1 = dktX17_door_1 := dk_seg dksX17_door_0 1 rfl rfl
theorem dksX17_door_2 : cX17_door.data.toList.drop 28 = dktX17_door_2 := dk_seg dksX17_door_1 27 rfl rfl
theorem dksX17_door_3 : cX17_door.data.toList.drop 52 = dktX17_door_3 := dk_seg dksX17_door_2 24 rfl rfl
theorem dX17_door_0 : decode cX17_door 0 = .ok (.iload_n 1, 1) := dk_27 (dk_at dksX17_door_0 0 rfl rfl)
theorem dX17_door_1 : decode cX17_door 1 = .ok (.tableswitch 61 0 2 #[27, 39, 50], 27) := by decide +kernel
theorem dX17_door_28 : decode cX17_door 28 = .ok (.iload_n 0, 1) := dk_26 (dk_at dksX17_door_2 0 rfl rfl)
theorem dX17_door_29 : decode cX17_door 29 = .ok (.iconst 1, 1) := dk_4 (dk_at dksX17_door_2 1 rfl rfl)
theorem dX17_door_30 : decode cX17_door 30 = .ok (.iload_n 2, 1) := dk_28 (dk_at dksX17_door_2 2 rfl rfl)
theorem dX17_door_31 : decode cX17_door 31 = .ok (.iadd, 1) := dk_96 (dk_at dksX17_door_2 3 rfl rfl)
theorem dX17_door_32 : decode cX17_door 32 = .ok (.iload_n 0, 1) := dk_26 (dk_at dksX17_door_2 4 rfl rfl)
theorem dX17_door_33 : decode cX17_door 33 = .ok (.isub, 1) := dk_100 (dk_at dksX17_door_2 5 rfl rfl)
theorem dX17_door_34 : decode cX17_door 34 = .ok (.iload_n 0, 1) := dk_26 (dk_at dksX17_door_2 6 rfl rfl)
theorem dX17_door_35 : decode cX17_door 35 = .ok (.ineg, 1) := dk_116 (dk_at dksX17_door_2 7 rfl rfl)
theorem dX17_door_36 : decode cX17_door 36 = .ok (.invokestatic 7, 3) := dk_184 0 7 (dk_at dksX17_door_2 8 rfl rfl)
theorem dX17_door_39 : decode cX17_door 39 = .ok (.ireturn, 1) := dk_172 (dk_at dksX17_door_2 11 rfl rfl)
theorem dX17_door_40 : decode cX17_door 40 = .ok (.iload_n 0, 1) := dk_26 (dk_at dksX17_door_2 12 rfl rfl)
theorem dX17_door_41 : decode cX17_door 41 = .ok (.iload_n 0, 1) := dk_26 (dk_at dksX17_door_2 13 rfl rfl)
theorem dX17_door_42 : decode cX17_door 42 = .ok (.iconst 1, 1) := dk_4 (dk_at dksX17_door_2 14 rfl rfl)
theorem dX17_door_43 : decode cX17_door 43 = .ok (.iload_n 2, 1) := dk_28 (dk_at dksX17_door_2 15 rfl rfl)
theorem dX17_door_44 : decode cX17_door 44 = .ok (.iadd, 1) := dk_96 (dk_at dksX17_door_2 16 rfl rfl)
theorem dX17_door_45 : decode cX17_door 45 = .ok (.iload_n 0, 1) := dk_26 (dk_at dksX17_door_2 17 rfl rfl)
theorem dX17_door_46 : decode cX17_door 46 = .ok (.isub, 1) := dk_100 (dk_at dksX17_door_2 18 rfl rfl)
theorem dX17_door_47 : decode cX17_door 47 = .ok (.invokestatic 7, 3) := dk_184 0 7 (dk_at dksX17_door_2 19 rfl rfl)
theorem dX17_door_50 : decode cX17_door 50 = .ok (.ireturn, 1) := dk_172 (dk_at dksX17_door_2 22 rfl rfl)
theorem dX17_door_51 : decode cX17_door 51 = .ok (.iload_n 0, 1) := dk_26 (dk_at dksX17_door_2 23 rfl rfl)
theorem dX17_door_52 : decode cX17_door 52 = .ok (.iconst 1, 1) := dk_4 (dk_at dksX17_door_3 0 rfl rfl)
theorem dX17_door_53 : decode cX17_door 53 = .ok (.iload_n 2, 1) := dk_28 (dk_at dksX17_door_3 1 rfl rfl)
theorem dX17_door_54 : decode cX17_door 54 = .ok (.iadd, 1) := dk_96 (dk_at dksX17_door_3 2 rfl rfl)
theorem dX17_door_55 : decode cX17_door 55 = .ok (.iload_n 0, 1) := dk_26 (dk_at dksX17_door_3 3 rfl rfl)
theorem dX17_door_56 : decode cX17_door 56 = .ok (.isub, 1) := dk_100 (dk_at dksX17_door_3 4 rfl rfl)
theorem dX17_door_57 : decode cX17_door 57 = .ok (.iload_n 0, 1) := dk_26 (dk_at dksX17_door_3 5 rfl rfl)
theorem dX17_door_58 : decode cX17_door 58 = .ok (.invokestatic 7, 3) := dk_184 0 7 (dk_at dksX17_door_3 6 rfl rfl)
theorem dX17_door_61 : decode cX17_door 61 = .ok (.ireturn, 1) := dk_172 (dk_at dksX17_door_3 9 rfl rfl)
theorem dX17_door_62 : decode cX17_door 62 = .ok (.iload_n 0, 1) := dk_26 (dk_at dksX17_door_3 10 rfl rfl)
theorem dX17_door_63 : decode cX17_door 63 = .ok (.iload_n 0, 1) := dk_26 (dk_at dksX17_door_3 11 rfl rfl)
theorem dX17_door_64 : decode cX17_door 64 = .ok (.ineg, 1) := dk_116 (dk_at dksX17_door_3 12 rfl rfl)
theorem dX17_door_65 : decode cX17_door 65 = .ok (.iconst 1, 1) := dk_4 (dk_at dksX17_door_3 13 rfl rfl)
theorem dX17_door_66 : decode cX17_door 66 = .ok (.iload_n 2, 1) := dk_28 (dk_at dksX17_door_3 14 rfl rfl)
theorem dX17_door_67 : decode cX17_door 67 = .ok (.iadd, 1) := dk_96 (dk_at dksX17_door_3 15 rfl rfl)
theorem dX17_door_68 : decode cX17_door 68 = .ok (.iload_n 0, 1) := dk_26 (dk_at dksX17_door_3 16 rfl rfl)
theorem dX17_door_69 : decode cX17_door 69 = .ok (.isub, 1) := dk_100 (dk_at dksX17_door_3 17 rfl rfl)
theorem dX17_door_70 : decode cX17_door 70 = .ok (.invokestatic 7, 3) := dk_184 0 7 (dk_at dksX17_door_3 18 rfl rfl)
theorem dX17_door_73 : decode cX17_door 73 = .ok (.ireturn, 1) := dk_172 (dk_at dksX17_door_3 21 rfl rfl)
abbrev cX17_place : ByteArray := prog_10_method_4_code
def yX17_place : MethodName := ⟨RX17, "place", "(III)I"⟩
def dkwX17_place_1 : List UInt8 := [26, 160, 0, 11, 7, 26, 104, 26, 96, 27, 100, 172, 16, 6, 26, 104, 26, 96, 28, 100, 172]
abbrev dktX17_place_1 : List UInt8 := dkwX17_place_1 ++ []
def dkwX17_place_0 : List UInt8 := [28, 26, 116, 160, 0, 7, 27, 26, 96, 172, 27, 26, 160, 0, 11, 5, 26, 104, 28, 96, 26, 96, 172, 28]
abbrev dktX17_place_0 : List UInt8 := dkwX17_place_0 ++ dktX17_place_1
theorem dksX17_place_0 : cX17_place.data.toList.drop 0 = dktX17_place_0 := by decide +kernel
theorem dksX17_place_1 : cX17_place.data.toList.drop 24 = dktX17_place_1 := dk_seg dksX17_place_0 24 rfl rfl
theorem dX17_place_0 : decode cX17_place 0 = .ok (.iload_n 2, 1) := dk_28 (dk_at dksX17_place_0 0 rfl rfl)
theorem dX17_place_1 : decode cX17_place 1 = .ok (.iload_n 0, 1) := dk_26 (dk_at dksX17_place_0 1 rfl rfl)
theorem dX17_place_2 : decode cX17_place 2 = .ok (.ineg, 1) := dk_116 (dk_at dksX17_place_0 2 rfl rfl)
theorem dX17_place_3 : decode cX17_place 3 = .ok (.if_icmp .ne 7, 3) := dk_160 0 7 (dk_at dksX17_place_0 3 rfl rfl)
theorem dX17_place_6 : decode cX17_place 6 = .ok (.iload_n 1, 1) := dk_27 (dk_at dksX17_place_0 6 rfl rfl)
theorem dX17_place_7 : decode cX17_place 7 = .ok (.iload_n 0, 1) := dk_26 (dk_at dksX17_place_0 7 rfl rfl)
theorem dX17_place_8 : decode cX17_place 8 = .ok (.iadd, 1) := dk_96 (dk_at dksX17_place_0 8 rfl rfl)
theorem dX17_place_9 : decode cX17_place 9 = .ok (.ireturn, 1) := dk_172 (dk_at dksX17_place_0 9 rfl rfl)
theorem dX17_place_10 : decode cX17_place 10 = .ok (.iload_n 1, 1) := dk_27 (dk_at dksX17_place_0 10 rfl rfl)
theorem dX17_place_11 : decode cX17_place 11 = .ok (.iload_n 0, 1) := dk_26 (dk_at dksX17_place_0 11 rfl rfl)
theorem dX17_place_12 : decode cX17_place 12 = .ok (.if_icmp .ne 11, 3) := dk_160 0 11 (dk_at dksX17_place_0 12 rfl rfl)
theorem dX17_place_15 : decode cX17_place 15 = .ok (.iconst 2, 1) := dk_5 (dk_at dksX17_place_0 15 rfl rfl)
theorem dX17_place_16 : decode cX17_place 16 = .ok (.iload_n 0, 1) := dk_26 (dk_at dksX17_place_0 16 rfl rfl)
theorem dX17_place_17 : decode cX17_place 17 = .ok (.imul, 1) := dk_104 (dk_at dksX17_place_0 17 rfl rfl)
theorem dX17_place_18 : decode cX17_place 18 = .ok (.iload_n 2, 1) := dk_28 (dk_at dksX17_place_0 18 rfl rfl)
theorem dX17_place_19 : decode cX17_place 19 = .ok (.iadd, 1) := dk_96 (dk_at dksX17_place_0 19 rfl rfl)
theorem dX17_place_20 : decode cX17_place 20 = .ok (.iload_n 0, 1) := dk_26 (dk_at dksX17_place_0 20 rfl rfl)
theorem dX17_place_21 : decode cX17_place 21 = .ok (.iadd, 1) := dk_96 (dk_at dksX17_place_0 21 rfl rfl)
theorem dX17_place_22 : decode cX17_place 22 = .ok (.ireturn, 1) := dk_172 (dk_at dksX17_place_0 22 rfl rfl)
theorem dX17_place_23 : decode cX17_place 23 = .ok (.iload_n 2, 1) := dk_28 (dk_at dksX17_place_0 23 rfl rfl)
theorem dX17_place_24 : decode cX17_place 24 = .ok (.iload_n 0, 1) := dk_26 (dk_at dksX17_place_1 0 rfl rfl)
theorem dX17_place_25 : decode cX17_place 25 = .ok (.if_icmp .ne 11, 3) := dk_160 0 11 (dk_at dksX17_place_1 1 rfl rfl)
theorem dX17_place_28 : decode cX17_place 28 = .ok (.iconst 4, 1) := dk_7 (dk_at dksX17_place_1 4 rfl rfl)
theorem dX17_place_29 : decode cX17_place 29 = .ok (.iload_n 0, 1) := dk_26 (dk_at dksX17_place_1 5 rfl rfl)
theorem dX17_place_30 : decode cX17_place 30 = .ok (.imul, 1) := dk_104 (dk_at dksX17_place_1 6 rfl rfl)
theorem dX17_place_31 : decode cX17_place 31 = .ok (.iload_n 0, 1) := dk_26 (dk_at dksX17_place_1 7 rfl rfl)
theorem dX17_place_32 : decode cX17_place 32 = .ok (.iadd, 1) := dk_96 (dk_at dksX17_place_1 8 rfl rfl)
theorem dX17_place_33 : decode cX17_place 33 = .ok (.iload_n 1, 1) := dk_27 (dk_at dksX17_place_1 9 rfl rfl)
theorem dX17_place_34 : decode cX17_place 34 = .ok (.isub, 1) := dk_100 (dk_at dksX17_place_1 10 rfl rfl)
theorem dX17_place_35 : decode cX17_place 35 = .ok (.ireturn, 1) := dk_172 (dk_at dksX17_place_1 11 rfl rfl)
theorem dX17_place_36 : decode cX17_place 36 = .ok (.bipush 6, 2) := dk_16 6 (dk_at dksX17_place_1 12 rfl rfl)
theorem dX17_place_38 : decode cX17_place 38 = .ok (.iload_n 0, 1) := dk_26 (dk_at dksX17_place_1 14 rfl rfl)
theorem dX17_place_39 : decode cX17_place 39 = .ok (.imul, 1) := dk_104 (dk_at dksX17_place_1 15 rfl rfl)
theorem dX17_place_40 : decode cX17_place 40 = .ok (.iload_n 0, 1) := dk_26 (dk_at dksX17_place_1 16 rfl rfl)
theorem dX17_place_41 : decode cX17_place 41 = .ok (.iadd, 1) := dk_96 (dk_at dksX17_place_1 17 rfl rfl)
theorem dX17_place_42 : decode cX17_place 42 = .ok (.iload_n 2, 1) := dk_28 (dk_at dksX17_place_1 18 rfl rfl)
theorem dX17_place_43 : decode cX17_place 43 = .ok (.isub, 1) := dk_100 (dk_at dksX17_place_1 19 rfl rfl)
theorem dX17_place_44 : decode cX17_place 44 = .ok (.ireturn, 1) := dk_172 (dk_at dksX17_place_1 20 rfl rfl)
abbrev cX17_front : ByteArray := prog_10_method_7_code
def yX17_front : MethodName := ⟨RX17, "front", "(II)I"⟩
def dkwX17_front_3 : List UInt8 := [184, 0, 7, 172]
abbrev dktX17_front_3 : List UInt8 := dkwX17_front_3 ++ []
def dkwX17_front_2 : List UInt8 := [21, 4, 154, 0, 9, 29, 4, 100, 167, 0, 16, 21, 4, 5, 160, 0, 9, 29, 4, 96, 167, 0, 4, 29]
abbrev dktX17_front_2 : List UInt8 := dkwX17_front_2 ++ dktX17_front_3
def dkwX17_front_1 : List UInt8 := [4, 160, 0, 9, 28, 4, 96, 167, 0, 16, 21, 4, 6, 160, 0, 9, 28, 4, 100, 167, 0, 4, 28]
abbrev dktX17_front_1 : List UInt8 := dkwX17_front_1 ++ dktX17_front_2
def dkwX17_front_0 : List UInt8 := [26, 27, 184, 0, 13, 61, 26, 27, 184, 0, 17, 62, 27, 5, 26, 104, 108, 54, 4, 26, 4, 96, 21, 4]
abbrev dktX17_front_0 : List UInt8 := dkwX17_front_0 ++ dktX17_front_1
theorem dksX17_front_0 : cX17_front.data.toList.drop 0 = dktX17_front_0 := by decide +kernel
theorem dksX17_front_1 : cX17_front.data.toList.drop 24 = dktX17_front_1 := dk_seg dksX17_front_0 24 rfl rfl
theorem dksX17_front_2 : cX17_front.data.toList.drop 47 = dktX17_front_2 := dk_seg dksX17_front_1 23 rfl rfl
theorem dksX17_front_3 : cX17_front.data.toList.drop 71 = dktX17_front_3 := dk_seg dksX17_front_2 24 rfl rfl
theorem dX17_front_0 : decode cX17_front 0 = .ok (.iload_n 0, 1) := dk_26 (dk_at dksX17_front_0 0 rfl rfl)
theorem dX17_front_1 : decode cX17_front 1 = .ok (.iload_n 1, 1) := dk_27 (dk_at dksX17_front_0 1 rfl rfl)
theorem dX17_front_2 : decode cX17_front 2 = .ok (.invokestatic 13, 3) := dk_184 0 13 (dk_at dksX17_front_0 2 rfl rfl)
theorem dX17_front_5 : decode cX17_front 5 = .ok (.istore_n 2, 1) := dk_61 (dk_at dksX17_front_0 5 rfl rfl)
theorem dX17_front_6 : decode cX17_front 6 = .ok (.iload_n 0, 1) := dk_26 (dk_at dksX17_front_0 6 rfl rfl)
theorem dX17_front_7 : decode cX17_front 7 = .ok (.iload_n 1, 1) := dk_27 (dk_at dksX17_front_0 7 rfl rfl)
theorem dX17_front_8 : decode cX17_front 8 = .ok (.invokestatic 17, 3) := dk_184 0 17 (dk_at dksX17_front_0 8 rfl rfl)
theorem dX17_front_11 : decode cX17_front 11 = .ok (.istore_n 3, 1) := dk_62 (dk_at dksX17_front_0 11 rfl rfl)
theorem dX17_front_12 : decode cX17_front 12 = .ok (.iload_n 1, 1) := dk_27 (dk_at dksX17_front_0 12 rfl rfl)
theorem dX17_front_13 : decode cX17_front 13 = .ok (.iconst 2, 1) := dk_5 (dk_at dksX17_front_0 13 rfl rfl)
theorem dX17_front_14 : decode cX17_front 14 = .ok (.iload_n 0, 1) := dk_26 (dk_at dksX17_front_0 14 rfl rfl)
theorem dX17_front_15 : decode cX17_front 15 = .ok (.imul, 1) := dk_104 (dk_at dksX17_front_0 15 rfl rfl)
theorem dX17_front_16 : decode cX17_front 16 = .ok (.idiv, 1) := dk_108 (dk_at dksX17_front_0 16 rfl rfl)
theorem dX17_front_17 : decode cX17_front 17 = .ok (.istore 4, 2) := dk_54 4 (dk_at dksX17_front_0 17 rfl rfl)
theorem dX17_front_19 : decode cX17_front 19 = .ok (.iload_n 0, 1) := dk_26 (dk_at dksX17_front_0 19 rfl rfl)
theorem dX17_front_20 : decode cX17_front 20 = .ok (.iconst 1, 1) := dk_4 (dk_at dksX17_front_0 20 rfl rfl)
theorem dX17_front_21 : decode cX17_front 21 = .ok (.iadd, 1) := dk_96 (dk_at dksX17_front_0 21 rfl rfl)
theorem dX17_front_22 : decode cX17_front 22 = .ok (.iload 4, 2) := dk_21 4 (dk_at dksX17_front_0 22 rfl rfl)
theorem dX17_front_24 : decode cX17_front 24 = .ok (.iconst 1, 1) := dk_4 (dk_at dksX17_front_1 0 rfl rfl)
theorem dX17_front_25 : decode cX17_front 25 = .ok (.if_icmp .ne 9, 3) := dk_160 0 9 (dk_at dksX17_front_1 1 rfl rfl)
theorem dX17_front_28 : decode cX17_front 28 = .ok (.iload_n 2, 1) := dk_28 (dk_at dksX17_front_1 4 rfl rfl)
theorem dX17_front_29 : decode cX17_front 29 = .ok (.iconst 1, 1) := dk_4 (dk_at dksX17_front_1 5 rfl rfl)
theorem dX17_front_30 : decode cX17_front 30 = .ok (.iadd, 1) := dk_96 (dk_at dksX17_front_1 6 rfl rfl)
theorem dX17_front_31 : decode cX17_front 31 = .ok (.goto 16, 3) := dk_167 0 16 (dk_at dksX17_front_1 7 rfl rfl)
theorem dX17_front_34 : decode cX17_front 34 = .ok (.iload 4, 2) := dk_21 4 (dk_at dksX17_front_1 10 rfl rfl)
theorem dX17_front_36 : decode cX17_front 36 = .ok (.iconst 3, 1) := dk_6 (dk_at dksX17_front_1 12 rfl rfl)
theorem dX17_front_37 : decode cX17_front 37 = .ok (.if_icmp .ne 9, 3) := dk_160 0 9 (dk_at dksX17_front_1 13 rfl rfl)
theorem dX17_front_40 : decode cX17_front 40 = .ok (.iload_n 2, 1) := dk_28 (dk_at dksX17_front_1 16 rfl rfl)
theorem dX17_front_41 : decode cX17_front 41 = .ok (.iconst 1, 1) := dk_4 (dk_at dksX17_front_1 17 rfl rfl)
theorem dX17_front_42 : decode cX17_front 42 = .ok (.isub, 1) := dk_100 (dk_at dksX17_front_1 18 rfl rfl)
theorem dX17_front_43 : decode cX17_front 43 = .ok (.goto 4, 3) := dk_167 0 4 (dk_at dksX17_front_1 19 rfl rfl)
theorem dX17_front_46 : decode cX17_front 46 = .ok (.iload_n 2, 1) := dk_28 (dk_at dksX17_front_1 22 rfl rfl)
theorem dX17_front_47 : decode cX17_front 47 = .ok (.iload 4, 2) := dk_21 4 (dk_at dksX17_front_2 0 rfl rfl)
theorem dX17_front_49 : decode cX17_front 49 = .ok (.ifCond .ne 9, 3) := dk_154 0 9 (dk_at dksX17_front_2 2 rfl rfl)
theorem dX17_front_52 : decode cX17_front 52 = .ok (.iload_n 3, 1) := dk_29 (dk_at dksX17_front_2 5 rfl rfl)
theorem dX17_front_53 : decode cX17_front 53 = .ok (.iconst 1, 1) := dk_4 (dk_at dksX17_front_2 6 rfl rfl)
theorem dX17_front_54 : decode cX17_front 54 = .ok (.isub, 1) := dk_100 (dk_at dksX17_front_2 7 rfl rfl)
theorem dX17_front_55 : decode cX17_front 55 = .ok (.goto 16, 3) := dk_167 0 16 (dk_at dksX17_front_2 8 rfl rfl)
theorem dX17_front_58 : decode cX17_front 58 = .ok (.iload 4, 2) := dk_21 4 (dk_at dksX17_front_2 11 rfl rfl)
theorem dX17_front_60 : decode cX17_front 60 = .ok (.iconst 2, 1) := dk_5 (dk_at dksX17_front_2 13 rfl rfl)
theorem dX17_front_61 : decode cX17_front 61 = .ok (.if_icmp .ne 9, 3) := dk_160 0 9 (dk_at dksX17_front_2 14 rfl rfl)
theorem dX17_front_64 : decode cX17_front 64 = .ok (.iload_n 3, 1) := dk_29 (dk_at dksX17_front_2 17 rfl rfl)
theorem dX17_front_65 : decode cX17_front 65 = .ok (.iconst 1, 1) := dk_4 (dk_at dksX17_front_2 18 rfl rfl)
theorem dX17_front_66 : decode cX17_front 66 = .ok (.iadd, 1) := dk_96 (dk_at dksX17_front_2 19 rfl rfl)
theorem dX17_front_67 : decode cX17_front 67 = .ok (.goto 4, 3) := dk_167 0 4 (dk_at dksX17_front_2 20 rfl rfl)
theorem dX17_front_70 : decode cX17_front 70 = .ok (.iload_n 3, 1) := dk_29 (dk_at dksX17_front_2 23 rfl rfl)
theorem dX17_front_71 : decode cX17_front 71 = .ok (.invokestatic 7, 3) := dk_184 0 7 (dk_at dksX17_front_3 0 rfl rfl)
theorem dX17_front_74 : decode cX17_front 74 = .ok (.ireturn, 1) := dk_172 (dk_at dksX17_front_3 3 rfl rfl)
abbrev cX17_round : ByteArray := prog_10_method_8_code
def yX17_round : MethodName := ⟨RX17, "round", "(III)I"⟩
def dkwX17_round_0 : List UInt8 := [27, 28, 100, 184, 0, 20, 62, 29, 16, 8, 26, 104, 29, 100, 184, 0, 26, 172]
abbrev dktX17_round_0 : List UInt8 := dkwX17_round_0 ++ []
theorem dksX17_round_0 : cX17_round.data.toList.drop 0 = dktX17_round_0 := by decide +kernel
theorem dX17_round_0 : decode cX17_round 0 = .ok (.iload_n 1, 1) := dk_27 (dk_at dksX17_round_0 0 rfl rfl)
theorem dX17_round_1 : decode cX17_round 1 = .ok (.iload_n 2, 1) := dk_28 (dk_at dksX17_round_0 1 rfl rfl)
theorem dX17_round_2 : decode cX17_round 2 = .ok (.isub, 1) := dk_100 (dk_at dksX17_round_0 2 rfl rfl)
theorem dX17_round_3 : decode cX17_round 3 = .ok (.invokestatic 20, 3) := dk_184 0 20 (dk_at dksX17_round_0 3 rfl rfl)
theorem dX17_round_6 : decode cX17_round 6 = .ok (.istore_n 3, 1) := dk_62 (dk_at dksX17_round_0 6 rfl rfl)
theorem dX17_round_7 : decode cX17_round 7 = .ok (.iload_n 3, 1) := dk_29 (dk_at dksX17_round_0 7 rfl rfl)
theorem dX17_round_8 : decode cX17_round 8 = .ok (.bipush 8, 2) := dk_16 8 (dk_at dksX17_round_0 8 rfl rfl)
theorem dX17_round_10 : decode cX17_round 10 = .ok (.iload_n 0, 1) := dk_26 (dk_at dksX17_round_0 10 rfl rfl)
theorem dX17_round_11 : decode cX17_round 11 = .ok (.imul, 1) := dk_104 (dk_at dksX17_round_0 11 rfl rfl)
theorem dX17_round_12 : decode cX17_round 12 = .ok (.iload_n 3, 1) := dk_29 (dk_at dksX17_round_0 12 rfl rfl)
theorem dX17_round_13 : decode cX17_round 13 = .ok (.isub, 1) := dk_100 (dk_at dksX17_round_0 13 rfl rfl)
theorem dX17_round_14 : decode cX17_round 14 = .ok (.invokestatic 26, 3) := dk_184 0 26 (dk_at dksX17_round_0 14 rfl rfl)
theorem dX17_round_17 : decode cX17_round 17 = .ok (.ireturn, 1) := dk_172 (dk_at dksX17_round_0 17 rfl rfl)
abbrev cX17_isCorner : ByteArray := prog_10_method_5_code
def yX17_isCorner : MethodName := ⟨RX17, "isCorner", "(II)Z"⟩
def dkwX17_isCorner_0 : List UInt8 := [27, 5, 26, 104, 112, 154, 0, 7, 4, 167, 0, 4, 3, 172]
abbrev dktX17_isCorner_0 : List UInt8 := dkwX17_isCorner_0 ++ []
theorem dksX17_isCorner_0 : cX17_isCorner.data.toList.drop 0 = dktX17_isCorner_0 := by decide +kernel
theorem dX17_isCorner_0 : decode cX17_isCorner 0 = .ok (.iload_n 1, 1) := dk_27 (dk_at dksX17_isCorner_0 0 rfl rfl)
theorem dX17_isCorner_1 : decode cX17_isCorner 1 = .ok (.iconst 2, 1) := dk_5 (dk_at dksX17_isCorner_0 1 rfl rfl)
theorem dX17_isCorner_2 : decode cX17_isCorner 2 = .ok (.iload_n 0, 1) := dk_26 (dk_at dksX17_isCorner_0 2 rfl rfl)
theorem dX17_isCorner_3 : decode cX17_isCorner 3 = .ok (.imul, 1) := dk_104 (dk_at dksX17_isCorner_0 3 rfl rfl)
theorem dX17_isCorner_4 : decode cX17_isCorner 4 = .ok (.irem, 1) := dk_112 (dk_at dksX17_isCorner_0 4 rfl rfl)
theorem dX17_isCorner_5 : decode cX17_isCorner 5 = .ok (.ifCond .ne 7, 3) := dk_154 0 7 (dk_at dksX17_isCorner_0 5 rfl rfl)
theorem dX17_isCorner_8 : decode cX17_isCorner 8 = .ok (.iconst 1, 1) := dk_4 (dk_at dksX17_isCorner_0 8 rfl rfl)
theorem dX17_isCorner_9 : decode cX17_isCorner 9 = .ok (.goto 4, 3) := dk_167 0 4 (dk_at dksX17_isCorner_0 9 rfl rfl)
theorem dX17_isCorner_12 : decode cX17_isCorner 12 = .ok (.iconst 0, 1) := dk_3 (dk_at dksX17_isCorner_0 12 rfl rfl)
theorem dX17_isCorner_13 : decode cX17_isCorner 13 = .ok (.ireturn, 1) := dk_172 (dk_at dksX17_isCorner_0 13 rfl rfl)
theorem q151 : (Jvm.Cond.initialized "YearSkins$Ring") ∈ lw_all := lw_g (lw_at lw_m1 26 rfl) rfl
theorem q1095 : (Jvm.Cond.static ({ cls := "YearSkins$Ring", name := "x", desc := "(II)I" } : Jvm.MethodName)) ∈ lw_all := lw_g (lw_at lw_m5 10 rfl) rfl
theorem q1096 : (Jvm.Cond.code ({ cls := "YearSkins$Ring", name := "x", desc := "(II)I" } : Jvm.MethodName) prog_10_method_2_code (4 : Nat) (Option.some Jvm.ClassFile.FieldType.int)) ∈ lw_all := lw_g (lw_at lw_m5 11 rfl) rfl
theorem q1098 : (Jvm.Cond.static ({ cls := "YearSkins$Ring", name := "y", desc := "(II)I" } : Jvm.MethodName)) ∈ lw_all := lw_g (lw_at lw_m5 13 rfl) rfl
theorem q1099 : (Jvm.Cond.code ({ cls := "YearSkins$Ring", name := "y", desc := "(II)I" } : Jvm.MethodName) prog_10_method_3_code (4 : Nat) (Option.some Jvm.ClassFile.FieldType.int)) ∈ lw_all := lw_g (lw_at lw_m5 14 rfl) rfl
theorem q1259 : (Jvm.Cond.static ({ cls := "YearSkins$Ring", name := "door", desc := "(III)I" } : Jvm.MethodName)) ∈ lw_all := lw_g (lw_at lw_m5 174 rfl) rfl
theorem q1260 : (Jvm.Cond.code ({ cls := "YearSkins$Ring", name := "door", desc := "(III)I" } : Jvm.MethodName) prog_10_method_6_code (3 : Nat) (Option.some Jvm.ClassFile.FieldType.int)) ∈ lw_all := lw_g (lw_at lw_m5 175 rfl) rfl
theorem q1261 : (Jvm.Cond.methodLink "YearSkins$Ring" (7 : Nat) ({ cls := "YearSkins$Ring", name := "place", desc := "(III)I" } : Jvm.MethodName)) ∈ lw_all := lw_g (lw_at lw_m5 176 rfl) rfl
theorem q1262 : (Jvm.Cond.static ({ cls := "YearSkins$Ring", name := "place", desc := "(III)I" } : Jvm.MethodName)) ∈ lw_all := lw_g (lw_at lw_m5 177 rfl) rfl
theorem q1263 : (Jvm.Cond.code ({ cls := "YearSkins$Ring", name := "place", desc := "(III)I" } : Jvm.MethodName) prog_10_method_4_code (3 : Nat) (Option.some Jvm.ClassFile.FieldType.int)) ∈ lw_all := lw_g (lw_at lw_m5 178 rfl) rfl
theorem q1265 : (Jvm.Cond.static ({ cls := "YearSkins$Ring", name := "front", desc := "(II)I" } : Jvm.MethodName)) ∈ lw_all := lw_g (lw_at lw_m5 180 rfl) rfl
theorem q1266 : (Jvm.Cond.code ({ cls := "YearSkins$Ring", name := "front", desc := "(II)I" } : Jvm.MethodName) prog_10_method_7_code (5 : Nat) (Option.some Jvm.ClassFile.FieldType.int)) ∈ lw_all := lw_g (lw_at lw_m5 181 rfl) rfl
theorem q1267 : (Jvm.Cond.methodLink "YearSkins$Ring" (13 : Nat) ({ cls := "YearSkins$Ring", name := "x", desc := "(II)I" } : Jvm.MethodName)) ∈ lw_all := lw_g (lw_at lw_m5 182 rfl) rfl
theorem q1268 : (Jvm.Cond.methodLink "YearSkins$Ring" (17 : Nat) ({ cls := "YearSkins$Ring", name := "y", desc := "(II)I" } : Jvm.MethodName)) ∈ lw_all := lw_g (lw_at lw_m5 183 rfl) rfl
theorem q1343 : (Jvm.Cond.static ({ cls := "YearSkins$Ring", name := "round", desc := "(III)I" } : Jvm.MethodName)) ∈ lw_all := lw_g (lw_at lw_m6 18 rfl) rfl
theorem q1344 : (Jvm.Cond.code ({ cls := "YearSkins$Ring", name := "round", desc := "(III)I" } : Jvm.MethodName) prog_10_method_8_code (4 : Nat) (Option.some Jvm.ClassFile.FieldType.int)) ∈ lw_all := lw_g (lw_at lw_m6 19 rfl) rfl
theorem q1345 : (Jvm.Cond.methodLink "YearSkins$Ring" (20 : Nat) ({ cls := "java/lang/Math", name := "abs", desc := "(I)I" } : Jvm.MethodName)) ∈ lw_all := lw_g (lw_at lw_m6 20 rfl) rfl
theorem q1346 : (Jvm.Cond.methodLink "YearSkins$Ring" (26 : Nat) ({ cls := "java/lang/Math", name := "min", desc := "(II)I" } : Jvm.MethodName)) ∈ lw_all := lw_g (lw_at lw_m6 21 rfl) rfl
theorem q1411 : (Jvm.Cond.static ({ cls := "YearSkins$Ring", name := "isCorner", desc := "(II)Z" } : Jvm.MethodName)) ∈ lw_all := lw_g (lw_at lw_m6 86 rfl) rfl
theorem q1412 : (Jvm.Cond.code ({ cls := "YearSkins$Ring", name := "isCorner", desc := "(II)Z" } : Jvm.MethodName) prog_10_method_5_code (2 : Nat) (Option.some Jvm.ClassFile.FieldType.boolean)) ∈ lw_all := lw_g (lw_at lw_m6 87 rfl) rfl
/-! YearSkins$Heir -/
set_option maxRecDepth 100000
def RX18 : String := "YearSkins$Heir"
def TX18 : u_T := fun k => match k with
  | 0 => ("YearSkins$Named", "name", "Ljava/lang/String;", true)
  | 1 => ("YearSkins$Named", "number", "I", true)
  | 2 => ("YearSkins$Heir", "house", "I", true)
  | _ => ("YearSkins$Heir", "begins", "I", false)
def tyX18 : Nat → FieldType := fun k => match k with
  | 0 => .object "java/lang/String"
  | 1 => .int
  | 2 => .int
  | _ => .int
abbrev wsX180 : List Cond := u_ws RX18 TX18 4
theorem nmX18 : ∀ a, a < 4 → ∀ b, b < 4 → a ≠ b → (TX18 a).2.1 ≠ (TX18 b).2.1 := by decide +kernel
theorem tyX18_ok : ∀ k, k < 4 → parseFieldDescriptor (TX18 k).2.2.1 = some (tyX18 k) := by decide +kernel
abbrev cX18_init : ByteArray := prog_3_method_1_code
def yX18_init : MethodName := ⟨RX18, "<init>", "(Ljava/lang/String;II)V"⟩
def dkwX18_init_0 : List UInt8 := [42, 43, 28, 183, 0, 1, 42, 29, 181, 0, 7, 177]
abbrev dktX18_init_0 : List UInt8 := dkwX18_init_0 ++ []
theorem dksX18_init_0 : cX18_init.data.toList.drop 0 = dktX18_init_0 := by decide +kernel
theorem dX18_init_0 : decode cX18_init 0 = .ok (.aload_n 0, 1) := dk_42 (dk_at dksX18_init_0 0 rfl rfl)
theorem dX18_init_1 : decode cX18_init 1 = .ok (.aload_n 1, 1) := dk_43 (dk_at dksX18_init_0 1 rfl rfl)
theorem dX18_init_2 : decode cX18_init 2 = .ok (.iload_n 2, 1) := dk_28 (dk_at dksX18_init_0 2 rfl rfl)
theorem dX18_init_3 : decode cX18_init 3 = .ok (.invokespecial 1, 3) := dk_183 0 1 (dk_at dksX18_init_0 3 rfl rfl)
theorem dX18_init_6 : decode cX18_init 6 = .ok (.aload_n 0, 1) := dk_42 (dk_at dksX18_init_0 6 rfl rfl)
theorem dX18_init_7 : decode cX18_init 7 = .ok (.iload_n 3, 1) := dk_29 (dk_at dksX18_init_0 7 rfl rfl)
theorem dX18_init_8 : decode cX18_init 8 = .ok (.putfield 7, 3) := dk_181 0 7 (dk_at dksX18_init_0 8 rfl rfl)
theorem dX18_init_11 : decode cX18_init 11 = .ok (.return_, 1) := dk_177 (dk_at dksX18_init_0 11 rfl rfl)
theorem q152 : (Jvm.Cond.initialized "YearSkins$Heir") ∈ lw_all := lw_g (lw_at lw_m1 27 rfl) rfl
theorem q1136 : (Jvm.Cond.instantiable "YearSkins$Heir" (4 : Nat)) ∈ lw_all := lw_g (lw_at lw_m5 51 rfl) rfl
theorem q1138 : (Jvm.Cond.instanceMethod ({ cls := "YearSkins$Heir", name := "<init>", desc := "(Ljava/lang/String;II)V" } : Jvm.MethodName)) ∈ lw_all := lw_g (lw_at lw_m5 53 rfl) rfl
theorem q1139 : (Jvm.Cond.code ({ cls := "YearSkins$Heir", name := "<init>", desc := "(Ljava/lang/String;II)V" } : Jvm.MethodName) prog_3_method_1_code (4 : Nat) (Option.none : Option Jvm.ClassFile.FieldType)) ∈ lw_all := lw_g (lw_at lw_m5 54 rfl) rfl
theorem q1140 : (Jvm.Cond.methodLink "YearSkins$Heir" (1 : Nat) ({ cls := "YearSkins$Named", name := "<init>", desc := "(Ljava/lang/String;I)V" } : Jvm.MethodName)) ∈ lw_all := lw_g (lw_at lw_m5 55 rfl) rfl
theorem q1141 : (Jvm.Cond.fieldLink "YearSkins$Heir" (7 : Nat) "YearSkins$Heir" "house" "I") ∈ lw_all := lw_g (lw_at lw_m5 56 rfl) rfl
theorem q1145 : (Jvm.Cond.laysFinal "YearSkins$Heir" "YearSkins$Heir" "house" "I") ∈ lw_all := lw_g (lw_at lw_m5 60 rfl) rfl
theorem q1146 : (Jvm.Cond.soleField "YearSkins$Heir" "house") ∈ lw_all := lw_g (lw_at lw_m5 61 rfl) rfl
theorem q1147 : (Jvm.Cond.lays "YearSkins$Heir" "YearSkins$Heir" "begins" "I") ∈ lw_all := lw_g (lw_at lw_m5 62 rfl) rfl
theorem q1148 : (Jvm.Cond.soleField "YearSkins$Heir" "begins") ∈ lw_all := lw_g (lw_at lw_m5 63 rfl) rfl
theorem q1149 : (Jvm.Cond.laysFinal "YearSkins$Heir" "YearSkins$Named" "name" "Ljava/lang/String;") ∈ lw_all := lw_g (lw_at lw_m5 64 rfl) rfl
theorem q1150 : (Jvm.Cond.laysFinal "YearSkins$Heir" "YearSkins$Named" "number" "I") ∈ lw_all := lw_g (lw_at lw_m5 65 rfl) rfl
theorem q1151 : (Jvm.Cond.superclass "YearSkins$Heir" "YearSkins$Named") ∈ lw_all := lw_g (lw_at lw_m5 66 rfl) rfl
theorem q2655 : (Jvm.Cond.castable "YearSkins$Heir" "java/lang/Object") ∈ lw_tbl := lw_at lw_m11 130 rfl
theorem in_X18 : ∀ w ∈ wsX180, w ∈ lw_all := lw_in wsX180 [1149, 1150, 1145, 1147] (by decide +kernel) (by decide +kernel)
/-! YearSkins$Wall -/
set_option maxRecDepth 100000
def RX19 : String := "YearSkins$Wall"
def TX19 : u_T := fun k => match k with
  | 0 => ("YearSkins$Named", "name", "Ljava/lang/String;", true)
  | 1 => ("YearSkins$Named", "number", "I", true)
  | 2 => ("YearSkins$Wall", "coin", "I", false)
  | _ => ("YearSkins$Wall", "smell", "I", false)
def tyX19 : Nat → FieldType := fun k => match k with
  | 0 => .object "java/lang/String"
  | 1 => .int
  | 2 => .int
  | _ => .int
abbrev wsX190 : List Cond := u_ws RX19 TX19 4
theorem nmX19 : ∀ a, a < 4 → ∀ b, b < 4 → a ≠ b → (TX19 a).2.1 ≠ (TX19 b).2.1 := by decide +kernel
theorem tyX19_ok : ∀ k, k < 4 → parseFieldDescriptor (TX19 k).2.2.1 = some (tyX19 k) := by decide +kernel
abbrev cX19_init : ByteArray := prog_17_method_1_code
def yX19_init : MethodName := ⟨RX19, "<init>", "(Ljava/lang/String;I)V"⟩
def dkwX19_init_0 : List UInt8 := [42, 43, 28, 183, 0, 3, 42, 2, 181, 0, 9, 42, 2, 181, 0, 15, 177]
abbrev dktX19_init_0 : List UInt8 := dkwX19_init_0 ++ []
theorem dksX19_init_0 : cX19_init.data.toList.drop 0 = dktX19_init_0 := by decide +kernel
theorem dX19_init_0 : decode cX19_init 0 = .ok (.aload_n 0, 1) := dk_42 (dk_at dksX19_init_0 0 rfl rfl)
theorem dX19_init_1 : decode cX19_init 1 = .ok (.aload_n 1, 1) := dk_43 (dk_at dksX19_init_0 1 rfl rfl)
theorem dX19_init_2 : decode cX19_init 2 = .ok (.iload_n 2, 1) := dk_28 (dk_at dksX19_init_0 2 rfl rfl)
theorem dX19_init_3 : decode cX19_init 3 = .ok (.invokespecial 3, 3) := dk_183 0 3 (dk_at dksX19_init_0 3 rfl rfl)
theorem dX19_init_6 : decode cX19_init 6 = .ok (.aload_n 0, 1) := dk_42 (dk_at dksX19_init_0 6 rfl rfl)
theorem dX19_init_7 : decode cX19_init 7 = .ok (.iconst (-1), 1) := dk_2 (dk_at dksX19_init_0 7 rfl rfl)
theorem dX19_init_8 : decode cX19_init 8 = .ok (.putfield 9, 3) := dk_181 0 9 (dk_at dksX19_init_0 8 rfl rfl)
theorem dX19_init_11 : decode cX19_init 11 = .ok (.aload_n 0, 1) := dk_42 (dk_at dksX19_init_0 11 rfl rfl)
theorem dX19_init_12 : decode cX19_init 12 = .ok (.iconst (-1), 1) := dk_2 (dk_at dksX19_init_0 12 rfl rfl)
theorem dX19_init_13 : decode cX19_init 13 = .ok (.putfield 15, 3) := dk_181 0 15 (dk_at dksX19_init_0 13 rfl rfl)
theorem dX19_init_16 : decode cX19_init 16 = .ok (.return_, 1) := dk_177 (dk_at dksX19_init_0 16 rfl rfl)
theorem q153 : (Jvm.Cond.initialized "YearSkins$Wall") ∈ lw_all := lw_g (lw_at lw_m1 28 rfl) rfl
theorem q963 : (Jvm.Cond.sameField "YearSkins$Wall" "YearSkins$Named" "number" "I") ∈ lw_all := lw_g (lw_at lw_m4 118 rfl) rfl
theorem q1157 : (Jvm.Cond.instantiable "YearSkins$Wall" (4 : Nat)) ∈ lw_all := lw_g (lw_at lw_m5 72 rfl) rfl
theorem q1159 : (Jvm.Cond.instanceMethod ({ cls := "YearSkins$Wall", name := "<init>", desc := "(Ljava/lang/String;I)V" } : Jvm.MethodName)) ∈ lw_all := lw_g (lw_at lw_m5 74 rfl) rfl
theorem q1160 : (Jvm.Cond.code ({ cls := "YearSkins$Wall", name := "<init>", desc := "(Ljava/lang/String;I)V" } : Jvm.MethodName) prog_17_method_1_code (3 : Nat) (Option.none : Option Jvm.ClassFile.FieldType)) ∈ lw_all := lw_g (lw_at lw_m5 75 rfl) rfl
theorem q1161 : (Jvm.Cond.methodLink "YearSkins$Wall" (3 : Nat) ({ cls := "YearSkins$Named", name := "<init>", desc := "(Ljava/lang/String;I)V" } : Jvm.MethodName)) ∈ lw_all := lw_g (lw_at lw_m5 76 rfl) rfl
theorem q1162 : (Jvm.Cond.fieldLink "YearSkins$Wall" (9 : Nat) "YearSkins$Wall" "coin" "I") ∈ lw_all := lw_g (lw_at lw_m5 77 rfl) rfl
theorem q1165 : (Jvm.Cond.fieldLink "YearSkins$Wall" (15 : Nat) "YearSkins$Wall" "smell" "I") ∈ lw_all := lw_g (lw_at lw_m5 80 rfl) rfl
theorem q1168 : (Jvm.Cond.lays "YearSkins$Wall" "YearSkins$Wall" "coin" "I") ∈ lw_all := lw_g (lw_at lw_m5 83 rfl) rfl
theorem q1169 : (Jvm.Cond.soleField "YearSkins$Wall" "coin") ∈ lw_all := lw_g (lw_at lw_m5 84 rfl) rfl
theorem q1170 : (Jvm.Cond.lays "YearSkins$Wall" "YearSkins$Wall" "smell" "I") ∈ lw_all := lw_g (lw_at lw_m5 85 rfl) rfl
theorem q1171 : (Jvm.Cond.soleField "YearSkins$Wall" "smell") ∈ lw_all := lw_g (lw_at lw_m5 86 rfl) rfl
theorem q1172 : (Jvm.Cond.laysFinal "YearSkins$Wall" "YearSkins$Named" "name" "Ljava/lang/String;") ∈ lw_all := lw_g (lw_at lw_m5 87 rfl) rfl
theorem q1173 : (Jvm.Cond.laysFinal "YearSkins$Wall" "YearSkins$Named" "number" "I") ∈ lw_all := lw_g (lw_at lw_m5 88 rfl) rfl
theorem q1174 : (Jvm.Cond.superclass "YearSkins$Wall" "YearSkins$Named") ∈ lw_all := lw_g (lw_at lw_m5 89 rfl) rfl
theorem q2656 : (Jvm.Cond.castable "YearSkins$Wall" "java/lang/Object") ∈ lw_tbl := lw_at lw_m11 131 rfl
theorem in_X19 : ∀ w ∈ wsX190, w ∈ lw_all := lw_in wsX190 [1172, 1173, 1168, 1170] (by decide +kernel) (by decide +kernel)
/-! YearSkinsModel$Land -/
set_option maxRecDepth 100000
def RX20 : String := "YearSkinsModel$Land"
def TX20 : u_T := fun k => match k with
  | 0 => ("YearSkinsModel$Land", "wide", "I", false)
  | 1 => ("YearSkinsModel$Land", "high", "I", false)
  | 2 => ("YearSkinsModel$Land", "year", "I", false)
  | 3 => ("YearSkinsModel$Land", "births", "I", false)
  | 4 => ("YearSkinsModel$Land", "fire", "I", false)
  | 5 => ("YearSkinsModel$Land", "earns", "I", false)
  | 6 => ("YearSkinsModel$Land", "waters", "I", false)
  | 7 => ("YearSkinsModel$Land", "stones", "I", false)
  | 8 => ("YearSkinsModel$Land", "houses", "I", false)
  | 9 => ("YearSkinsModel$Land", "heirs", "I", false)
  | 10 => ("YearSkinsModel$Land", "walls", "I", false)
  | 11 => ("YearSkinsModel$Land", "olders", "I", false)
  | 12 => ("YearSkinsModel$Land", "names", "I", false)
  | 13 => ("YearSkinsModel$Land", "far", "Z", false)
  | 14 => ("YearSkinsModel$Land", "share", "Z", false)
  | 15 => ("YearSkinsModel$Land", "water", "[Z", true)
  | 16 => ("YearSkinsModel$Land", "kind", "[I", true)
  | 17 => ("YearSkinsModel$Land", "costs", "[I", true)
  | 18 => ("YearSkinsModel$Land", "warm", "[I", true)
  | 19 => ("YearSkinsModel$Land", "rots", "[I", true)
  | 20 => ("YearSkinsModel$Land", "strong", "[I", true)
  | 21 => ("YearSkinsModel$Land", "core", "[I", true)
  | 22 => ("YearSkinsModel$Land", "stoneOf", "[I", true)
  | 23 => ("YearSkinsModel$Land", "heirHouse", "[I", true)
  | 24 => ("YearSkinsModel$Land", "older", "[I", true)
  | 25 => ("YearSkinsModel$Land", "coin", "[I", true)
  | 26 => ("YearSkinsModel$Land", "smell", "[I", true)
  | 27 => ("YearSkinsModel$Land", "name", "[J", true)
  | 28 => ("YearSkinsModel$Land", "nameSort", "[I", true)
  | 29 => ("YearSkinsModel$Land", "nameNumber", "[I", true)
  | _ => ("YearSkinsModel$Land", "first", "[I", true)
def tyX20 : Nat → FieldType := fun k => match k with
  | 0 => .int
  | 1 => .int
  | 2 => .int
  | 3 => .int
  | 4 => .int
  | 5 => .int
  | 6 => .int
  | 7 => .int
  | 8 => .int
  | 9 => .int
  | 10 => .int
  | 11 => .int
  | 12 => .int
  | 13 => .boolean
  | 14 => .boolean
  | 15 => .array .boolean
  | 16 => .array .int
  | 17 => .array .int
  | 18 => .array .int
  | 19 => .array .int
  | 20 => .array .int
  | 21 => .array .int
  | 22 => .array .int
  | 23 => .array .int
  | 24 => .array .int
  | 25 => .array .int
  | 26 => .array .int
  | 27 => .array .long
  | 28 => .array .int
  | 29 => .array .int
  | _ => .array .int
abbrev wsX200 : List Cond := u_ws RX20 TX20 31
set_option maxRecDepth 100000 in
theorem nmX20 : ∀ a, a < 31 → ∀ b, b < 31 → a ≠ b → (TX20 a).2.1 ≠ (TX20 b).2.1 := by decide +kernel
set_option maxRecDepth 100000 in
theorem tyX20_ok : ∀ k, k < 31 → parseFieldDescriptor (TX20 k).2.2.1 = some (tyX20 k) := by decide +kernel
abbrev cX20_init : ByteArray := prog_21_method_1_code
def yX20_init : MethodName := ⟨RX20, "<init>", "()V"⟩
def dkwX20_init_5 : List UInt8 := [188, 10, 181, 0, 60, 42, 17, 0, 212, 188, 10, 181, 0, 63, 177]
abbrev dktX20_init_5 : List UInt8 := dkwX20_init_5 ++ []
def dkwX20_init_4 : List UInt8 := [188, 10, 181, 0, 50, 42, 16, 32, 188, 11, 181, 0, 53, 42, 16, 32, 188, 10, 181, 0, 57, 42, 16, 32]
abbrev dktX20_init_4 : List UInt8 := dkwX20_init_4 ++ dktX20_init_5
def dkwX20_init_3 : List UInt8 := [188, 10, 181, 0, 41, 42, 16, 6, 188, 10, 181, 0, 44, 42, 16, 6, 188, 10, 181, 0, 47, 42, 16, 6]
abbrev dktX20_init_3 : List UInt8 := dkwX20_init_3 ++ dktX20_init_4
def dkwX20_init_2 : List UInt8 := [42, 7, 188, 10, 181, 0, 32, 42, 7, 188, 10, 181, 0, 35, 42, 7, 188, 10, 181, 0, 38, 42, 16, 6]
abbrev dktX20_init_2 : List UInt8 := dkwX20_init_2 ++ dktX20_init_3
def dkwX20_init_1 : List UInt8 := [181, 0, 19, 42, 7, 188, 10, 181, 0, 23, 42, 7, 188, 10, 181, 0, 26, 42, 7, 188, 10, 181, 0, 29]
abbrev dktX20_init_1 : List UInt8 := dkwX20_init_1 ++ dktX20_init_2
def dkwX20_init_0 : List UInt8 := [42, 183, 0, 3, 42, 2, 181, 0, 9, 42, 17, 0, 144, 188, 4, 181, 0, 15, 42, 7, 188, 10]
abbrev dktX20_init_0 : List UInt8 := dkwX20_init_0 ++ dktX20_init_1
theorem dksX20_init_0 : cX20_init.data.toList.drop 0 = dktX20_init_0 := by decide +kernel
theorem dksX20_init_1 : cX20_init.data.toList.drop 22 = dktX20_init_1 := dk_seg dksX20_init_0 22 rfl rfl
theorem dksX20_init_2 : cX20_init.data.toList.drop 46 = dktX20_init_2 := dk_seg dksX20_init_1 24 rfl rfl
theorem dksX20_init_3 : cX20_init.data.toList.drop 70 = dktX20_init_3 := dk_seg dksX20_init_2 24 rfl rfl
theorem dksX20_init_4 : cX20_init.data.toList.drop 94 = dktX20_init_4 := dk_seg dksX20_init_3 24 rfl rfl
theorem dksX20_init_5 : cX20_init.data.toList.drop 118 = dktX20_init_5 := dk_seg dksX20_init_4 24 rfl rfl
theorem dX20_init_0 : decode cX20_init 0 = .ok (.aload_n 0, 1) := dk_42 (dk_at dksX20_init_0 0 rfl rfl)
theorem dX20_init_1 : decode cX20_init 1 = .ok (.invokespecial 3, 3) := dk_183 0 3 (dk_at dksX20_init_0 1 rfl rfl)
theorem dX20_init_4 : decode cX20_init 4 = .ok (.aload_n 0, 1) := dk_42 (dk_at dksX20_init_0 4 rfl rfl)
theorem dX20_init_5 : decode cX20_init 5 = .ok (.iconst (-1), 1) := dk_2 (dk_at dksX20_init_0 5 rfl rfl)
theorem dX20_init_6 : decode cX20_init 6 = .ok (.putfield 9, 3) := dk_181 0 9 (dk_at dksX20_init_0 6 rfl rfl)
theorem dX20_init_9 : decode cX20_init 9 = .ok (.aload_n 0, 1) := dk_42 (dk_at dksX20_init_0 9 rfl rfl)
theorem dX20_init_10 : decode cX20_init 10 = .ok (.sipush 144, 3) := dk_17 0 144 (dk_at dksX20_init_0 10 rfl rfl)
theorem dX20_init_13 : decode cX20_init 13 = .ok (.newarray .boolean, 2) := dk_188_4 (dk_at dksX20_init_0 13 rfl rfl)
theorem dX20_init_15 : decode cX20_init 15 = .ok (.putfield 15, 3) := dk_181 0 15 (dk_at dksX20_init_0 15 rfl rfl)
theorem dX20_init_18 : decode cX20_init 18 = .ok (.aload_n 0, 1) := dk_42 (dk_at dksX20_init_0 18 rfl rfl)
theorem dX20_init_19 : decode cX20_init 19 = .ok (.iconst 4, 1) := dk_7 (dk_at dksX20_init_0 19 rfl rfl)
theorem dX20_init_20 : decode cX20_init 20 = .ok (.newarray .int, 2) := dk_188_10 (dk_at dksX20_init_0 20 rfl rfl)
theorem dX20_init_22 : decode cX20_init 22 = .ok (.putfield 19, 3) := dk_181 0 19 (dk_at dksX20_init_1 0 rfl rfl)
theorem dX20_init_25 : decode cX20_init 25 = .ok (.aload_n 0, 1) := dk_42 (dk_at dksX20_init_1 3 rfl rfl)
theorem dX20_init_26 : decode cX20_init 26 = .ok (.iconst 4, 1) := dk_7 (dk_at dksX20_init_1 4 rfl rfl)
theorem dX20_init_27 : decode cX20_init 27 = .ok (.newarray .int, 2) := dk_188_10 (dk_at dksX20_init_1 5 rfl rfl)
theorem dX20_init_29 : decode cX20_init 29 = .ok (.putfield 23, 3) := dk_181 0 23 (dk_at dksX20_init_1 7 rfl rfl)
theorem dX20_init_32 : decode cX20_init 32 = .ok (.aload_n 0, 1) := dk_42 (dk_at dksX20_init_1 10 rfl rfl)
theorem dX20_init_33 : decode cX20_init 33 = .ok (.iconst 4, 1) := dk_7 (dk_at dksX20_init_1 11 rfl rfl)
theorem dX20_init_34 : decode cX20_init 34 = .ok (.newarray .int, 2) := dk_188_10 (dk_at dksX20_init_1 12 rfl rfl)
theorem dX20_init_36 : decode cX20_init 36 = .ok (.putfield 26, 3) := dk_181 0 26 (dk_at dksX20_init_1 14 rfl rfl)
theorem dX20_init_39 : decode cX20_init 39 = .ok (.aload_n 0, 1) := dk_42 (dk_at dksX20_init_1 17 rfl rfl)
theorem dX20_init_40 : decode cX20_init 40 = .ok (.iconst 4, 1) := dk_7 (dk_at dksX20_init_1 18 rfl rfl)
theorem dX20_init_41 : decode cX20_init 41 = .ok (.newarray .int, 2) := dk_188_10 (dk_at dksX20_init_1 19 rfl rfl)
theorem dX20_init_43 : decode cX20_init 43 = .ok (.putfield 29, 3) := dk_181 0 29 (dk_at dksX20_init_1 21 rfl rfl)
theorem dX20_init_46 : decode cX20_init 46 = .ok (.aload_n 0, 1) := dk_42 (dk_at dksX20_init_2 0 rfl rfl)
theorem dX20_init_47 : decode cX20_init 47 = .ok (.iconst 4, 1) := dk_7 (dk_at dksX20_init_2 1 rfl rfl)
theorem dX20_init_48 : decode cX20_init 48 = .ok (.newarray .int, 2) := dk_188_10 (dk_at dksX20_init_2 2 rfl rfl)
theorem dX20_init_50 : decode cX20_init 50 = .ok (.putfield 32, 3) := dk_181 0 32 (dk_at dksX20_init_2 4 rfl rfl)
theorem dX20_init_53 : decode cX20_init 53 = .ok (.aload_n 0, 1) := dk_42 (dk_at dksX20_init_2 7 rfl rfl)
theorem dX20_init_54 : decode cX20_init 54 = .ok (.iconst 4, 1) := dk_7 (dk_at dksX20_init_2 8 rfl rfl)
theorem dX20_init_55 : decode cX20_init 55 = .ok (.newarray .int, 2) := dk_188_10 (dk_at dksX20_init_2 9 rfl rfl)
theorem dX20_init_57 : decode cX20_init 57 = .ok (.putfield 35, 3) := dk_181 0 35 (dk_at dksX20_init_2 11 rfl rfl)
theorem dX20_init_60 : decode cX20_init 60 = .ok (.aload_n 0, 1) := dk_42 (dk_at dksX20_init_2 14 rfl rfl)
theorem dX20_init_61 : decode cX20_init 61 = .ok (.iconst 4, 1) := dk_7 (dk_at dksX20_init_2 15 rfl rfl)
theorem dX20_init_62 : decode cX20_init 62 = .ok (.newarray .int, 2) := dk_188_10 (dk_at dksX20_init_2 16 rfl rfl)
theorem dX20_init_64 : decode cX20_init 64 = .ok (.putfield 38, 3) := dk_181 0 38 (dk_at dksX20_init_2 18 rfl rfl)
theorem dX20_init_67 : decode cX20_init 67 = .ok (.aload_n 0, 1) := dk_42 (dk_at dksX20_init_2 21 rfl rfl)
theorem dX20_init_68 : decode cX20_init 68 = .ok (.bipush 6, 2) := dk_16 6 (dk_at dksX20_init_2 22 rfl rfl)
theorem dX20_init_70 : decode cX20_init 70 = .ok (.newarray .int, 2) := dk_188_10 (dk_at dksX20_init_3 0 rfl rfl)
theorem dX20_init_72 : decode cX20_init 72 = .ok (.putfield 41, 3) := dk_181 0 41 (dk_at dksX20_init_3 2 rfl rfl)
theorem dX20_init_75 : decode cX20_init 75 = .ok (.aload_n 0, 1) := dk_42 (dk_at dksX20_init_3 5 rfl rfl)
theorem dX20_init_76 : decode cX20_init 76 = .ok (.bipush 6, 2) := dk_16 6 (dk_at dksX20_init_3 6 rfl rfl)
theorem dX20_init_78 : decode cX20_init 78 = .ok (.newarray .int, 2) := dk_188_10 (dk_at dksX20_init_3 8 rfl rfl)
theorem dX20_init_80 : decode cX20_init 80 = .ok (.putfield 44, 3) := dk_181 0 44 (dk_at dksX20_init_3 10 rfl rfl)
theorem dX20_init_83 : decode cX20_init 83 = .ok (.aload_n 0, 1) := dk_42 (dk_at dksX20_init_3 13 rfl rfl)
theorem dX20_init_84 : decode cX20_init 84 = .ok (.bipush 6, 2) := dk_16 6 (dk_at dksX20_init_3 14 rfl rfl)
theorem dX20_init_86 : decode cX20_init 86 = .ok (.newarray .int, 2) := dk_188_10 (dk_at dksX20_init_3 16 rfl rfl)
theorem dX20_init_88 : decode cX20_init 88 = .ok (.putfield 47, 3) := dk_181 0 47 (dk_at dksX20_init_3 18 rfl rfl)
theorem dX20_init_91 : decode cX20_init 91 = .ok (.aload_n 0, 1) := dk_42 (dk_at dksX20_init_3 21 rfl rfl)
theorem dX20_init_92 : decode cX20_init 92 = .ok (.bipush 6, 2) := dk_16 6 (dk_at dksX20_init_3 22 rfl rfl)
theorem dX20_init_94 : decode cX20_init 94 = .ok (.newarray .int, 2) := dk_188_10 (dk_at dksX20_init_4 0 rfl rfl)
theorem dX20_init_96 : decode cX20_init 96 = .ok (.putfield 50, 3) := dk_181 0 50 (dk_at dksX20_init_4 2 rfl rfl)
theorem dX20_init_99 : decode cX20_init 99 = .ok (.aload_n 0, 1) := dk_42 (dk_at dksX20_init_4 5 rfl rfl)
theorem dX20_init_100 : decode cX20_init 100 = .ok (.bipush 32, 2) := dk_16 32 (dk_at dksX20_init_4 6 rfl rfl)
theorem dX20_init_102 : decode cX20_init 102 = .ok (.newarray .long, 2) := dk_188_11 (dk_at dksX20_init_4 8 rfl rfl)
theorem dX20_init_104 : decode cX20_init 104 = .ok (.putfield 53, 3) := dk_181 0 53 (dk_at dksX20_init_4 10 rfl rfl)
theorem dX20_init_107 : decode cX20_init 107 = .ok (.aload_n 0, 1) := dk_42 (dk_at dksX20_init_4 13 rfl rfl)
theorem dX20_init_108 : decode cX20_init 108 = .ok (.bipush 32, 2) := dk_16 32 (dk_at dksX20_init_4 14 rfl rfl)
theorem dX20_init_110 : decode cX20_init 110 = .ok (.newarray .int, 2) := dk_188_10 (dk_at dksX20_init_4 16 rfl rfl)
theorem dX20_init_112 : decode cX20_init 112 = .ok (.putfield 57, 3) := dk_181 0 57 (dk_at dksX20_init_4 18 rfl rfl)
theorem dX20_init_115 : decode cX20_init 115 = .ok (.aload_n 0, 1) := dk_42 (dk_at dksX20_init_4 21 rfl rfl)
theorem dX20_init_116 : decode cX20_init 116 = .ok (.bipush 32, 2) := dk_16 32 (dk_at dksX20_init_4 22 rfl rfl)
theorem dX20_init_118 : decode cX20_init 118 = .ok (.newarray .int, 2) := dk_188_10 (dk_at dksX20_init_5 0 rfl rfl)
theorem dX20_init_120 : decode cX20_init 120 = .ok (.putfield 60, 3) := dk_181 0 60 (dk_at dksX20_init_5 2 rfl rfl)
theorem dX20_init_123 : decode cX20_init 123 = .ok (.aload_n 0, 1) := dk_42 (dk_at dksX20_init_5 5 rfl rfl)
theorem dX20_init_124 : decode cX20_init 124 = .ok (.sipush 212, 3) := dk_17 0 212 (dk_at dksX20_init_5 6 rfl rfl)
theorem dX20_init_127 : decode cX20_init 127 = .ok (.newarray .int, 2) := dk_188_10 (dk_at dksX20_init_5 9 rfl rfl)
theorem dX20_init_129 : decode cX20_init 129 = .ok (.putfield 63, 3) := dk_181 0 63 (dk_at dksX20_init_5 11 rfl rfl)
theorem dX20_init_132 : decode cX20_init 132 = .ok (.return_, 1) := dk_177 (dk_at dksX20_init_5 14 rfl rfl)
abbrev cX20_find : ByteArray := prog_21_method_2_code
def yX20_find : MethodName := ⟨RX20, "find", "(J)I"⟩
def dkwX20_find_1 : List UInt8 := [132, 3, 1, 167, 255, 232, 2, 172]
abbrev dktX20_find_1 : List UInt8 := dkwX20_find_1 ++ []
def dkwX20_find_0 : List UInt8 := [3, 62, 29, 42, 180, 0, 66, 162, 0, 22, 42, 180, 0, 53, 29, 47, 31, 148, 154, 0, 5, 29, 172]
abbrev dktX20_find_0 : List UInt8 := dkwX20_find_0 ++ dktX20_find_1
theorem dksX20_find_0 : cX20_find.data.toList.drop 0 = dktX20_find_0 := by decide +kernel
theorem dksX20_find_1 : cX20_find.data.toList.drop 23 = dktX20_find_1 := dk_seg dksX20_find_0 23 rfl rfl
theorem dX20_find_0 : decode cX20_find 0 = .ok (.iconst 0, 1) := dk_3 (dk_at dksX20_find_0 0 rfl rfl)
theorem dX20_find_1 : decode cX20_find 1 = .ok (.istore_n 3, 1) := dk_62 (dk_at dksX20_find_0 1 rfl rfl)
theorem dX20_find_2 : decode cX20_find 2 = .ok (.iload_n 3, 1) := dk_29 (dk_at dksX20_find_0 2 rfl rfl)
theorem dX20_find_3 : decode cX20_find 3 = .ok (.aload_n 0, 1) := dk_42 (dk_at dksX20_find_0 3 rfl rfl)
theorem dX20_find_4 : decode cX20_find 4 = .ok (.getfield 66, 3) := dk_180 0 66 (dk_at dksX20_find_0 4 rfl rfl)
theorem dX20_find_7 : decode cX20_find 7 = .ok (.if_icmp .ge 22, 3) := dk_162 0 22 (dk_at dksX20_find_0 7 rfl rfl)
theorem dX20_find_10 : decode cX20_find 10 = .ok (.aload_n 0, 1) := dk_42 (dk_at dksX20_find_0 10 rfl rfl)
theorem dX20_find_11 : decode cX20_find 11 = .ok (.getfield 53, 3) := dk_180 0 53 (dk_at dksX20_find_0 11 rfl rfl)
theorem dX20_find_14 : decode cX20_find 14 = .ok (.iload_n 3, 1) := dk_29 (dk_at dksX20_find_0 14 rfl rfl)
theorem dX20_find_15 : decode cX20_find 15 = .ok (.laload, 1) := dk_47 (dk_at dksX20_find_0 15 rfl rfl)
theorem dX20_find_16 : decode cX20_find 16 = .ok (.lload_n 1, 1) := dk_31 (dk_at dksX20_find_0 16 rfl rfl)
theorem dX20_find_17 : decode cX20_find 17 = .ok (.lcmp, 1) := dk_148 (dk_at dksX20_find_0 17 rfl rfl)
theorem dX20_find_18 : decode cX20_find 18 = .ok (.ifCond .ne 5, 3) := dk_154 0 5 (dk_at dksX20_find_0 18 rfl rfl)
theorem dX20_find_21 : decode cX20_find 21 = .ok (.iload_n 3, 1) := dk_29 (dk_at dksX20_find_0 21 rfl rfl)
theorem dX20_find_22 : decode cX20_find 22 = .ok (.ireturn, 1) := dk_172 (dk_at dksX20_find_0 22 rfl rfl)
theorem dX20_find_23 : decode cX20_find 23 = .ok (.iinc 3 1, 3) := dk_132 3 1 (dk_at dksX20_find_1 0 rfl rfl)
theorem dX20_find_26 : decode cX20_find 26 = .ok (.goto (-24), 3) := dk_167 255 232 (dk_at dksX20_find_1 3 rfl rfl)
theorem dX20_find_29 : decode cX20_find 29 = .ok (.iconst (-1), 1) := dk_2 (dk_at dksX20_find_1 6 rfl rfl)
theorem dX20_find_30 : decode cX20_find 30 = .ok (.ireturn, 1) := dk_172 (dk_at dksX20_find_1 7 rfl rfl)
abbrev cX20_far : ByteArray := prog_21_method_6_code
def yX20_far : MethodName := ⟨RX20, "far", "(III)I"⟩
def dkwX20_far_2 : List UInt8 := [27, 182, 0, 79, 29, 100, 54, 5, 21, 4, 21, 5, 164, 0, 8, 21, 4, 167, 0, 5, 21, 5, 172]
abbrev dktX20_far_2 : List UInt8 := dkwX20_far_2 ++ []
def dkwX20_far_1 : List UInt8 := [28, 100, 54, 4, 29, 42, 27, 182, 0, 79, 164, 0, 13, 29, 42, 27, 182, 0, 79, 100, 167, 0, 10, 42]
abbrev dktX20_far_1 : List UInt8 := dkwX20_far_1 ++ dktX20_far_2
def dkwX20_far_0 : List UInt8 := [28, 42, 27, 182, 0, 75, 164, 0, 13, 28, 42, 27, 182, 0, 75, 100, 167, 0, 10, 42, 27, 182, 0, 75]
abbrev dktX20_far_0 : List UInt8 := dkwX20_far_0 ++ dktX20_far_1
theorem dksX20_far_0 : cX20_far.data.toList.drop 0 = dktX20_far_0 := by decide +kernel
theorem dksX20_far_1 : cX20_far.data.toList.drop 24 = dktX20_far_1 := dk_seg dksX20_far_0 24 rfl rfl
theorem dksX20_far_2 : cX20_far.data.toList.drop 48 = dktX20_far_2 := dk_seg dksX20_far_1 24 rfl rfl
theorem dX20_far_0 : decode cX20_far 0 = .ok (.iload_n 2, 1) := dk_28 (dk_at dksX20_far_0 0 rfl rfl)
theorem dX20_far_1 : decode cX20_far 1 = .ok (.aload_n 0, 1) := dk_42 (dk_at dksX20_far_0 1 rfl rfl)
theorem dX20_far_2 : decode cX20_far 2 = .ok (.iload_n 1, 1) := dk_27 (dk_at dksX20_far_0 2 rfl rfl)
theorem dX20_far_3 : decode cX20_far 3 = .ok (.invokevirtual 75, 3) := dk_182 0 75 (dk_at dksX20_far_0 3 rfl rfl)
theorem dX20_far_6 : decode cX20_far 6 = .ok (.if_icmp .le 13, 3) := dk_164 0 13 (dk_at dksX20_far_0 6 rfl rfl)
theorem dX20_far_9 : decode cX20_far 9 = .ok (.iload_n 2, 1) := dk_28 (dk_at dksX20_far_0 9 rfl rfl)
theorem dX20_far_10 : decode cX20_far 10 = .ok (.aload_n 0, 1) := dk_42 (dk_at dksX20_far_0 10 rfl rfl)
theorem dX20_far_11 : decode cX20_far 11 = .ok (.iload_n 1, 1) := dk_27 (dk_at dksX20_far_0 11 rfl rfl)
theorem dX20_far_12 : decode cX20_far 12 = .ok (.invokevirtual 75, 3) := dk_182 0 75 (dk_at dksX20_far_0 12 rfl rfl)
theorem dX20_far_15 : decode cX20_far 15 = .ok (.isub, 1) := dk_100 (dk_at dksX20_far_0 15 rfl rfl)
theorem dX20_far_16 : decode cX20_far 16 = .ok (.goto 10, 3) := dk_167 0 10 (dk_at dksX20_far_0 16 rfl rfl)
theorem dX20_far_19 : decode cX20_far 19 = .ok (.aload_n 0, 1) := dk_42 (dk_at dksX20_far_0 19 rfl rfl)
theorem dX20_far_20 : decode cX20_far 20 = .ok (.iload_n 1, 1) := dk_27 (dk_at dksX20_far_0 20 rfl rfl)
theorem dX20_far_21 : decode cX20_far 21 = .ok (.invokevirtual 75, 3) := dk_182 0 75 (dk_at dksX20_far_0 21 rfl rfl)
theorem dX20_far_24 : decode cX20_far 24 = .ok (.iload_n 2, 1) := dk_28 (dk_at dksX20_far_1 0 rfl rfl)
theorem dX20_far_25 : decode cX20_far 25 = .ok (.isub, 1) := dk_100 (dk_at dksX20_far_1 1 rfl rfl)
theorem dX20_far_26 : decode cX20_far 26 = .ok (.istore 4, 2) := dk_54 4 (dk_at dksX20_far_1 2 rfl rfl)
theorem dX20_far_28 : decode cX20_far 28 = .ok (.iload_n 3, 1) := dk_29 (dk_at dksX20_far_1 4 rfl rfl)
theorem dX20_far_29 : decode cX20_far 29 = .ok (.aload_n 0, 1) := dk_42 (dk_at dksX20_far_1 5 rfl rfl)
theorem dX20_far_30 : decode cX20_far 30 = .ok (.iload_n 1, 1) := dk_27 (dk_at dksX20_far_1 6 rfl rfl)
theorem dX20_far_31 : decode cX20_far 31 = .ok (.invokevirtual 79, 3) := dk_182 0 79 (dk_at dksX20_far_1 7 rfl rfl)
theorem dX20_far_34 : decode cX20_far 34 = .ok (.if_icmp .le 13, 3) := dk_164 0 13 (dk_at dksX20_far_1 10 rfl rfl)
theorem dX20_far_37 : decode cX20_far 37 = .ok (.iload_n 3, 1) := dk_29 (dk_at dksX20_far_1 13 rfl rfl)
theorem dX20_far_38 : decode cX20_far 38 = .ok (.aload_n 0, 1) := dk_42 (dk_at dksX20_far_1 14 rfl rfl)
theorem dX20_far_39 : decode cX20_far 39 = .ok (.iload_n 1, 1) := dk_27 (dk_at dksX20_far_1 15 rfl rfl)
theorem dX20_far_40 : decode cX20_far 40 = .ok (.invokevirtual 79, 3) := dk_182 0 79 (dk_at dksX20_far_1 16 rfl rfl)
theorem dX20_far_43 : decode cX20_far 43 = .ok (.isub, 1) := dk_100 (dk_at dksX20_far_1 19 rfl rfl)
theorem dX20_far_44 : decode cX20_far 44 = .ok (.goto 10, 3) := dk_167 0 10 (dk_at dksX20_far_1 20 rfl rfl)
theorem dX20_far_47 : decode cX20_far 47 = .ok (.aload_n 0, 1) := dk_42 (dk_at dksX20_far_1 23 rfl rfl)
theorem dX20_far_48 : decode cX20_far 48 = .ok (.iload_n 1, 1) := dk_27 (dk_at dksX20_far_2 0 rfl rfl)
theorem dX20_far_49 : decode cX20_far 49 = .ok (.invokevirtual 79, 3) := dk_182 0 79 (dk_at dksX20_far_2 1 rfl rfl)
theorem dX20_far_52 : decode cX20_far 52 = .ok (.iload_n 3, 1) := dk_29 (dk_at dksX20_far_2 4 rfl rfl)
theorem dX20_far_53 : decode cX20_far 53 = .ok (.isub, 1) := dk_100 (dk_at dksX20_far_2 5 rfl rfl)
theorem dX20_far_54 : decode cX20_far 54 = .ok (.istore 5, 2) := dk_54 5 (dk_at dksX20_far_2 6 rfl rfl)
theorem dX20_far_56 : decode cX20_far 56 = .ok (.iload 4, 2) := dk_21 4 (dk_at dksX20_far_2 8 rfl rfl)
theorem dX20_far_58 : decode cX20_far 58 = .ok (.iload 5, 2) := dk_21 5 (dk_at dksX20_far_2 10 rfl rfl)
theorem dX20_far_60 : decode cX20_far 60 = .ok (.if_icmp .le 8, 3) := dk_164 0 8 (dk_at dksX20_far_2 12 rfl rfl)
theorem dX20_far_63 : decode cX20_far 63 = .ok (.iload 4, 2) := dk_21 4 (dk_at dksX20_far_2 15 rfl rfl)
theorem dX20_far_65 : decode cX20_far 65 = .ok (.goto 5, 3) := dk_167 0 5 (dk_at dksX20_far_2 17 rfl rfl)
theorem dX20_far_68 : decode cX20_far 68 = .ok (.iload 5, 2) := dk_21 5 (dk_at dksX20_far_2 20 rfl rfl)
theorem dX20_far_70 : decode cX20_far 70 = .ok (.ireturn, 1) := dk_172 (dk_at dksX20_far_2 22 rfl rfl)
abbrev cX20_x : ByteArray := prog_21_method_4_code
def yX20_x : MethodName := ⟨RX20, "x", "(I)I"⟩
def dkwX20_x_0 : List UInt8 := [42, 180, 0, 35, 27, 46, 42, 180, 0, 69, 112, 172]
abbrev dktX20_x_0 : List UInt8 := dkwX20_x_0 ++ []
theorem dksX20_x_0 : cX20_x.data.toList.drop 0 = dktX20_x_0 := by decide +kernel
theorem dX20_x_0 : decode cX20_x 0 = .ok (.aload_n 0, 1) := dk_42 (dk_at dksX20_x_0 0 rfl rfl)
theorem dX20_x_1 : decode cX20_x 1 = .ok (.getfield 35, 3) := dk_180 0 35 (dk_at dksX20_x_0 1 rfl rfl)
theorem dX20_x_4 : decode cX20_x 4 = .ok (.iload_n 1, 1) := dk_27 (dk_at dksX20_x_0 4 rfl rfl)
theorem dX20_x_5 : decode cX20_x 5 = .ok (.iaload, 1) := dk_46 (dk_at dksX20_x_0 5 rfl rfl)
theorem dX20_x_6 : decode cX20_x 6 = .ok (.aload_n 0, 1) := dk_42 (dk_at dksX20_x_0 6 rfl rfl)
theorem dX20_x_7 : decode cX20_x 7 = .ok (.getfield 69, 3) := dk_180 0 69 (dk_at dksX20_x_0 7 rfl rfl)
theorem dX20_x_10 : decode cX20_x 10 = .ok (.irem, 1) := dk_112 (dk_at dksX20_x_0 10 rfl rfl)
theorem dX20_x_11 : decode cX20_x 11 = .ok (.ireturn, 1) := dk_172 (dk_at dksX20_x_0 11 rfl rfl)
abbrev cX20_y : ByteArray := prog_21_method_5_code
def yX20_y : MethodName := ⟨RX20, "y", "(I)I"⟩
def dkwX20_y_0 : List UInt8 := [42, 180, 0, 35, 27, 46, 42, 180, 0, 69, 108, 172]
abbrev dktX20_y_0 : List UInt8 := dkwX20_y_0 ++ []
theorem dksX20_y_0 : cX20_y.data.toList.drop 0 = dktX20_y_0 := by decide +kernel
theorem dX20_y_0 : decode cX20_y 0 = .ok (.aload_n 0, 1) := dk_42 (dk_at dksX20_y_0 0 rfl rfl)
theorem dX20_y_1 : decode cX20_y 1 = .ok (.getfield 35, 3) := dk_180 0 35 (dk_at dksX20_y_0 1 rfl rfl)
theorem dX20_y_4 : decode cX20_y 4 = .ok (.iload_n 1, 1) := dk_27 (dk_at dksX20_y_0 4 rfl rfl)
theorem dX20_y_5 : decode cX20_y 5 = .ok (.iaload, 1) := dk_46 (dk_at dksX20_y_0 5 rfl rfl)
theorem dX20_y_6 : decode cX20_y 6 = .ok (.aload_n 0, 1) := dk_42 (dk_at dksX20_y_0 6 rfl rfl)
theorem dX20_y_7 : decode cX20_y 7 = .ok (.getfield 69, 3) := dk_180 0 69 (dk_at dksX20_y_0 7 rfl rfl)
theorem dX20_y_10 : decode cX20_y 10 = .ok (.idiv, 1) := dk_108 (dk_at dksX20_y_0 10 rfl rfl)
theorem dX20_y_11 : decode cX20_y 11 = .ok (.ireturn, 1) := dk_172 (dk_at dksX20_y_0 11 rfl rfl)
abbrev cX20_isLand : ByteArray := prog_21_method_7_code
def yX20_isLand : MethodName := ⟨RX20, "isLand", "(II)Z"⟩
def dkwX20_isLand_2 : List UInt8 := [167, 0, 4, 3, 172]
abbrev dktX20_isLand_2 : List UInt8 := dkwX20_isLand_2 ++ []
def dkwX20_isLand_1 : List UInt8 := [184, 0, 82, 153, 0, 23, 42, 180, 0, 15, 42, 180, 0, 69, 28, 104, 27, 96, 51, 154, 0, 7, 4]
abbrev dktX20_isLand_1 : List UInt8 := dkwX20_isLand_1 ++ dktX20_isLand_2
def dkwX20_isLand_0 : List UInt8 := [27, 3, 42, 180, 0, 69, 4, 100, 184, 0, 82, 153, 0, 37, 28, 3, 42, 180, 0, 72, 4, 100]
abbrev dktX20_isLand_0 : List UInt8 := dkwX20_isLand_0 ++ dktX20_isLand_1
theorem dksX20_isLand_0 : cX20_isLand.data.toList.drop 0 = dktX20_isLand_0 := by decide +kernel
theorem dksX20_isLand_1 : cX20_isLand.data.toList.drop 22 = dktX20_isLand_1 := dk_seg dksX20_isLand_0 22 rfl rfl
theorem dksX20_isLand_2 : cX20_isLand.data.toList.drop 45 = dktX20_isLand_2 := dk_seg dksX20_isLand_1 23 rfl rfl
theorem dX20_isLand_0 : decode cX20_isLand 0 = .ok (.iload_n 1, 1) := dk_27 (dk_at dksX20_isLand_0 0 rfl rfl)
theorem dX20_isLand_1 : decode cX20_isLand 1 = .ok (.iconst 0, 1) := dk_3 (dk_at dksX20_isLand_0 1 rfl rfl)
theorem dX20_isLand_2 : decode cX20_isLand 2 = .ok (.aload_n 0, 1) := dk_42 (dk_at dksX20_isLand_0 2 rfl rfl)
theorem dX20_isLand_3 : decode cX20_isLand 3 = .ok (.getfield 69, 3) := dk_180 0 69 (dk_at dksX20_isLand_0 3 rfl rfl)
theorem dX20_isLand_6 : decode cX20_isLand 6 = .ok (.iconst 1, 1) := dk_4 (dk_at dksX20_isLand_0 6 rfl rfl)
theorem dX20_isLand_7 : decode cX20_isLand 7 = .ok (.isub, 1) := dk_100 (dk_at dksX20_isLand_0 7 rfl rfl)
theorem dX20_isLand_8 : decode cX20_isLand 8 = .ok (.invokestatic 82, 3) := dk_184 0 82 (dk_at dksX20_isLand_0 8 rfl rfl)
theorem dX20_isLand_11 : decode cX20_isLand 11 = .ok (.ifCond .eq 37, 3) := dk_153 0 37 (dk_at dksX20_isLand_0 11 rfl rfl)
theorem dX20_isLand_14 : decode cX20_isLand 14 = .ok (.iload_n 2, 1) := dk_28 (dk_at dksX20_isLand_0 14 rfl rfl)
theorem dX20_isLand_15 : decode cX20_isLand 15 = .ok (.iconst 0, 1) := dk_3 (dk_at dksX20_isLand_0 15 rfl rfl)
theorem dX20_isLand_16 : decode cX20_isLand 16 = .ok (.aload_n 0, 1) := dk_42 (dk_at dksX20_isLand_0 16 rfl rfl)
theorem dX20_isLand_17 : decode cX20_isLand 17 = .ok (.getfield 72, 3) := dk_180 0 72 (dk_at dksX20_isLand_0 17 rfl rfl)
theorem dX20_isLand_20 : decode cX20_isLand 20 = .ok (.iconst 1, 1) := dk_4 (dk_at dksX20_isLand_0 20 rfl rfl)
theorem dX20_isLand_21 : decode cX20_isLand 21 = .ok (.isub, 1) := dk_100 (dk_at dksX20_isLand_0 21 rfl rfl)
theorem dX20_isLand_22 : decode cX20_isLand 22 = .ok (.invokestatic 82, 3) := dk_184 0 82 (dk_at dksX20_isLand_1 0 rfl rfl)
theorem dX20_isLand_25 : decode cX20_isLand 25 = .ok (.ifCond .eq 23, 3) := dk_153 0 23 (dk_at dksX20_isLand_1 3 rfl rfl)
theorem dX20_isLand_28 : decode cX20_isLand 28 = .ok (.aload_n 0, 1) := dk_42 (dk_at dksX20_isLand_1 6 rfl rfl)
theorem dX20_isLand_29 : decode cX20_isLand 29 = .ok (.getfield 15, 3) := dk_180 0 15 (dk_at dksX20_isLand_1 7 rfl rfl)
theorem dX20_isLand_32 : decode cX20_isLand 32 = .ok (.aload_n 0, 1) := dk_42 (dk_at dksX20_isLand_1 10 rfl rfl)
theorem dX20_isLand_33 : decode cX20_isLand 33 = .ok (.getfield 69, 3) := dk_180 0 69 (dk_at dksX20_isLand_1 11 rfl rfl)
theorem dX20_isLand_36 : decode cX20_isLand 36 = .ok (.iload_n 2, 1) := dk_28 (dk_at dksX20_isLand_1 14 rfl rfl)
theorem dX20_isLand_37 : decode cX20_isLand 37 = .ok (.imul, 1) := dk_104 (dk_at dksX20_isLand_1 15 rfl rfl)
theorem dX20_isLand_38 : decode cX20_isLand 38 = .ok (.iload_n 1, 1) := dk_27 (dk_at dksX20_isLand_1 16 rfl rfl)
theorem dX20_isLand_39 : decode cX20_isLand 39 = .ok (.iadd, 1) := dk_96 (dk_at dksX20_isLand_1 17 rfl rfl)
theorem dX20_isLand_40 : decode cX20_isLand 40 = .ok (.baload, 1) := dk_51 (dk_at dksX20_isLand_1 18 rfl rfl)
theorem dX20_isLand_41 : decode cX20_isLand 41 = .ok (.ifCond .ne 7, 3) := dk_154 0 7 (dk_at dksX20_isLand_1 19 rfl rfl)
theorem dX20_isLand_44 : decode cX20_isLand 44 = .ok (.iconst 1, 1) := dk_4 (dk_at dksX20_isLand_1 22 rfl rfl)
theorem dX20_isLand_45 : decode cX20_isLand 45 = .ok (.goto 4, 3) := dk_167 0 4 (dk_at dksX20_isLand_2 0 rfl rfl)
theorem dX20_isLand_48 : decode cX20_isLand 48 = .ok (.iconst 0, 1) := dk_3 (dk_at dksX20_isLand_2 3 rfl rfl)
theorem dX20_isLand_49 : decode cX20_isLand 49 = .ok (.ireturn, 1) := dk_172 (dk_at dksX20_isLand_2 4 rfl rfl)
abbrev cX20_cells : ByteArray := prog_21_method_3_code
def yX20_cells : MethodName := ⟨RX20, "cells", "()I"⟩
def dkwX20_cells_0 : List UInt8 := [42, 180, 0, 69, 42, 180, 0, 72, 104, 172]
abbrev dktX20_cells_0 : List UInt8 := dkwX20_cells_0 ++ []
theorem dksX20_cells_0 : cX20_cells.data.toList.drop 0 = dktX20_cells_0 := by decide +kernel
theorem dX20_cells_0 : decode cX20_cells 0 = .ok (.aload_n 0, 1) := dk_42 (dk_at dksX20_cells_0 0 rfl rfl)
theorem dX20_cells_1 : decode cX20_cells 1 = .ok (.getfield 69, 3) := dk_180 0 69 (dk_at dksX20_cells_0 1 rfl rfl)
theorem dX20_cells_4 : decode cX20_cells 4 = .ok (.aload_n 0, 1) := dk_42 (dk_at dksX20_cells_0 4 rfl rfl)
theorem dX20_cells_5 : decode cX20_cells 5 = .ok (.getfield 72, 3) := dk_180 0 72 (dk_at dksX20_cells_0 5 rfl rfl)
theorem dX20_cells_8 : decode cX20_cells 8 = .ok (.imul, 1) := dk_104 (dk_at dksX20_cells_0 8 rfl rfl)
theorem dX20_cells_9 : decode cX20_cells 9 = .ok (.ireturn, 1) := dk_172 (dk_at dksX20_cells_0 9 rfl rfl)
theorem q155 : (Jvm.Cond.initialized "YearSkinsModel$Land") ∈ lw_all := lw_g (lw_at lw_m1 30 rfl) rfl
theorem q1891 : (Jvm.Cond.instantiable "YearSkinsModel$Land" (31 : Nat)) ∈ lw_all := lw_g (lw_at lw_m8 86 rfl) rfl
theorem q1893 : (Jvm.Cond.instanceMethod ({ cls := "YearSkinsModel$Land", name := "<init>", desc := "()V" } : Jvm.MethodName)) ∈ lw_all := lw_g (lw_at lw_m8 88 rfl) rfl
theorem q1894 : (Jvm.Cond.code ({ cls := "YearSkinsModel$Land", name := "<init>", desc := "()V" } : Jvm.MethodName) prog_21_method_1_code (1 : Nat) (Option.none : Option Jvm.ClassFile.FieldType)) ∈ lw_all := lw_g (lw_at lw_m8 89 rfl) rfl
theorem q1895 : (Jvm.Cond.methodLink "YearSkinsModel$Land" (3 : Nat) ({ cls := "java/lang/Object", name := "<init>", desc := "()V" } : Jvm.MethodName)) ∈ lw_all := lw_g (lw_at lw_m8 90 rfl) rfl
theorem q1896 : (Jvm.Cond.fieldLink "YearSkinsModel$Land" (69 : Nat) "YearSkinsModel$Land" "wide" "I") ∈ lw_all := lw_g (lw_at lw_m8 91 rfl) rfl
theorem q1898 : (Jvm.Cond.fieldLink "YearSkinsModel$Land" (72 : Nat) "YearSkinsModel$Land" "high" "I") ∈ lw_all := lw_g (lw_at lw_m8 93 rfl) rfl
theorem q1900 : (Jvm.Cond.fieldLink "YearSkinsModel$Land" (9 : Nat) "YearSkinsModel$Land" "year" "I") ∈ lw_all := lw_g (lw_at lw_m8 95 rfl) rfl
theorem q1911 : (Jvm.Cond.fieldLink "YearSkinsModel$Land" (66 : Nat) "YearSkinsModel$Land" "names" "I") ∈ lw_all := lw_g (lw_at lw_m8 106 rfl) rfl
theorem q1915 : (Jvm.Cond.fieldLink "YearSkinsModel$Land" (15 : Nat) "YearSkinsModel$Land" "water" "[Z") ∈ lw_all := lw_g (lw_at lw_m8 110 rfl) rfl
theorem q1917 : (Jvm.Cond.fieldLink "YearSkinsModel$Land" (19 : Nat) "YearSkinsModel$Land" "kind" "[I") ∈ lw_all := lw_g (lw_at lw_m8 112 rfl) rfl
theorem q1919 : (Jvm.Cond.fieldLink "YearSkinsModel$Land" (23 : Nat) "YearSkinsModel$Land" "costs" "[I") ∈ lw_all := lw_g (lw_at lw_m8 114 rfl) rfl
theorem q1921 : (Jvm.Cond.fieldLink "YearSkinsModel$Land" (26 : Nat) "YearSkinsModel$Land" "warm" "[I") ∈ lw_all := lw_g (lw_at lw_m8 116 rfl) rfl
theorem q1923 : (Jvm.Cond.fieldLink "YearSkinsModel$Land" (29 : Nat) "YearSkinsModel$Land" "rots" "[I") ∈ lw_all := lw_g (lw_at lw_m8 118 rfl) rfl
theorem q1925 : (Jvm.Cond.fieldLink "YearSkinsModel$Land" (32 : Nat) "YearSkinsModel$Land" "strong" "[I") ∈ lw_all := lw_g (lw_at lw_m8 120 rfl) rfl
theorem q1927 : (Jvm.Cond.fieldLink "YearSkinsModel$Land" (35 : Nat) "YearSkinsModel$Land" "core" "[I") ∈ lw_all := lw_g (lw_at lw_m8 122 rfl) rfl
theorem q1929 : (Jvm.Cond.fieldLink "YearSkinsModel$Land" (38 : Nat) "YearSkinsModel$Land" "stoneOf" "[I") ∈ lw_all := lw_g (lw_at lw_m8 124 rfl) rfl
theorem q1931 : (Jvm.Cond.fieldLink "YearSkinsModel$Land" (41 : Nat) "YearSkinsModel$Land" "heirHouse" "[I") ∈ lw_all := lw_g (lw_at lw_m8 126 rfl) rfl
theorem q1933 : (Jvm.Cond.fieldLink "YearSkinsModel$Land" (44 : Nat) "YearSkinsModel$Land" "older" "[I") ∈ lw_all := lw_g (lw_at lw_m8 128 rfl) rfl
theorem q1935 : (Jvm.Cond.fieldLink "YearSkinsModel$Land" (47 : Nat) "YearSkinsModel$Land" "coin" "[I") ∈ lw_all := lw_g (lw_at lw_m8 130 rfl) rfl
theorem q1937 : (Jvm.Cond.fieldLink "YearSkinsModel$Land" (50 : Nat) "YearSkinsModel$Land" "smell" "[I") ∈ lw_all := lw_g (lw_at lw_m8 132 rfl) rfl
theorem q1939 : (Jvm.Cond.fieldLink "YearSkinsModel$Land" (53 : Nat) "YearSkinsModel$Land" "name" "[J") ∈ lw_all := lw_g (lw_at lw_m8 134 rfl) rfl
theorem q1941 : (Jvm.Cond.fieldLink "YearSkinsModel$Land" (57 : Nat) "YearSkinsModel$Land" "nameSort" "[I") ∈ lw_all := lw_g (lw_at lw_m8 136 rfl) rfl
theorem q1943 : (Jvm.Cond.fieldLink "YearSkinsModel$Land" (60 : Nat) "YearSkinsModel$Land" "nameNumber" "[I") ∈ lw_all := lw_g (lw_at lw_m8 138 rfl) rfl
theorem q1945 : (Jvm.Cond.fieldLink "YearSkinsModel$Land" (63 : Nat) "YearSkinsModel$Land" "first" "[I") ∈ lw_all := lw_g (lw_at lw_m8 140 rfl) rfl
theorem q1947 : (Jvm.Cond.lays "YearSkinsModel$Land" "YearSkinsModel$Land" "wide" "I") ∈ lw_all := lw_g (lw_at lw_m8 142 rfl) rfl
theorem q1948 : (Jvm.Cond.soleField "YearSkinsModel$Land" "wide") ∈ lw_all := lw_g (lw_at lw_m8 143 rfl) rfl
theorem q1949 : (Jvm.Cond.lays "YearSkinsModel$Land" "YearSkinsModel$Land" "high" "I") ∈ lw_all := lw_g (lw_at lw_m8 144 rfl) rfl
theorem q1950 : (Jvm.Cond.soleField "YearSkinsModel$Land" "high") ∈ lw_all := lw_g (lw_at lw_m8 145 rfl) rfl
theorem q1951 : (Jvm.Cond.lays "YearSkinsModel$Land" "YearSkinsModel$Land" "year" "I") ∈ lw_all := lw_g (lw_at lw_m8 146 rfl) rfl
theorem q1952 : (Jvm.Cond.soleField "YearSkinsModel$Land" "year") ∈ lw_all := lw_g (lw_at lw_m8 147 rfl) rfl
theorem q1953 : (Jvm.Cond.lays "YearSkinsModel$Land" "YearSkinsModel$Land" "births" "I") ∈ lw_all := lw_g (lw_at lw_m8 148 rfl) rfl
theorem q1954 : (Jvm.Cond.soleField "YearSkinsModel$Land" "births") ∈ lw_all := lw_g (lw_at lw_m8 149 rfl) rfl
theorem q1955 : (Jvm.Cond.lays "YearSkinsModel$Land" "YearSkinsModel$Land" "fire" "I") ∈ lw_all := lw_g (lw_at lw_m8 150 rfl) rfl
theorem q1956 : (Jvm.Cond.soleField "YearSkinsModel$Land" "fire") ∈ lw_all := lw_g (lw_at lw_m8 151 rfl) rfl
theorem q1957 : (Jvm.Cond.lays "YearSkinsModel$Land" "YearSkinsModel$Land" "earns" "I") ∈ lw_all := lw_g (lw_at lw_m8 152 rfl) rfl
theorem q1958 : (Jvm.Cond.soleField "YearSkinsModel$Land" "earns") ∈ lw_all := lw_g (lw_at lw_m8 153 rfl) rfl
theorem q1959 : (Jvm.Cond.lays "YearSkinsModel$Land" "YearSkinsModel$Land" "waters" "I") ∈ lw_all := lw_g (lw_at lw_m8 154 rfl) rfl
theorem q1960 : (Jvm.Cond.soleField "YearSkinsModel$Land" "waters") ∈ lw_all := lw_g (lw_at lw_m8 155 rfl) rfl
theorem q1961 : (Jvm.Cond.lays "YearSkinsModel$Land" "YearSkinsModel$Land" "stones" "I") ∈ lw_all := lw_g (lw_at lw_m8 156 rfl) rfl
theorem q1962 : (Jvm.Cond.soleField "YearSkinsModel$Land" "stones") ∈ lw_all := lw_g (lw_at lw_m8 157 rfl) rfl
theorem q1963 : (Jvm.Cond.lays "YearSkinsModel$Land" "YearSkinsModel$Land" "houses" "I") ∈ lw_all := lw_g (lw_at lw_m8 158 rfl) rfl
theorem q1964 : (Jvm.Cond.soleField "YearSkinsModel$Land" "houses") ∈ lw_all := lw_g (lw_at lw_m8 159 rfl) rfl
theorem q1965 : (Jvm.Cond.lays "YearSkinsModel$Land" "YearSkinsModel$Land" "heirs" "I") ∈ lw_all := lw_g (lw_at lw_m8 160 rfl) rfl
theorem q1966 : (Jvm.Cond.soleField "YearSkinsModel$Land" "heirs") ∈ lw_all := lw_g (lw_at lw_m8 161 rfl) rfl
theorem q1967 : (Jvm.Cond.lays "YearSkinsModel$Land" "YearSkinsModel$Land" "walls" "I") ∈ lw_all := lw_g (lw_at lw_m8 162 rfl) rfl
theorem q1968 : (Jvm.Cond.soleField "YearSkinsModel$Land" "walls") ∈ lw_all := lw_g (lw_at lw_m8 163 rfl) rfl
theorem q1969 : (Jvm.Cond.lays "YearSkinsModel$Land" "YearSkinsModel$Land" "olders" "I") ∈ lw_all := lw_g (lw_at lw_m8 164 rfl) rfl
theorem q1970 : (Jvm.Cond.soleField "YearSkinsModel$Land" "olders") ∈ lw_all := lw_g (lw_at lw_m8 165 rfl) rfl
theorem q1971 : (Jvm.Cond.lays "YearSkinsModel$Land" "YearSkinsModel$Land" "names" "I") ∈ lw_all := lw_g (lw_at lw_m8 166 rfl) rfl
theorem q1972 : (Jvm.Cond.soleField "YearSkinsModel$Land" "names") ∈ lw_all := lw_g (lw_at lw_m8 167 rfl) rfl
theorem q1973 : (Jvm.Cond.lays "YearSkinsModel$Land" "YearSkinsModel$Land" "far" "Z") ∈ lw_all := lw_g (lw_at lw_m8 168 rfl) rfl
theorem q1974 : (Jvm.Cond.soleField "YearSkinsModel$Land" "far") ∈ lw_all := lw_g (lw_at lw_m8 169 rfl) rfl
theorem q1975 : (Jvm.Cond.lays "YearSkinsModel$Land" "YearSkinsModel$Land" "share" "Z") ∈ lw_all := lw_g (lw_at lw_m8 170 rfl) rfl
theorem q1976 : (Jvm.Cond.soleField "YearSkinsModel$Land" "share") ∈ lw_all := lw_g (lw_at lw_m8 171 rfl) rfl
theorem q1977 : (Jvm.Cond.laysFinal "YearSkinsModel$Land" "YearSkinsModel$Land" "water" "[Z") ∈ lw_all := lw_g (lw_at lw_m8 172 rfl) rfl
theorem q1978 : (Jvm.Cond.soleField "YearSkinsModel$Land" "water") ∈ lw_all := lw_g (lw_at lw_m8 173 rfl) rfl
theorem q1979 : (Jvm.Cond.laysFinal "YearSkinsModel$Land" "YearSkinsModel$Land" "kind" "[I") ∈ lw_all := lw_g (lw_at lw_m8 174 rfl) rfl
theorem q1980 : (Jvm.Cond.soleField "YearSkinsModel$Land" "kind") ∈ lw_all := lw_g (lw_at lw_m8 175 rfl) rfl
theorem q1981 : (Jvm.Cond.laysFinal "YearSkinsModel$Land" "YearSkinsModel$Land" "costs" "[I") ∈ lw_all := lw_g (lw_at lw_m8 176 rfl) rfl
theorem q1982 : (Jvm.Cond.soleField "YearSkinsModel$Land" "costs") ∈ lw_all := lw_g (lw_at lw_m8 177 rfl) rfl
theorem q1983 : (Jvm.Cond.laysFinal "YearSkinsModel$Land" "YearSkinsModel$Land" "warm" "[I") ∈ lw_all := lw_g (lw_at lw_m8 178 rfl) rfl
theorem q1984 : (Jvm.Cond.soleField "YearSkinsModel$Land" "warm") ∈ lw_all := lw_g (lw_at lw_m8 179 rfl) rfl
theorem q1985 : (Jvm.Cond.laysFinal "YearSkinsModel$Land" "YearSkinsModel$Land" "rots" "[I") ∈ lw_all := lw_g (lw_at lw_m8 180 rfl) rfl
theorem q1986 : (Jvm.Cond.soleField "YearSkinsModel$Land" "rots") ∈ lw_all := lw_g (lw_at lw_m8 181 rfl) rfl
theorem q1987 : (Jvm.Cond.laysFinal "YearSkinsModel$Land" "YearSkinsModel$Land" "strong" "[I") ∈ lw_all := lw_g (lw_at lw_m8 182 rfl) rfl
theorem q1988 : (Jvm.Cond.soleField "YearSkinsModel$Land" "strong") ∈ lw_all := lw_g (lw_at lw_m8 183 rfl) rfl
theorem q1989 : (Jvm.Cond.laysFinal "YearSkinsModel$Land" "YearSkinsModel$Land" "core" "[I") ∈ lw_all := lw_g (lw_at lw_m8 184 rfl) rfl
theorem q1990 : (Jvm.Cond.soleField "YearSkinsModel$Land" "core") ∈ lw_all := lw_g (lw_at lw_m8 185 rfl) rfl
theorem q1991 : (Jvm.Cond.laysFinal "YearSkinsModel$Land" "YearSkinsModel$Land" "stoneOf" "[I") ∈ lw_all := lw_g (lw_at lw_m8 186 rfl) rfl
theorem q1992 : (Jvm.Cond.soleField "YearSkinsModel$Land" "stoneOf") ∈ lw_all := lw_g (lw_at lw_m8 187 rfl) rfl
theorem q1993 : (Jvm.Cond.laysFinal "YearSkinsModel$Land" "YearSkinsModel$Land" "heirHouse" "[I") ∈ lw_all := lw_g (lw_at lw_m8 188 rfl) rfl
theorem q1994 : (Jvm.Cond.soleField "YearSkinsModel$Land" "heirHouse") ∈ lw_all := lw_g (lw_at lw_m8 189 rfl) rfl
theorem q1995 : (Jvm.Cond.laysFinal "YearSkinsModel$Land" "YearSkinsModel$Land" "older" "[I") ∈ lw_all := lw_g (lw_at lw_m8 190 rfl) rfl
theorem q1996 : (Jvm.Cond.soleField "YearSkinsModel$Land" "older") ∈ lw_all := lw_g (lw_at lw_m8 191 rfl) rfl
theorem q1997 : (Jvm.Cond.laysFinal "YearSkinsModel$Land" "YearSkinsModel$Land" "coin" "[I") ∈ lw_all := lw_g (lw_at lw_m8 192 rfl) rfl
theorem q1998 : (Jvm.Cond.soleField "YearSkinsModel$Land" "coin") ∈ lw_all := lw_g (lw_at lw_m8 193 rfl) rfl
theorem q1999 : (Jvm.Cond.laysFinal "YearSkinsModel$Land" "YearSkinsModel$Land" "smell" "[I") ∈ lw_all := lw_g (lw_at lw_m8 194 rfl) rfl
theorem q2000 : (Jvm.Cond.soleField "YearSkinsModel$Land" "smell") ∈ lw_all := lw_g (lw_at lw_m8 195 rfl) rfl
theorem q2001 : (Jvm.Cond.laysFinal "YearSkinsModel$Land" "YearSkinsModel$Land" "name" "[J") ∈ lw_all := lw_g (lw_at lw_m8 196 rfl) rfl
theorem q2002 : (Jvm.Cond.soleField "YearSkinsModel$Land" "name") ∈ lw_all := lw_g (lw_at lw_m8 197 rfl) rfl
theorem q2003 : (Jvm.Cond.laysFinal "YearSkinsModel$Land" "YearSkinsModel$Land" "nameSort" "[I") ∈ lw_all := lw_g (lw_at lw_m8 198 rfl) rfl
theorem q2004 : (Jvm.Cond.soleField "YearSkinsModel$Land" "nameSort") ∈ lw_all := lw_g (lw_at lw_m8 199 rfl) rfl
theorem q2005 : (Jvm.Cond.laysFinal "YearSkinsModel$Land" "YearSkinsModel$Land" "nameNumber" "[I") ∈ lw_all := lw_g (lw_at lw_m8 200 rfl) rfl
theorem q2006 : (Jvm.Cond.soleField "YearSkinsModel$Land" "nameNumber") ∈ lw_all := lw_g (lw_at lw_m8 201 rfl) rfl
theorem q2007 : (Jvm.Cond.laysFinal "YearSkinsModel$Land" "YearSkinsModel$Land" "first" "[I") ∈ lw_all := lw_g (lw_at lw_m8 202 rfl) rfl
theorem q2008 : (Jvm.Cond.soleField "YearSkinsModel$Land" "first") ∈ lw_all := lw_g (lw_at lw_m8 203 rfl) rfl
theorem q2009 : (Jvm.Cond.superclass "YearSkinsModel$Land" "java/lang/Object") ∈ lw_all := lw_g (lw_at lw_m8 204 rfl) rfl
theorem q2152 : (Jvm.Cond.instanceMethod ({ cls := "YearSkinsModel$Land", name := "find", desc := "(J)I" } : Jvm.MethodName)) ∈ lw_all := lw_g (lw_at lw_m9 107 rfl) rfl
theorem q2153 : (Jvm.Cond.selects "YearSkinsModel$Land" ({ cls := "YearSkinsModel$Land", name := "find", desc := "(J)I" } : Jvm.MethodName) ({ cls := "YearSkinsModel$Land", name := "find", desc := "(J)I" } : Jvm.MethodName)) ∈ lw_all := lw_g (lw_at lw_m9 108 rfl) rfl
theorem q2154 : (Jvm.Cond.code ({ cls := "YearSkinsModel$Land", name := "find", desc := "(J)I" } : Jvm.MethodName) prog_21_method_2_code (4 : Nat) (Option.some Jvm.ClassFile.FieldType.int)) ∈ lw_all := lw_g (lw_at lw_m9 109 rfl) rfl
theorem q2175 : (Jvm.Cond.instanceMethod ({ cls := "YearSkinsModel$Land", name := "far", desc := "(III)I" } : Jvm.MethodName)) ∈ lw_all := lw_g (lw_at lw_m9 130 rfl) rfl
theorem q2176 : (Jvm.Cond.selects "YearSkinsModel$Land" ({ cls := "YearSkinsModel$Land", name := "far", desc := "(III)I" } : Jvm.MethodName) ({ cls := "YearSkinsModel$Land", name := "far", desc := "(III)I" } : Jvm.MethodName)) ∈ lw_all := lw_g (lw_at lw_m9 131 rfl) rfl
theorem q2177 : (Jvm.Cond.code ({ cls := "YearSkinsModel$Land", name := "far", desc := "(III)I" } : Jvm.MethodName) prog_21_method_6_code (6 : Nat) (Option.some Jvm.ClassFile.FieldType.int)) ∈ lw_all := lw_g (lw_at lw_m9 132 rfl) rfl
theorem q2178 : (Jvm.Cond.methodLink "YearSkinsModel$Land" (75 : Nat) ({ cls := "YearSkinsModel$Land", name := "x", desc := "(I)I" } : Jvm.MethodName)) ∈ lw_all := lw_g (lw_at lw_m9 133 rfl) rfl
theorem q2179 : (Jvm.Cond.instanceMethod ({ cls := "YearSkinsModel$Land", name := "x", desc := "(I)I" } : Jvm.MethodName)) ∈ lw_all := lw_g (lw_at lw_m9 134 rfl) rfl
theorem q2180 : (Jvm.Cond.selects "YearSkinsModel$Land" ({ cls := "YearSkinsModel$Land", name := "x", desc := "(I)I" } : Jvm.MethodName) ({ cls := "YearSkinsModel$Land", name := "x", desc := "(I)I" } : Jvm.MethodName)) ∈ lw_all := lw_g (lw_at lw_m9 135 rfl) rfl
theorem q2181 : (Jvm.Cond.code ({ cls := "YearSkinsModel$Land", name := "x", desc := "(I)I" } : Jvm.MethodName) prog_21_method_4_code (2 : Nat) (Option.some Jvm.ClassFile.FieldType.int)) ∈ lw_all := lw_g (lw_at lw_m9 136 rfl) rfl
theorem q2182 : (Jvm.Cond.methodLink "YearSkinsModel$Land" (79 : Nat) ({ cls := "YearSkinsModel$Land", name := "y", desc := "(I)I" } : Jvm.MethodName)) ∈ lw_all := lw_g (lw_at lw_m9 137 rfl) rfl
theorem q2183 : (Jvm.Cond.instanceMethod ({ cls := "YearSkinsModel$Land", name := "y", desc := "(I)I" } : Jvm.MethodName)) ∈ lw_all := lw_g (lw_at lw_m9 138 rfl) rfl
theorem q2184 : (Jvm.Cond.selects "YearSkinsModel$Land" ({ cls := "YearSkinsModel$Land", name := "y", desc := "(I)I" } : Jvm.MethodName) ({ cls := "YearSkinsModel$Land", name := "y", desc := "(I)I" } : Jvm.MethodName)) ∈ lw_all := lw_g (lw_at lw_m9 139 rfl) rfl
theorem q2185 : (Jvm.Cond.code ({ cls := "YearSkinsModel$Land", name := "y", desc := "(I)I" } : Jvm.MethodName) prog_21_method_5_code (2 : Nat) (Option.some Jvm.ClassFile.FieldType.int)) ∈ lw_all := lw_g (lw_at lw_m9 140 rfl) rfl
theorem q2207 : (Jvm.Cond.instanceMethod ({ cls := "YearSkinsModel$Land", name := "isLand", desc := "(II)Z" } : Jvm.MethodName)) ∈ lw_all := lw_g (lw_at lw_m9 162 rfl) rfl
theorem q2208 : (Jvm.Cond.selects "YearSkinsModel$Land" ({ cls := "YearSkinsModel$Land", name := "isLand", desc := "(II)Z" } : Jvm.MethodName) ({ cls := "YearSkinsModel$Land", name := "isLand", desc := "(II)Z" } : Jvm.MethodName)) ∈ lw_all := lw_g (lw_at lw_m9 163 rfl) rfl
theorem q2209 : (Jvm.Cond.code ({ cls := "YearSkinsModel$Land", name := "isLand", desc := "(II)Z" } : Jvm.MethodName) prog_21_method_7_code (3 : Nat) (Option.some Jvm.ClassFile.FieldType.boolean)) ∈ lw_all := lw_g (lw_at lw_m9 164 rfl) rfl
theorem q2210 : (Jvm.Cond.methodLinkNest "YearSkinsModel$Land" (82 : Nat) ({ cls := "YearSkinsModel", name := "within", desc := "(III)Z" } : Jvm.MethodName) "YearSkinsModel") ∈ lw_tbl := lw_at lw_m9 165 rfl
theorem q2278 : (Jvm.Cond.instanceMethod ({ cls := "YearSkinsModel$Land", name := "cells", desc := "()I" } : Jvm.MethodName)) ∈ lw_all := lw_g (lw_at lw_m9 233 rfl) rfl
theorem q2279 : (Jvm.Cond.selects "YearSkinsModel$Land" ({ cls := "YearSkinsModel$Land", name := "cells", desc := "()I" } : Jvm.MethodName) ({ cls := "YearSkinsModel$Land", name := "cells", desc := "()I" } : Jvm.MethodName)) ∈ lw_all := lw_g (lw_at lw_m9 234 rfl) rfl
theorem q2280 : (Jvm.Cond.code ({ cls := "YearSkinsModel$Land", name := "cells", desc := "()I" } : Jvm.MethodName) prog_21_method_3_code (1 : Nat) (Option.some Jvm.ClassFile.FieldType.int)) ∈ lw_all := lw_g (lw_at lw_m9 235 rfl) rfl
theorem q2657 : (Jvm.Cond.castable "YearSkinsModel$Land" "java/lang/Object") ∈ lw_tbl := lw_at lw_m11 132 rfl
theorem in_X20 : ∀ w ∈ wsX200, w ∈ lw_all := lw_in wsX200 [1947, 1949, 1951, 1953, 1955, 1957, 1959, 1961, 1963, 1965, 1967, 1969, 1971, 1973, 1975, 1977, 1979, 1981, 1983, 1985, 1987, 1989, 1991, 1993, 1995, 1997, 1999, 2001, 2003, 2005, 2007] (by decide +kernel) (by decide +kernel)
