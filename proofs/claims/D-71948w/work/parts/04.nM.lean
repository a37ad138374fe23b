/-! DatedContactsModel -/
set_option maxRecDepth 100000
def RX6 : String := "DatedContactsModel"
def TX6 : u_T := fun k => match k with
  | 0 => ("DatedContactsModel", "lane", "[I", true)
  | 1 => ("DatedContactsModel", "many", "[I", true)
  | 2 => ("DatedContactsModel", "items", "[I", true)
  | 3 => ("DatedContactsModel", "spare", "[I", true)
  | 4 => ("DatedContactsModel", "status", "I", false)
  | 5 => ("DatedContactsModel", "tape", "[I", true)
  | 6 => ("DatedContactsModel", "taped", "I", false)
  | 7 => ("DatedContactsModel", "faultKind", "I", false)
  | 8 => ("DatedContactsModel", "faultPlace", "I", false)
  | 9 => ("DatedContactsModel", "at", "I", false)
  | 10 => ("DatedContactsModel", "start", "I", false)
  | 11 => ("DatedContactsModel", "token", "I", false)
  | 12 => ("DatedContactsModel", "value", "I", false)
  | 13 => ("DatedContactsModel", "now", "[I", true)
  | 14 => ("DatedContactsModel", "draft", "[I", true)
  | 15 => ("DatedContactsModel", "tried", "[I", true)
  | 16 => ("DatedContactsModel", "past", "[I", true)
  | 17 => ("DatedContactsModel", "acts", "I", false)
  | 18 => ("DatedContactsModel", "images", "[I", true)
  | 19 => ("DatedContactsModel", "kept", "[Z", true)
  | 20 => ("DatedContactsModel", "days", "[I", true)
  | 21 => ("DatedContactsModel", "givers", "[I", true)
  | 22 => ("DatedContactsModel", "left", "[I", true)
  | 23 => ("DatedContactsModel", "chain", "[I", true)
  | 24 => ("DatedContactsModel", "links", "I", false)
  | 25 => ("DatedContactsModel", "signs", "[I", true)
  | 26 => ("DatedContactsModel", "written", "I", false)
  | 27 => ("DatedContactsModel", "trace", "[I", true)
  | _ => ("DatedContactsModel", "traced", "I", false)
def tyX6 : Nat → FieldType := fun k => match k with
  | 0 => .array .int
  | 1 => .array .int
  | 2 => .array .int
  | 3 => .array .int
  | 4 => .int
  | 5 => .array .int
  | 6 => .int
  | 7 => .int
  | 8 => .int
  | 9 => .int
  | 10 => .int
  | 11 => .int
  | 12 => .int
  | 13 => .array .int
  | 14 => .array .int
  | 15 => .array .int
  | 16 => .array .int
  | 17 => .int
  | 18 => .array .int
  | 19 => .array .boolean
  | 20 => .array .int
  | 21 => .array .int
  | 22 => .array .int
  | 23 => .array .int
  | 24 => .int
  | 25 => .array .int
  | 26 => .int
  | 27 => .array .int
  | _ => .int
abbrev wsX60 : List Cond := u_ws RX6 TX6 29
set_option maxRecDepth 100000 in
theorem nmX6 : ∀ a, a < 29 → ∀ b, b < 29 → a ≠ b → (TX6 a).2.1 ≠ (TX6 b).2.1 := by decide +kernel
set_option maxRecDepth 100000 in
theorem tyX6_ok : ∀ k, k < 29 → parseFieldDescriptor (TX6 k).2.2.1 = some (tyX6 k) := by decide +kernel
abbrev cX6_init : ByteArray := prog_21_method_1_code
def yX6_init : MethodName := ⟨RX6, "<init>", "()V"⟩
def dkwX6_init_6 : List UInt8 := [60, 27, 16, 8, 162, 0, 17, 42, 180, 0, 7, 27, 18, 62, 79, 132, 1, 1, 167, 255, 239, 177]
abbrev dktX6_init_6 : List UInt8 := dkwX6_init_6 ++ []
def dkwX6_init_5 : List UInt8 := [16, 10, 188, 10, 181, 0, 53, 42, 16, 120, 188, 10, 181, 0, 56, 42, 16, 16, 188, 10, 181, 0, 59, 3]
abbrev dktX6_init_5 : List UInt8 := dkwX6_init_5 ++ dktX6_init_6
def dkwX6_init_4 : List UInt8 := [16, 9, 188, 10, 181, 0, 44, 42, 16, 9, 188, 10, 181, 0, 47, 42, 16, 20, 188, 10, 181, 0, 50, 42]
abbrev dktX6_init_4 : List UInt8 := dkwX6_init_4 ++ dktX6_init_5
def dkwX6_init_3 : List UInt8 := [17, 3, 64, 188, 10, 181, 0, 34, 42, 16, 104, 188, 10, 181, 0, 37, 42, 5, 188, 4, 181, 0, 40, 42]
abbrev dktX6_init_3 : List UInt8 := dkwX6_init_3 ++ dktX6_init_4
def dkwX6_init_2 : List UInt8 := [16, 52, 188, 10, 181, 0, 25, 42, 16, 52, 188, 10, 181, 0, 28, 42, 16, 52, 188, 10, 181, 0, 31, 42]
abbrev dktX6_init_2 : List UInt8 := dkwX6_init_2 ++ dktX6_init_3
def dkwX6_init_1 : List UInt8 := [188, 10, 181, 0, 16, 42, 16, 40, 188, 10, 181, 0, 19, 42, 17, 0, 130, 188, 10, 181, 0, 22, 42]
abbrev dktX6_init_1 : List UInt8 := dkwX6_init_1 ++ dktX6_init_2
def dkwX6_init_0 : List UInt8 := [42, 183, 0, 1, 42, 16, 8, 188, 10, 181, 0, 7, 42, 16, 8, 188, 10, 181, 0, 13, 42, 17, 1, 64]
abbrev dktX6_init_0 : List UInt8 := dkwX6_init_0 ++ dktX6_init_1
theorem dksX6_init_0 : cX6_init.data.toList.drop 0 = dktX6_init_0 := by decide +kernel
theorem dksX6_init_1 : cX6_init.data.toList.drop 24 = dktX6_init_1 := dk_seg dksX6_init_0 24 rfl rfl
theorem dksX6_init_2 : cX6_init.data.toList.drop 47 = dktX6_init_2 := dk_seg dksX6_init_1 23 rfl rfl
theorem dksX6_init_3 : cX6_init.data.toList.drop 71 = dktX6_init_3 := dk_seg dksX6_init_2 24 rfl rfl
theorem dksX6_init_4 : cX6_init.data.toList.drop 95 = dktX6_init_4 := dk_seg dksX6_init_3 24 rfl rfl
theorem dksX6_init_5 : cX6_init.data.toList.drop 119 = dktX6_init_5 := dk_seg dksX6_init_4 24 rfl rfl
theorem dksX6_init_6 : cX6_init.data.toList.drop 143 = dktX6_init_6 := dk_seg dksX6_init_5 24 rfl rfl
theorem dX6_init_0 : decode cX6_init 0 = .ok (.aload_n 0, 1) := dk_42 (dk_at dksX6_init_0 0 rfl rfl)
theorem dX6_init_1 : decode cX6_init 1 = .ok (.invokespecial 1, 3) := dk_183 0 1 (dk_at dksX6_init_0 1 rfl rfl)
theorem dX6_init_4 : decode cX6_init 4 = .ok (.aload_n 0, 1) := dk_42 (dk_at dksX6_init_0 4 rfl rfl)
theorem dX6_init_5 : decode cX6_init 5 = .ok (.bipush 8, 2) := dk_16 8 (dk_at dksX6_init_0 5 rfl rfl)
theorem dX6_init_7 : decode cX6_init 7 = .ok (.newarray .int, 2) := dk_188_10 (dk_at dksX6_init_0 7 rfl rfl)
theorem dX6_init_9 : decode cX6_init 9 = .ok (.putfield 7, 3) := dk_181 0 7 (dk_at dksX6_init_0 9 rfl rfl)
theorem dX6_init_12 : decode cX6_init 12 = .ok (.aload_n 0, 1) := dk_42 (dk_at dksX6_init_0 12 rfl rfl)
theorem dX6_init_13 : decode cX6_init 13 = .ok (.bipush 8, 2) := dk_16 8 (dk_at dksX6_init_0 13 rfl rfl)
theorem dX6_init_15 : decode cX6_init 15 = .ok (.newarray .int, 2) := dk_188_10 (dk_at dksX6_init_0 15 rfl rfl)
theorem dX6_init_17 : decode cX6_init 17 = .ok (.putfield 13, 3) := dk_181 0 13 (dk_at dksX6_init_0 17 rfl rfl)
theorem dX6_init_20 : decode cX6_init 20 = .ok (.aload_n 0, 1) := dk_42 (dk_at dksX6_init_0 20 rfl rfl)
theorem dX6_init_21 : decode cX6_init 21 = .ok (.sipush 320, 3) := dk_17 1 64 (dk_at dksX6_init_0 21 rfl rfl)
theorem dX6_init_24 : decode cX6_init 24 = .ok (.newarray .int, 2) := dk_188_10 (dk_at dksX6_init_1 0 rfl rfl)
theorem dX6_init_26 : decode cX6_init 26 = .ok (.putfield 16, 3) := dk_181 0 16 (dk_at dksX6_init_1 2 rfl rfl)
theorem dX6_init_29 : decode cX6_init 29 = .ok (.aload_n 0, 1) := dk_42 (dk_at dksX6_init_1 5 rfl rfl)
theorem dX6_init_30 : decode cX6_init 30 = .ok (.bipush 40, 2) := dk_16 40 (dk_at dksX6_init_1 6 rfl rfl)
theorem dX6_init_32 : decode cX6_init 32 = .ok (.newarray .int, 2) := dk_188_10 (dk_at dksX6_init_1 8 rfl rfl)
theorem dX6_init_34 : decode cX6_init 34 = .ok (.putfield 19, 3) := dk_181 0 19 (dk_at dksX6_init_1 10 rfl rfl)
theorem dX6_init_37 : decode cX6_init 37 = .ok (.aload_n 0, 1) := dk_42 (dk_at dksX6_init_1 13 rfl rfl)
theorem dX6_init_38 : decode cX6_init 38 = .ok (.sipush 130, 3) := dk_17 0 130 (dk_at dksX6_init_1 14 rfl rfl)
theorem dX6_init_41 : decode cX6_init 41 = .ok (.newarray .int, 2) := dk_188_10 (dk_at dksX6_init_1 17 rfl rfl)
theorem dX6_init_43 : decode cX6_init 43 = .ok (.putfield 22, 3) := dk_181 0 22 (dk_at dksX6_init_1 19 rfl rfl)
theorem dX6_init_46 : decode cX6_init 46 = .ok (.aload_n 0, 1) := dk_42 (dk_at dksX6_init_1 22 rfl rfl)
theorem dX6_init_47 : decode cX6_init 47 = .ok (.bipush 52, 2) := dk_16 52 (dk_at dksX6_init_2 0 rfl rfl)
theorem dX6_init_49 : decode cX6_init 49 = .ok (.newarray .int, 2) := dk_188_10 (dk_at dksX6_init_2 2 rfl rfl)
theorem dX6_init_51 : decode cX6_init 51 = .ok (.putfield 25, 3) := dk_181 0 25 (dk_at dksX6_init_2 4 rfl rfl)
theorem dX6_init_54 : decode cX6_init 54 = .ok (.aload_n 0, 1) := dk_42 (dk_at dksX6_init_2 7 rfl rfl)
theorem dX6_init_55 : decode cX6_init 55 = .ok (.bipush 52, 2) := dk_16 52 (dk_at dksX6_init_2 8 rfl rfl)
theorem dX6_init_57 : decode cX6_init 57 = .ok (.newarray .int, 2) := dk_188_10 (dk_at dksX6_init_2 10 rfl rfl)
theorem dX6_init_59 : decode cX6_init 59 = .ok (.putfield 28, 3) := dk_181 0 28 (dk_at dksX6_init_2 12 rfl rfl)
theorem dX6_init_62 : decode cX6_init 62 = .ok (.aload_n 0, 1) := dk_42 (dk_at dksX6_init_2 15 rfl rfl)
theorem dX6_init_63 : decode cX6_init 63 = .ok (.bipush 52, 2) := dk_16 52 (dk_at dksX6_init_2 16 rfl rfl)
theorem dX6_init_65 : decode cX6_init 65 = .ok (.newarray .int, 2) := dk_188_10 (dk_at dksX6_init_2 18 rfl rfl)
theorem dX6_init_67 : decode cX6_init 67 = .ok (.putfield 31, 3) := dk_181 0 31 (dk_at dksX6_init_2 20 rfl rfl)
theorem dX6_init_70 : decode cX6_init 70 = .ok (.aload_n 0, 1) := dk_42 (dk_at dksX6_init_2 23 rfl rfl)
theorem dX6_init_71 : decode cX6_init 71 = .ok (.sipush 832, 3) := dk_17 3 64 (dk_at dksX6_init_3 0 rfl rfl)
theorem dX6_init_74 : decode cX6_init 74 = .ok (.newarray .int, 2) := dk_188_10 (dk_at dksX6_init_3 3 rfl rfl)
theorem dX6_init_76 : decode cX6_init 76 = .ok (.putfield 34, 3) := dk_181 0 34 (dk_at dksX6_init_3 5 rfl rfl)
theorem dX6_init_79 : decode cX6_init 79 = .ok (.aload_n 0, 1) := dk_42 (dk_at dksX6_init_3 8 rfl rfl)
theorem dX6_init_80 : decode cX6_init 80 = .ok (.bipush 104, 2) := dk_16 104 (dk_at dksX6_init_3 9 rfl rfl)
theorem dX6_init_82 : decode cX6_init 82 = .ok (.newarray .int, 2) := dk_188_10 (dk_at dksX6_init_3 11 rfl rfl)
theorem dX6_init_84 : decode cX6_init 84 = .ok (.putfield 37, 3) := dk_181 0 37 (dk_at dksX6_init_3 13 rfl rfl)
theorem dX6_init_87 : decode cX6_init 87 = .ok (.aload_n 0, 1) := dk_42 (dk_at dksX6_init_3 16 rfl rfl)
theorem dX6_init_88 : decode cX6_init 88 = .ok (.iconst 2, 1) := dk_5 (dk_at dksX6_init_3 17 rfl rfl)
theorem dX6_init_89 : decode cX6_init 89 = .ok (.newarray .boolean, 2) := dk_188_4 (dk_at dksX6_init_3 18 rfl rfl)
theorem dX6_init_91 : decode cX6_init 91 = .ok (.putfield 40, 3) := dk_181 0 40 (dk_at dksX6_init_3 20 rfl rfl)
theorem dX6_init_94 : decode cX6_init 94 = .ok (.aload_n 0, 1) := dk_42 (dk_at dksX6_init_3 23 rfl rfl)
theorem dX6_init_95 : decode cX6_init 95 = .ok (.bipush 9, 2) := dk_16 9 (dk_at dksX6_init_4 0 rfl rfl)
theorem dX6_init_97 : decode cX6_init 97 = .ok (.newarray .int, 2) := dk_188_10 (dk_at dksX6_init_4 2 rfl rfl)
theorem dX6_init_99 : decode cX6_init 99 = .ok (.putfield 44, 3) := dk_181 0 44 (dk_at dksX6_init_4 4 rfl rfl)
theorem dX6_init_102 : decode cX6_init 102 = .ok (.aload_n 0, 1) := dk_42 (dk_at dksX6_init_4 7 rfl rfl)
theorem dX6_init_103 : decode cX6_init 103 = .ok (.bipush 9, 2) := dk_16 9 (dk_at dksX6_init_4 8 rfl rfl)
theorem dX6_init_105 : decode cX6_init 105 = .ok (.newarray .int, 2) := dk_188_10 (dk_at dksX6_init_4 10 rfl rfl)
theorem dX6_init_107 : decode cX6_init 107 = .ok (.putfield 47, 3) := dk_181 0 47 (dk_at dksX6_init_4 12 rfl rfl)
theorem dX6_init_110 : decode cX6_init 110 = .ok (.aload_n 0, 1) := dk_42 (dk_at dksX6_init_4 15 rfl rfl)
theorem dX6_init_111 : decode cX6_init 111 = .ok (.bipush 20, 2) := dk_16 20 (dk_at dksX6_init_4 16 rfl rfl)
theorem dX6_init_113 : decode cX6_init 113 = .ok (.newarray .int, 2) := dk_188_10 (dk_at dksX6_init_4 18 rfl rfl)
theorem dX6_init_115 : decode cX6_init 115 = .ok (.putfield 50, 3) := dk_181 0 50 (dk_at dksX6_init_4 20 rfl rfl)
theorem dX6_init_118 : decode cX6_init 118 = .ok (.aload_n 0, 1) := dk_42 (dk_at dksX6_init_4 23 rfl rfl)
theorem dX6_init_119 : decode cX6_init 119 = .ok (.bipush 10, 2) := dk_16 10 (dk_at dksX6_init_5 0 rfl rfl)
theorem dX6_init_121 : decode cX6_init 121 = .ok (.newarray .int, 2) := dk_188_10 (dk_at dksX6_init_5 2 rfl rfl)
theorem dX6_init_123 : decode cX6_init 123 = .ok (.putfield 53, 3) := dk_181 0 53 (dk_at dksX6_init_5 4 rfl rfl)
theorem dX6_init_126 : decode cX6_init 126 = .ok (.aload_n 0, 1) := dk_42 (dk_at dksX6_init_5 7 rfl rfl)
theorem dX6_init_127 : decode cX6_init 127 = .ok (.bipush 120, 2) := dk_16 120 (dk_at dksX6_init_5 8 rfl rfl)
theorem dX6_init_129 : decode cX6_init 129 = .ok (.newarray .int, 2) := dk_188_10 (dk_at dksX6_init_5 10 rfl rfl)
theorem dX6_init_131 : decode cX6_init 131 = .ok (.putfield 56, 3) := dk_181 0 56 (dk_at dksX6_init_5 12 rfl rfl)
theorem dX6_init_134 : decode cX6_init 134 = .ok (.aload_n 0, 1) := dk_42 (dk_at dksX6_init_5 15 rfl rfl)
theorem dX6_init_135 : decode cX6_init 135 = .ok (.bipush 16, 2) := dk_16 16 (dk_at dksX6_init_5 16 rfl rfl)
theorem dX6_init_137 : decode cX6_init 137 = .ok (.newarray .int, 2) := dk_188_10 (dk_at dksX6_init_5 18 rfl rfl)
theorem dX6_init_139 : decode cX6_init 139 = .ok (.putfield 59, 3) := dk_181 0 59 (dk_at dksX6_init_5 20 rfl rfl)
theorem dX6_init_142 : decode cX6_init 142 = .ok (.iconst 0, 1) := dk_3 (dk_at dksX6_init_5 23 rfl rfl)
theorem dX6_init_143 : decode cX6_init 143 = .ok (.istore_n 1, 1) := dk_60 (dk_at dksX6_init_6 0 rfl rfl)
theorem dX6_init_144 : decode cX6_init 144 = .ok (.iload_n 1, 1) := dk_27 (dk_at dksX6_init_6 1 rfl rfl)
theorem dX6_init_145 : decode cX6_init 145 = .ok (.bipush 8, 2) := dk_16 8 (dk_at dksX6_init_6 2 rfl rfl)
theorem dX6_init_147 : decode cX6_init 147 = .ok (.if_icmp .ge 17, 3) := dk_162 0 17 (dk_at dksX6_init_6 4 rfl rfl)
theorem dX6_init_150 : decode cX6_init 150 = .ok (.aload_n 0, 1) := dk_42 (dk_at dksX6_init_6 7 rfl rfl)
theorem dX6_init_151 : decode cX6_init 151 = .ok (.getfield 7, 3) := dk_180 0 7 (dk_at dksX6_init_6 8 rfl rfl)
theorem dX6_init_154 : decode cX6_init 154 = .ok (.iload_n 1, 1) := dk_27 (dk_at dksX6_init_6 11 rfl rfl)
theorem dX6_init_155 : decode cX6_init 155 = .ok (.ldc 62, 2) := dk_18 62 (dk_at dksX6_init_6 12 rfl rfl)
theorem dX6_init_157 : decode cX6_init 157 = .ok (.iastore, 1) := dk_79 (dk_at dksX6_init_6 14 rfl rfl)
theorem dX6_init_158 : decode cX6_init 158 = .ok (.iinc 1 1, 3) := dk_132 1 1 (dk_at dksX6_init_6 15 rfl rfl)
theorem dX6_init_161 : decode cX6_init 161 = .ok (.goto (-17), 3) := dk_167 255 239 (dk_at dksX6_init_6 18 rfl rfl)
theorem dX6_init_164 : decode cX6_init 164 = .ok (.return_, 1) := dk_177 (dk_at dksX6_init_6 21 rfl rfl)
abbrev cX6_row : ByteArray := prog_21_method_12_code
def yX6_row : MethodName := ⟨RX6, "row", "(III)I"⟩
def dkwX6_row_3 : List UInt8 := [132, 4, 1, 167, 255, 233, 42, 29, 182, 0, 81, 172]
abbrev dktX6_row_3 : List UInt8 := dkwX6_row_3 ++ []
def dkwX6_row_2 : List UInt8 := [79, 3, 54, 4, 21, 4, 16, 40, 162, 0, 22, 42, 180, 0, 16, 16, 40, 27, 104, 21, 4, 96, 3, 79]
abbrev dktX6_row_2 : List UInt8 := dkwX6_row_2 ++ dktX6_row_3
def dkwX6_row_1 : List UInt8 := [172, 29, 156, 0, 9, 42, 7, 182, 0, 77, 172, 42, 180, 0, 7, 27, 28, 79, 42, 180, 0, 13, 27, 29]
abbrev dktX6_row_1 : List UInt8 := dkwX6_row_1 ++ dktX6_row_2
def dkwX6_row_0 : List UInt8 := [27, 184, 0, 72, 153, 0, 18, 28, 3, 5, 184, 0, 68, 153, 0, 9, 29, 16, 40, 164, 0, 6, 18, 76]
abbrev dktX6_row_0 : List UInt8 := dkwX6_row_0 ++ dktX6_row_1
theorem dksX6_row_0 : cX6_row.data.toList.drop 0 = dktX6_row_0 := by decide +kernel
theorem dksX6_row_1 : cX6_row.data.toList.drop 24 = dktX6_row_1 := dk_seg dksX6_row_0 24 rfl rfl
theorem dksX6_row_2 : cX6_row.data.toList.drop 48 = dktX6_row_2 := dk_seg dksX6_row_1 24 rfl rfl
theorem dksX6_row_3 : cX6_row.data.toList.drop 72 = dktX6_row_3 := dk_seg dksX6_row_2 24 rfl rfl
theorem dX6_row_0 : decode cX6_row 0 = .ok (.iload_n 1, 1) := dk_27 (dk_at dksX6_row_0 0 rfl rfl)
theorem dX6_row_1 : decode cX6_row 1 = .ok (.invokestatic 72, 3) := dk_184 0 72 (dk_at dksX6_row_0 1 rfl rfl)
theorem dX6_row_4 : decode cX6_row 4 = .ok (.ifCond .eq 18, 3) := dk_153 0 18 (dk_at dksX6_row_0 4 rfl rfl)
theorem dX6_row_7 : decode cX6_row 7 = .ok (.iload_n 2, 1) := dk_28 (dk_at dksX6_row_0 7 rfl rfl)
theorem dX6_row_8 : decode cX6_row 8 = .ok (.iconst 0, 1) := dk_3 (dk_at dksX6_row_0 8 rfl rfl)
theorem dX6_row_9 : decode cX6_row 9 = .ok (.iconst 2, 1) := dk_5 (dk_at dksX6_row_0 9 rfl rfl)
theorem dX6_row_10 : decode cX6_row 10 = .ok (.invokestatic 68, 3) := dk_184 0 68 (dk_at dksX6_row_0 10 rfl rfl)
theorem dX6_row_13 : decode cX6_row 13 = .ok (.ifCond .eq 9, 3) := dk_153 0 9 (dk_at dksX6_row_0 13 rfl rfl)
theorem dX6_row_16 : decode cX6_row 16 = .ok (.iload_n 3, 1) := dk_29 (dk_at dksX6_row_0 16 rfl rfl)
theorem dX6_row_17 : decode cX6_row 17 = .ok (.bipush 40, 2) := dk_16 40 (dk_at dksX6_row_0 17 rfl rfl)
theorem dX6_row_19 : decode cX6_row 19 = .ok (.if_icmp .le 6, 3) := dk_164 0 6 (dk_at dksX6_row_0 19 rfl rfl)
theorem dX6_row_22 : decode cX6_row 22 = .ok (.ldc 76, 2) := dk_18 76 (dk_at dksX6_row_0 22 rfl rfl)
theorem dX6_row_24 : decode cX6_row 24 = .ok (.ireturn, 1) := dk_172 (dk_at dksX6_row_1 0 rfl rfl)
theorem dX6_row_25 : decode cX6_row 25 = .ok (.iload_n 3, 1) := dk_29 (dk_at dksX6_row_1 1 rfl rfl)
theorem dX6_row_26 : decode cX6_row 26 = .ok (.ifCond .ge 9, 3) := dk_156 0 9 (dk_at dksX6_row_1 2 rfl rfl)
theorem dX6_row_29 : decode cX6_row 29 = .ok (.aload_n 0, 1) := dk_42 (dk_at dksX6_row_1 5 rfl rfl)
theorem dX6_row_30 : decode cX6_row 30 = .ok (.iconst 4, 1) := dk_7 (dk_at dksX6_row_1 6 rfl rfl)
theorem dX6_row_31 : decode cX6_row 31 = .ok (.invokevirtual 77, 3) := dk_182 0 77 (dk_at dksX6_row_1 7 rfl rfl)
theorem dX6_row_34 : decode cX6_row 34 = .ok (.ireturn, 1) := dk_172 (dk_at dksX6_row_1 10 rfl rfl)
theorem dX6_row_35 : decode cX6_row 35 = .ok (.aload_n 0, 1) := dk_42 (dk_at dksX6_row_1 11 rfl rfl)
theorem dX6_row_36 : decode cX6_row 36 = .ok (.getfield 7, 3) := dk_180 0 7 (dk_at dksX6_row_1 12 rfl rfl)
theorem dX6_row_39 : decode cX6_row 39 = .ok (.iload_n 1, 1) := dk_27 (dk_at dksX6_row_1 15 rfl rfl)
theorem dX6_row_40 : decode cX6_row 40 = .ok (.iload_n 2, 1) := dk_28 (dk_at dksX6_row_1 16 rfl rfl)
theorem dX6_row_41 : decode cX6_row 41 = .ok (.iastore, 1) := dk_79 (dk_at dksX6_row_1 17 rfl rfl)
theorem dX6_row_42 : decode cX6_row 42 = .ok (.aload_n 0, 1) := dk_42 (dk_at dksX6_row_1 18 rfl rfl)
theorem dX6_row_43 : decode cX6_row 43 = .ok (.getfield 13, 3) := dk_180 0 13 (dk_at dksX6_row_1 19 rfl rfl)
theorem dX6_row_46 : decode cX6_row 46 = .ok (.iload_n 1, 1) := dk_27 (dk_at dksX6_row_1 22 rfl rfl)
theorem dX6_row_47 : decode cX6_row 47 = .ok (.iload_n 3, 1) := dk_29 (dk_at dksX6_row_1 23 rfl rfl)
theorem dX6_row_48 : decode cX6_row 48 = .ok (.iastore, 1) := dk_79 (dk_at dksX6_row_2 0 rfl rfl)
theorem dX6_row_49 : decode cX6_row 49 = .ok (.iconst 0, 1) := dk_3 (dk_at dksX6_row_2 1 rfl rfl)
theorem dX6_row_50 : decode cX6_row 50 = .ok (.istore 4, 2) := dk_54 4 (dk_at dksX6_row_2 2 rfl rfl)
theorem dX6_row_52 : decode cX6_row 52 = .ok (.iload 4, 2) := dk_21 4 (dk_at dksX6_row_2 4 rfl rfl)
theorem dX6_row_54 : decode cX6_row 54 = .ok (.bipush 40, 2) := dk_16 40 (dk_at dksX6_row_2 6 rfl rfl)
theorem dX6_row_56 : decode cX6_row 56 = .ok (.if_icmp .ge 22, 3) := dk_162 0 22 (dk_at dksX6_row_2 8 rfl rfl)
theorem dX6_row_59 : decode cX6_row 59 = .ok (.aload_n 0, 1) := dk_42 (dk_at dksX6_row_2 11 rfl rfl)
theorem dX6_row_60 : decode cX6_row 60 = .ok (.getfield 16, 3) := dk_180 0 16 (dk_at dksX6_row_2 12 rfl rfl)
theorem dX6_row_63 : decode cX6_row 63 = .ok (.bipush 40, 2) := dk_16 40 (dk_at dksX6_row_2 15 rfl rfl)
theorem dX6_row_65 : decode cX6_row 65 = .ok (.iload_n 1, 1) := dk_27 (dk_at dksX6_row_2 17 rfl rfl)
theorem dX6_row_66 : decode cX6_row 66 = .ok (.imul, 1) := dk_104 (dk_at dksX6_row_2 18 rfl rfl)
theorem dX6_row_67 : decode cX6_row 67 = .ok (.iload 4, 2) := dk_21 4 (dk_at dksX6_row_2 19 rfl rfl)
theorem dX6_row_69 : decode cX6_row 69 = .ok (.iadd, 1) := dk_96 (dk_at dksX6_row_2 21 rfl rfl)
theorem dX6_row_70 : decode cX6_row 70 = .ok (.iconst 0, 1) := dk_3 (dk_at dksX6_row_2 22 rfl rfl)
theorem dX6_row_71 : decode cX6_row 71 = .ok (.iastore, 1) := dk_79 (dk_at dksX6_row_2 23 rfl rfl)
theorem dX6_row_72 : decode cX6_row 72 = .ok (.iinc 4 1, 3) := dk_132 4 1 (dk_at dksX6_row_3 0 rfl rfl)
theorem dX6_row_75 : decode cX6_row 75 = .ok (.goto (-23), 3) := dk_167 255 233 (dk_at dksX6_row_3 3 rfl rfl)
theorem dX6_row_78 : decode cX6_row 78 = .ok (.aload_n 0, 1) := dk_42 (dk_at dksX6_row_3 6 rfl rfl)
theorem dX6_row_79 : decode cX6_row 79 = .ok (.iload_n 3, 1) := dk_29 (dk_at dksX6_row_3 7 rfl rfl)
theorem dX6_row_80 : decode cX6_row 80 = .ok (.invokevirtual 81, 3) := dk_182 0 81 (dk_at dksX6_row_3 8 rfl rfl)
theorem dX6_row_83 : decode cX6_row 83 = .ok (.ireturn, 1) := dk_172 (dk_at dksX6_row_3 11 rfl rfl)
abbrev cX6_isRow : ByteArray := prog_21_method_9_code
def yX6_isRow : MethodName := ⟨RX6, "isRow", "(I)Z"⟩
def dkwX6_isRow_0 : List UInt8 := [26, 3, 16, 7, 184, 0, 68, 172]
abbrev dktX6_isRow_0 : List UInt8 := dkwX6_isRow_0 ++ []
theorem dksX6_isRow_0 : cX6_isRow.data.toList.drop 0 = dktX6_isRow_0 := by decide +kernel
theorem dX6_isRow_0 : decode cX6_isRow 0 = .ok (.iload_n 0, 1) := dk_26 (dk_at dksX6_isRow_0 0 rfl rfl)
theorem dX6_isRow_1 : decode cX6_isRow 1 = .ok (.iconst 0, 1) := dk_3 (dk_at dksX6_isRow_0 1 rfl rfl)
theorem dX6_isRow_2 : decode cX6_isRow 2 = .ok (.bipush 7, 2) := dk_16 7 (dk_at dksX6_isRow_0 2 rfl rfl)
theorem dX6_isRow_4 : decode cX6_isRow 4 = .ok (.invokestatic 68, 3) := dk_184 0 68 (dk_at dksX6_isRow_0 4 rfl rfl)
theorem dX6_isRow_7 : decode cX6_isRow 7 = .ok (.ireturn, 1) := dk_172 (dk_at dksX6_isRow_0 7 rfl rfl)
abbrev cX6_in : ByteArray := prog_21_method_3_code
def yX6_in : MethodName := ⟨RX6, "in", "(III)Z"⟩
def dkwX6_in_0 : List UInt8 := [26, 27, 161, 0, 12, 26, 28, 163, 0, 7, 4, 167, 0, 4, 3, 172]
abbrev dktX6_in_0 : List UInt8 := dkwX6_in_0 ++ []
theorem dksX6_in_0 : cX6_in.data.toList.drop 0 = dktX6_in_0 := by decide +kernel
theorem dX6_in_0 : decode cX6_in 0 = .ok (.iload_n 0, 1) := dk_26 (dk_at dksX6_in_0 0 rfl rfl)
theorem dX6_in_1 : decode cX6_in 1 = .ok (.iload_n 1, 1) := dk_27 (dk_at dksX6_in_0 1 rfl rfl)
theorem dX6_in_2 : decode cX6_in 2 = .ok (.if_icmp .lt 12, 3) := dk_161 0 12 (dk_at dksX6_in_0 2 rfl rfl)
theorem dX6_in_5 : decode cX6_in 5 = .ok (.iload_n 0, 1) := dk_26 (dk_at dksX6_in_0 5 rfl rfl)
theorem dX6_in_6 : decode cX6_in 6 = .ok (.iload_n 2, 1) := dk_28 (dk_at dksX6_in_0 6 rfl rfl)
theorem dX6_in_7 : decode cX6_in 7 = .ok (.if_icmp .gt 7, 3) := dk_163 0 7 (dk_at dksX6_in_0 7 rfl rfl)
theorem dX6_in_10 : decode cX6_in 10 = .ok (.iconst 1, 1) := dk_4 (dk_at dksX6_in_0 10 rfl rfl)
theorem dX6_in_11 : decode cX6_in 11 = .ok (.goto 4, 3) := dk_167 0 4 (dk_at dksX6_in_0 11 rfl rfl)
theorem dX6_in_14 : decode cX6_in 14 = .ok (.iconst 0, 1) := dk_3 (dk_at dksX6_in_0 14 rfl rfl)
theorem dX6_in_15 : decode cX6_in 15 = .ok (.ireturn, 1) := dk_172 (dk_at dksX6_in_0 15 rfl rfl)
abbrev cX6_found : ByteArray := prog_21_method_6_code
def yX6_found : MethodName := ⟨RX6, "found", "(I)I"⟩
def dkwX6_found_0 : List UInt8 := [42, 27, 181, 0, 63, 18, 67, 27, 100, 172]
abbrev dktX6_found_0 : List UInt8 := dkwX6_found_0 ++ []
theorem dksX6_found_0 : cX6_found.data.toList.drop 0 = dktX6_found_0 := by decide +kernel
theorem dX6_found_0 : decode cX6_found 0 = .ok (.aload_n 0, 1) := dk_42 (dk_at dksX6_found_0 0 rfl rfl)
theorem dX6_found_1 : decode cX6_found 1 = .ok (.iload_n 1, 1) := dk_27 (dk_at dksX6_found_0 1 rfl rfl)
theorem dX6_found_2 : decode cX6_found 2 = .ok (.putfield 63, 3) := dk_181 0 63 (dk_at dksX6_found_0 2 rfl rfl)
theorem dX6_found_5 : decode cX6_found 5 = .ok (.ldc 67, 2) := dk_18 67 (dk_at dksX6_found_0 5 rfl rfl)
theorem dX6_found_7 : decode cX6_found 7 = .ok (.iload_n 1, 1) := dk_27 (dk_at dksX6_found_0 7 rfl rfl)
theorem dX6_found_8 : decode cX6_found 8 = .ok (.isub, 1) := dk_100 (dk_at dksX6_found_0 8 rfl rfl)
theorem dX6_found_9 : decode cX6_found 9 = .ok (.ireturn, 1) := dk_172 (dk_at dksX6_found_0 9 rfl rfl)
abbrev cX6_well : ByteArray := prog_21_method_7_code
def yX6_well : MethodName := ⟨RX6, "well", "(I)I"⟩
def dkwX6_well_0 : List UInt8 := [42, 3, 181, 0, 63, 27, 172]
abbrev dktX6_well_0 : List UInt8 := dkwX6_well_0 ++ []
theorem dksX6_well_0 : cX6_well.data.toList.drop 0 = dktX6_well_0 := by decide +kernel
theorem dX6_well_0 : decode cX6_well 0 = .ok (.aload_n 0, 1) := dk_42 (dk_at dksX6_well_0 0 rfl rfl)
theorem dX6_well_1 : decode cX6_well 1 = .ok (.iconst 0, 1) := dk_3 (dk_at dksX6_well_0 1 rfl rfl)
theorem dX6_well_2 : decode cX6_well 2 = .ok (.putfield 63, 3) := dk_181 0 63 (dk_at dksX6_well_0 2 rfl rfl)
theorem dX6_well_5 : decode cX6_well 5 = .ok (.iload_n 1, 1) := dk_27 (dk_at dksX6_well_0 5 rfl rfl)
theorem dX6_well_6 : decode cX6_well 6 = .ok (.ireturn, 1) := dk_172 (dk_at dksX6_well_0 6 rfl rfl)
abbrev cX6_set : ByteArray := prog_21_method_13_code
def yX6_set : MethodName := ⟨RX6, "set", "(III)I"⟩
def dkwX6_set_3 : List UInt8 := [180, 0, 16, 16, 40, 27, 104, 28, 96, 46, 182, 0, 81, 172]
abbrev dktX6_set_3 : List UInt8 := dkwX6_set_3 ++ []
def dkwX6_set_2 : List UInt8 := [180, 0, 16, 16, 40, 27, 104, 28, 96, 42, 180, 0, 7, 27, 46, 29, 184, 0, 87, 79, 42, 42]
abbrev dktX6_set_2 : List UInt8 := dkwX6_set_2 ++ dktX6_set_3
def dkwX6_set_1 : List UInt8 := [28, 3, 42, 180, 0, 13, 27, 46, 4, 100, 184, 0, 68, 154, 0, 9, 42, 5, 182, 0, 77, 172, 42]
abbrev dktX6_set_1 : List UInt8 := dkwX6_set_1 ++ dktX6_set_2
def dkwX6_set_0 : List UInt8 := [27, 184, 0, 72, 154, 0, 6, 18, 76, 172, 42, 27, 182, 0, 84, 153, 0, 9, 42, 4, 182, 0, 77, 172]
abbrev dktX6_set_0 : List UInt8 := dkwX6_set_0 ++ dktX6_set_1
theorem dksX6_set_0 : cX6_set.data.toList.drop 0 = dktX6_set_0 := by decide +kernel
theorem dksX6_set_1 : cX6_set.data.toList.drop 24 = dktX6_set_1 := dk_seg dksX6_set_0 24 rfl rfl
theorem dksX6_set_2 : cX6_set.data.toList.drop 47 = dktX6_set_2 := dk_seg dksX6_set_1 23 rfl rfl
theorem dksX6_set_3 : cX6_set.data.toList.drop 69 = dktX6_set_3 := dk_seg dksX6_set_2 22 rfl rfl
theorem dX6_set_0 : decode cX6_set 0 = .ok (.iload_n 1, 1) := dk_27 (dk_at dksX6_set_0 0 rfl rfl)
theorem dX6_set_1 : decode cX6_set 1 = .ok (.invokestatic 72, 3) := dk_184 0 72 (dk_at dksX6_set_0 1 rfl rfl)
theorem dX6_set_4 : decode cX6_set 4 = .ok (.ifCond .ne 6, 3) := dk_154 0 6 (dk_at dksX6_set_0 4 rfl rfl)
theorem dX6_set_7 : decode cX6_set 7 = .ok (.ldc 76, 2) := dk_18 76 (dk_at dksX6_set_0 7 rfl rfl)
theorem dX6_set_9 : decode cX6_set 9 = .ok (.ireturn, 1) := dk_172 (dk_at dksX6_set_0 9 rfl rfl)
theorem dX6_set_10 : decode cX6_set 10 = .ok (.aload_n 0, 1) := dk_42 (dk_at dksX6_set_0 10 rfl rfl)
theorem dX6_set_11 : decode cX6_set 11 = .ok (.iload_n 1, 1) := dk_27 (dk_at dksX6_set_0 11 rfl rfl)
theorem dX6_set_12 : decode cX6_set 12 = .ok (.invokevirtual 84, 3) := dk_182 0 84 (dk_at dksX6_set_0 12 rfl rfl)
theorem dX6_set_15 : decode cX6_set 15 = .ok (.ifCond .eq 9, 3) := dk_153 0 9 (dk_at dksX6_set_0 15 rfl rfl)
theorem dX6_set_18 : decode cX6_set 18 = .ok (.aload_n 0, 1) := dk_42 (dk_at dksX6_set_0 18 rfl rfl)
theorem dX6_set_19 : decode cX6_set 19 = .ok (.iconst 1, 1) := dk_4 (dk_at dksX6_set_0 19 rfl rfl)
theorem dX6_set_20 : decode cX6_set 20 = .ok (.invokevirtual 77, 3) := dk_182 0 77 (dk_at dksX6_set_0 20 rfl rfl)
theorem dX6_set_23 : decode cX6_set 23 = .ok (.ireturn, 1) := dk_172 (dk_at dksX6_set_0 23 rfl rfl)
theorem dX6_set_24 : decode cX6_set 24 = .ok (.iload_n 2, 1) := dk_28 (dk_at dksX6_set_1 0 rfl rfl)
theorem dX6_set_25 : decode cX6_set 25 = .ok (.iconst 0, 1) := dk_3 (dk_at dksX6_set_1 1 rfl rfl)
theorem dX6_set_26 : decode cX6_set 26 = .ok (.aload_n 0, 1) := dk_42 (dk_at dksX6_set_1 2 rfl rfl)
theorem dX6_set_27 : decode cX6_set 27 = .ok (.getfield 13, 3) := dk_180 0 13 (dk_at dksX6_set_1 3 rfl rfl)
theorem dX6_set_30 : decode cX6_set 30 = .ok (.iload_n 1, 1) := dk_27 (dk_at dksX6_set_1 6 rfl rfl)
theorem dX6_set_31 : decode cX6_set 31 = .ok (.iaload, 1) := dk_46 (dk_at dksX6_set_1 7 rfl rfl)
theorem dX6_set_32 : decode cX6_set 32 = .ok (.iconst 1, 1) := dk_4 (dk_at dksX6_set_1 8 rfl rfl)
theorem dX6_set_33 : decode cX6_set 33 = .ok (.isub, 1) := dk_100 (dk_at dksX6_set_1 9 rfl rfl)
theorem dX6_set_34 : decode cX6_set 34 = .ok (.invokestatic 68, 3) := dk_184 0 68 (dk_at dksX6_set_1 10 rfl rfl)
theorem dX6_set_37 : decode cX6_set 37 = .ok (.ifCond .ne 9, 3) := dk_154 0 9 (dk_at dksX6_set_1 13 rfl rfl)
theorem dX6_set_40 : decode cX6_set 40 = .ok (.aload_n 0, 1) := dk_42 (dk_at dksX6_set_1 16 rfl rfl)
theorem dX6_set_41 : decode cX6_set 41 = .ok (.iconst 2, 1) := dk_5 (dk_at dksX6_set_1 17 rfl rfl)
theorem dX6_set_42 : decode cX6_set 42 = .ok (.invokevirtual 77, 3) := dk_182 0 77 (dk_at dksX6_set_1 18 rfl rfl)
theorem dX6_set_45 : decode cX6_set 45 = .ok (.ireturn, 1) := dk_172 (dk_at dksX6_set_1 21 rfl rfl)
theorem dX6_set_46 : decode cX6_set 46 = .ok (.aload_n 0, 1) := dk_42 (dk_at dksX6_set_1 22 rfl rfl)
theorem dX6_set_47 : decode cX6_set 47 = .ok (.getfield 16, 3) := dk_180 0 16 (dk_at dksX6_set_2 0 rfl rfl)
theorem dX6_set_50 : decode cX6_set 50 = .ok (.bipush 40, 2) := dk_16 40 (dk_at dksX6_set_2 3 rfl rfl)
theorem dX6_set_52 : decode cX6_set 52 = .ok (.iload_n 1, 1) := dk_27 (dk_at dksX6_set_2 5 rfl rfl)
theorem dX6_set_53 : decode cX6_set 53 = .ok (.imul, 1) := dk_104 (dk_at dksX6_set_2 6 rfl rfl)
theorem dX6_set_54 : decode cX6_set 54 = .ok (.iload_n 2, 1) := dk_28 (dk_at dksX6_set_2 7 rfl rfl)
theorem dX6_set_55 : decode cX6_set 55 = .ok (.iadd, 1) := dk_96 (dk_at dksX6_set_2 8 rfl rfl)
theorem dX6_set_56 : decode cX6_set 56 = .ok (.aload_n 0, 1) := dk_42 (dk_at dksX6_set_2 9 rfl rfl)
theorem dX6_set_57 : decode cX6_set 57 = .ok (.getfield 7, 3) := dk_180 0 7 (dk_at dksX6_set_2 10 rfl rfl)
theorem dX6_set_60 : decode cX6_set 60 = .ok (.iload_n 1, 1) := dk_27 (dk_at dksX6_set_2 13 rfl rfl)
theorem dX6_set_61 : decode cX6_set 61 = .ok (.iaload, 1) := dk_46 (dk_at dksX6_set_2 14 rfl rfl)
theorem dX6_set_62 : decode cX6_set 62 = .ok (.iload_n 3, 1) := dk_29 (dk_at dksX6_set_2 15 rfl rfl)
theorem dX6_set_63 : decode cX6_set 63 = .ok (.invokestatic 87, 3) := dk_184 0 87 (dk_at dksX6_set_2 16 rfl rfl)
theorem dX6_set_66 : decode cX6_set 66 = .ok (.iastore, 1) := dk_79 (dk_at dksX6_set_2 19 rfl rfl)
theorem dX6_set_67 : decode cX6_set 67 = .ok (.aload_n 0, 1) := dk_42 (dk_at dksX6_set_2 20 rfl rfl)
theorem dX6_set_68 : decode cX6_set 68 = .ok (.aload_n 0, 1) := dk_42 (dk_at dksX6_set_2 21 rfl rfl)
theorem dX6_set_69 : decode cX6_set 69 = .ok (.getfield 16, 3) := dk_180 0 16 (dk_at dksX6_set_3 0 rfl rfl)
theorem dX6_set_72 : decode cX6_set 72 = .ok (.bipush 40, 2) := dk_16 40 (dk_at dksX6_set_3 3 rfl rfl)
theorem dX6_set_74 : decode cX6_set 74 = .ok (.iload_n 1, 1) := dk_27 (dk_at dksX6_set_3 5 rfl rfl)
theorem dX6_set_75 : decode cX6_set 75 = .ok (.imul, 1) := dk_104 (dk_at dksX6_set_3 6 rfl rfl)
theorem dX6_set_76 : decode cX6_set 76 = .ok (.iload_n 2, 1) := dk_28 (dk_at dksX6_set_3 7 rfl rfl)
theorem dX6_set_77 : decode cX6_set 77 = .ok (.iadd, 1) := dk_96 (dk_at dksX6_set_3 8 rfl rfl)
theorem dX6_set_78 : decode cX6_set 78 = .ok (.iaload, 1) := dk_46 (dk_at dksX6_set_3 9 rfl rfl)
theorem dX6_set_79 : decode cX6_set 79 = .ok (.invokevirtual 81, 3) := dk_182 0 81 (dk_at dksX6_set_3 10 rfl rfl)
theorem dX6_set_82 : decode cX6_set 82 = .ok (.ireturn, 1) := dk_172 (dk_at dksX6_set_3 13 rfl rfl)
abbrev cX6_isMissing : ByteArray := prog_21_method_10_code
def yX6_isMissing : MethodName := ⟨RX6, "isMissing", "(I)Z"⟩
def dkwX6_isMissing_0 : List UInt8 := [42, 180, 0, 7, 27, 46, 18, 62, 160, 0, 7, 4, 167, 0, 4, 3, 172]
abbrev dktX6_isMissing_0 : List UInt8 := dkwX6_isMissing_0 ++ []
theorem dksX6_isMissing_0 : cX6_isMissing.data.toList.drop 0 = dktX6_isMissing_0 := by decide +kernel
theorem dX6_isMissing_0 : decode cX6_isMissing 0 = .ok (.aload_n 0, 1) := dk_42 (dk_at dksX6_isMissing_0 0 rfl rfl)
theorem dX6_isMissing_1 : decode cX6_isMissing 1 = .ok (.getfield 7, 3) := dk_180 0 7 (dk_at dksX6_isMissing_0 1 rfl rfl)
theorem dX6_isMissing_4 : decode cX6_isMissing 4 = .ok (.iload_n 1, 1) := dk_27 (dk_at dksX6_isMissing_0 4 rfl rfl)
theorem dX6_isMissing_5 : decode cX6_isMissing 5 = .ok (.iaload, 1) := dk_46 (dk_at dksX6_isMissing_0 5 rfl rfl)
theorem dX6_isMissing_6 : decode cX6_isMissing 6 = .ok (.ldc 62, 2) := dk_18 62 (dk_at dksX6_isMissing_0 6 rfl rfl)
theorem dX6_isMissing_8 : decode cX6_isMissing 8 = .ok (.if_icmp .ne 7, 3) := dk_160 0 7 (dk_at dksX6_isMissing_0 8 rfl rfl)
theorem dX6_isMissing_11 : decode cX6_isMissing 11 = .ok (.iconst 1, 1) := dk_4 (dk_at dksX6_isMissing_0 11 rfl rfl)
theorem dX6_isMissing_12 : decode cX6_isMissing 12 = .ok (.goto 4, 3) := dk_167 0 4 (dk_at dksX6_isMissing_0 12 rfl rfl)
theorem dX6_isMissing_15 : decode cX6_isMissing 15 = .ok (.iconst 0, 1) := dk_3 (dk_at dksX6_isMissing_0 15 rfl rfl)
theorem dX6_isMissing_16 : decode cX6_isMissing 16 = .ok (.ireturn, 1) := dk_172 (dk_at dksX6_isMissing_0 16 rfl rfl)
abbrev cX6_lowest : ByteArray := prog_21_method_11_code
def yX6_lowest : MethodName := ⟨RX6, "lowest", "(II)I"⟩
def dkwX6_lowest_1 : List UInt8 := [16, 16, 122, 167, 0, 4, 27, 172]
abbrev dktX6_lowest_1 : List UInt8 := dkwX6_lowest_1 ++ []
def dkwX6_lowest_0 : List UInt8 := [26, 154, 0, 13, 27, 16, 24, 120, 16, 24, 122, 167, 0, 19, 26, 4, 160, 0, 13, 27, 16, 16, 120]
abbrev dktX6_lowest_0 : List UInt8 := dkwX6_lowest_0 ++ dktX6_lowest_1
theorem dksX6_lowest_0 : cX6_lowest.data.toList.drop 0 = dktX6_lowest_0 := by decide +kernel
theorem dksX6_lowest_1 : cX6_lowest.data.toList.drop 23 = dktX6_lowest_1 := dk_seg dksX6_lowest_0 23 rfl rfl
theorem dX6_lowest_0 : decode cX6_lowest 0 = .ok (.iload_n 0, 1) := dk_26 (dk_at dksX6_lowest_0 0 rfl rfl)
theorem dX6_lowest_1 : decode cX6_lowest 1 = .ok (.ifCond .ne 13, 3) := dk_154 0 13 (dk_at dksX6_lowest_0 1 rfl rfl)
theorem dX6_lowest_4 : decode cX6_lowest 4 = .ok (.iload_n 1, 1) := dk_27 (dk_at dksX6_lowest_0 4 rfl rfl)
theorem dX6_lowest_5 : decode cX6_lowest 5 = .ok (.bipush 24, 2) := dk_16 24 (dk_at dksX6_lowest_0 5 rfl rfl)
theorem dX6_lowest_7 : decode cX6_lowest 7 = .ok (.ishl, 1) := dk_120 (dk_at dksX6_lowest_0 7 rfl rfl)
theorem dX6_lowest_8 : decode cX6_lowest 8 = .ok (.bipush 24, 2) := dk_16 24 (dk_at dksX6_lowest_0 8 rfl rfl)
theorem dX6_lowest_10 : decode cX6_lowest 10 = .ok (.ishr, 1) := dk_122 (dk_at dksX6_lowest_0 10 rfl rfl)
theorem dX6_lowest_11 : decode cX6_lowest 11 = .ok (.goto 19, 3) := dk_167 0 19 (dk_at dksX6_lowest_0 11 rfl rfl)
theorem dX6_lowest_14 : decode cX6_lowest 14 = .ok (.iload_n 0, 1) := dk_26 (dk_at dksX6_lowest_0 14 rfl rfl)
theorem dX6_lowest_15 : decode cX6_lowest 15 = .ok (.iconst 1, 1) := dk_4 (dk_at dksX6_lowest_0 15 rfl rfl)
theorem dX6_lowest_16 : decode cX6_lowest 16 = .ok (.if_icmp .ne 13, 3) := dk_160 0 13 (dk_at dksX6_lowest_0 16 rfl rfl)
theorem dX6_lowest_19 : decode cX6_lowest 19 = .ok (.iload_n 1, 1) := dk_27 (dk_at dksX6_lowest_0 19 rfl rfl)
theorem dX6_lowest_20 : decode cX6_lowest 20 = .ok (.bipush 16, 2) := dk_16 16 (dk_at dksX6_lowest_0 20 rfl rfl)
theorem dX6_lowest_22 : decode cX6_lowest 22 = .ok (.ishl, 1) := dk_120 (dk_at dksX6_lowest_0 22 rfl rfl)
theorem dX6_lowest_23 : decode cX6_lowest 23 = .ok (.bipush 16, 2) := dk_16 16 (dk_at dksX6_lowest_1 0 rfl rfl)
theorem dX6_lowest_25 : decode cX6_lowest 25 = .ok (.ishr, 1) := dk_122 (dk_at dksX6_lowest_1 2 rfl rfl)
theorem dX6_lowest_26 : decode cX6_lowest 26 = .ok (.goto 4, 3) := dk_167 0 4 (dk_at dksX6_lowest_1 3 rfl rfl)
theorem dX6_lowest_29 : decode cX6_lowest 29 = .ok (.iload_n 1, 1) := dk_27 (dk_at dksX6_lowest_1 6 rfl rfl)
theorem dX6_lowest_30 : decode cX6_lowest 30 = .ok (.ireturn, 1) := dk_172 (dk_at dksX6_lowest_1 7 rfl rfl)
abbrev cX6_copy : ByteArray := prog_21_method_15_code
def yX6_copy : MethodName := ⟨RX6, "copy", "(IIIII)I"⟩
def dkwX6_copy_7 : List UInt8 := [167, 255, 224, 42, 21, 5, 182, 0, 81, 172]
abbrev dktX6_copy_7 : List UInt8 := dkwX6_copy_7 ++ []
def dkwX6_copy_6 : List UInt8 := [180, 0, 16, 16, 40, 29, 104, 21, 4, 96, 21, 6, 96, 42, 180, 0, 19, 21, 6, 46, 79, 132, 6, 1]
abbrev dktX6_copy_6 : List UInt8 := dkwX6_copy_6 ++ dktX6_copy_7
def dkwX6_copy_5 : List UInt8 := [21, 6, 96, 46, 79, 132, 6, 1, 167, 255, 225, 3, 54, 6, 21, 6, 21, 5, 162, 0, 31, 42]
abbrev dktX6_copy_5 : List UInt8 := dkwX6_copy_5 ++ dktX6_copy_6
def dkwX6_copy_4 : List UInt8 := [21, 6, 21, 5, 162, 0, 30, 42, 180, 0, 19, 21, 6, 42, 180, 0, 16, 16, 40, 27, 104, 28, 96]
abbrev dktX6_copy_4 : List UInt8 := dkwX6_copy_4 ++ dktX6_copy_5
def dkwX6_copy_3 : List UInt8 := [153, 0, 15, 42, 29, 21, 4, 21, 5, 182, 0, 91, 154, 0, 9, 42, 5, 182, 0, 77, 172, 3, 54, 6]
abbrev dktX6_copy_3 : List UInt8 := dkwX6_copy_3 ++ dktX6_copy_4
def dkwX6_copy_2 : List UInt8 := [180, 0, 7, 29, 46, 159, 0, 9, 42, 8, 182, 0, 77, 172, 42, 27, 28, 21, 5, 182, 0, 91]
abbrev dktX6_copy_2 : List UInt8 := dkwX6_copy_2 ++ dktX6_copy_3
def dkwX6_copy_1 : List UInt8 := [154, 0, 11, 42, 29, 182, 0, 84, 153, 0, 9, 42, 4, 182, 0, 77, 172, 42, 180, 0, 7, 27, 46, 42]
abbrev dktX6_copy_1 : List UInt8 := dkwX6_copy_1 ++ dktX6_copy_2
def dkwX6_copy_0 : List UInt8 := [27, 184, 0, 72, 153, 0, 10, 29, 184, 0, 72, 154, 0, 6, 18, 76, 172, 42, 27, 182, 0, 84]
abbrev dktX6_copy_0 : List UInt8 := dkwX6_copy_0 ++ dktX6_copy_1
theorem dksX6_copy_0 : cX6_copy.data.toList.drop 0 = dktX6_copy_0 := by decide +kernel
theorem dksX6_copy_1 : cX6_copy.data.toList.drop 22 = dktX6_copy_1 := dk_seg dksX6_copy_0 22 rfl rfl
theorem dksX6_copy_2 : cX6_copy.data.toList.drop 46 = dktX6_copy_2 := dk_seg dksX6_copy_1 24 rfl rfl
theorem dksX6_copy_3 : cX6_copy.data.toList.drop 68 = dktX6_copy_3 := dk_seg dksX6_copy_2 22 rfl rfl
theorem dksX6_copy_4 : cX6_copy.data.toList.drop 92 = dktX6_copy_4 := dk_seg dksX6_copy_3 24 rfl rfl
theorem dksX6_copy_5 : cX6_copy.data.toList.drop 115 = dktX6_copy_5 := dk_seg dksX6_copy_4 23 rfl rfl
theorem dksX6_copy_6 : cX6_copy.data.toList.drop 137 = dktX6_copy_6 := dk_seg dksX6_copy_5 22 rfl rfl
theorem dksX6_copy_7 : cX6_copy.data.toList.drop 161 = dktX6_copy_7 := dk_seg dksX6_copy_6 24 rfl rfl
theorem dX6_copy_0 : decode cX6_copy 0 = .ok (.iload_n 1, 1) := dk_27 (dk_at dksX6_copy_0 0 rfl rfl)
theorem dX6_copy_1 : decode cX6_copy 1 = .ok (.invokestatic 72, 3) := dk_184 0 72 (dk_at dksX6_copy_0 1 rfl rfl)
theorem dX6_copy_4 : decode cX6_copy 4 = .ok (.ifCond .eq 10, 3) := dk_153 0 10 (dk_at dksX6_copy_0 4 rfl rfl)
theorem dX6_copy_7 : decode cX6_copy 7 = .ok (.iload_n 3, 1) := dk_29 (dk_at dksX6_copy_0 7 rfl rfl)
theorem dX6_copy_8 : decode cX6_copy 8 = .ok (.invokestatic 72, 3) := dk_184 0 72 (dk_at dksX6_copy_0 8 rfl rfl)
theorem dX6_copy_11 : decode cX6_copy 11 = .ok (.ifCond .ne 6, 3) := dk_154 0 6 (dk_at dksX6_copy_0 11 rfl rfl)
theorem dX6_copy_14 : decode cX6_copy 14 = .ok (.ldc 76, 2) := dk_18 76 (dk_at dksX6_copy_0 14 rfl rfl)
theorem dX6_copy_16 : decode cX6_copy 16 = .ok (.ireturn, 1) := dk_172 (dk_at dksX6_copy_0 16 rfl rfl)
theorem dX6_copy_17 : decode cX6_copy 17 = .ok (.aload_n 0, 1) := dk_42 (dk_at dksX6_copy_0 17 rfl rfl)
theorem dX6_copy_18 : decode cX6_copy 18 = .ok (.iload_n 1, 1) := dk_27 (dk_at dksX6_copy_0 18 rfl rfl)
theorem dX6_copy_19 : decode cX6_copy 19 = .ok (.invokevirtual 84, 3) := dk_182 0 84 (dk_at dksX6_copy_0 19 rfl rfl)
theorem dX6_copy_22 : decode cX6_copy 22 = .ok (.ifCond .ne 11, 3) := dk_154 0 11 (dk_at dksX6_copy_1 0 rfl rfl)
theorem dX6_copy_25 : decode cX6_copy 25 = .ok (.aload_n 0, 1) := dk_42 (dk_at dksX6_copy_1 3 rfl rfl)
theorem dX6_copy_26 : decode cX6_copy 26 = .ok (.iload_n 3, 1) := dk_29 (dk_at dksX6_copy_1 4 rfl rfl)
theorem dX6_copy_27 : decode cX6_copy 27 = .ok (.invokevirtual 84, 3) := dk_182 0 84 (dk_at dksX6_copy_1 5 rfl rfl)
theorem dX6_copy_30 : decode cX6_copy 30 = .ok (.ifCond .eq 9, 3) := dk_153 0 9 (dk_at dksX6_copy_1 8 rfl rfl)
theorem dX6_copy_33 : decode cX6_copy 33 = .ok (.aload_n 0, 1) := dk_42 (dk_at dksX6_copy_1 11 rfl rfl)
theorem dX6_copy_34 : decode cX6_copy 34 = .ok (.iconst 1, 1) := dk_4 (dk_at dksX6_copy_1 12 rfl rfl)
theorem dX6_copy_35 : decode cX6_copy 35 = .ok (.invokevirtual 77, 3) := dk_182 0 77 (dk_at dksX6_copy_1 13 rfl rfl)
theorem dX6_copy_38 : decode cX6_copy 38 = .ok (.ireturn, 1) := dk_172 (dk_at dksX6_copy_1 16 rfl rfl)
theorem dX6_copy_39 : decode cX6_copy 39 = .ok (.aload_n 0, 1) := dk_42 (dk_at dksX6_copy_1 17 rfl rfl)
theorem dX6_copy_40 : decode cX6_copy 40 = .ok (.getfield 7, 3) := dk_180 0 7 (dk_at dksX6_copy_1 18 rfl rfl)
theorem dX6_copy_43 : decode cX6_copy 43 = .ok (.iload_n 1, 1) := dk_27 (dk_at dksX6_copy_1 21 rfl rfl)
theorem dX6_copy_44 : decode cX6_copy 44 = .ok (.iaload, 1) := dk_46 (dk_at dksX6_copy_1 22 rfl rfl)
theorem dX6_copy_45 : decode cX6_copy 45 = .ok (.aload_n 0, 1) := dk_42 (dk_at dksX6_copy_1 23 rfl rfl)
theorem dX6_copy_46 : decode cX6_copy 46 = .ok (.getfield 7, 3) := dk_180 0 7 (dk_at dksX6_copy_2 0 rfl rfl)
theorem dX6_copy_49 : decode cX6_copy 49 = .ok (.iload_n 3, 1) := dk_29 (dk_at dksX6_copy_2 3 rfl rfl)
theorem dX6_copy_50 : decode cX6_copy 50 = .ok (.iaload, 1) := dk_46 (dk_at dksX6_copy_2 4 rfl rfl)
theorem dX6_copy_51 : decode cX6_copy 51 = .ok (.if_icmp .eq 9, 3) := dk_159 0 9 (dk_at dksX6_copy_2 5 rfl rfl)
theorem dX6_copy_54 : decode cX6_copy 54 = .ok (.aload_n 0, 1) := dk_42 (dk_at dksX6_copy_2 8 rfl rfl)
theorem dX6_copy_55 : decode cX6_copy 55 = .ok (.iconst 5, 1) := dk_8 (dk_at dksX6_copy_2 9 rfl rfl)
theorem dX6_copy_56 : decode cX6_copy 56 = .ok (.invokevirtual 77, 3) := dk_182 0 77 (dk_at dksX6_copy_2 10 rfl rfl)
theorem dX6_copy_59 : decode cX6_copy 59 = .ok (.ireturn, 1) := dk_172 (dk_at dksX6_copy_2 13 rfl rfl)
theorem dX6_copy_60 : decode cX6_copy 60 = .ok (.aload_n 0, 1) := dk_42 (dk_at dksX6_copy_2 14 rfl rfl)
theorem dX6_copy_61 : decode cX6_copy 61 = .ok (.iload_n 1, 1) := dk_27 (dk_at dksX6_copy_2 15 rfl rfl)
theorem dX6_copy_62 : decode cX6_copy 62 = .ok (.iload_n 2, 1) := dk_28 (dk_at dksX6_copy_2 16 rfl rfl)
theorem dX6_copy_63 : decode cX6_copy 63 = .ok (.iload 5, 2) := dk_21 5 (dk_at dksX6_copy_2 17 rfl rfl)
theorem dX6_copy_65 : decode cX6_copy 65 = .ok (.invokevirtual 91, 3) := dk_182 0 91 (dk_at dksX6_copy_2 19 rfl rfl)
theorem dX6_copy_68 : decode cX6_copy 68 = .ok (.ifCond .eq 15, 3) := dk_153 0 15 (dk_at dksX6_copy_3 0 rfl rfl)
theorem dX6_copy_71 : decode cX6_copy 71 = .ok (.aload_n 0, 1) := dk_42 (dk_at dksX6_copy_3 3 rfl rfl)
theorem dX6_copy_72 : decode cX6_copy 72 = .ok (.iload_n 3, 1) := dk_29 (dk_at dksX6_copy_3 4 rfl rfl)
theorem dX6_copy_73 : decode cX6_copy 73 = .ok (.iload 4, 2) := dk_21 4 (dk_at dksX6_copy_3 5 rfl rfl)
theorem dX6_copy_75 : decode cX6_copy 75 = .ok (.iload 5, 2) := dk_21 5 (dk_at dksX6_copy_3 7 rfl rfl)
theorem dX6_copy_77 : decode cX6_copy 77 = .ok (.invokevirtual 91, 3) := dk_182 0 91 (dk_at dksX6_copy_3 9 rfl rfl)
theorem dX6_copy_80 : decode cX6_copy 80 = .ok (.ifCond .ne 9, 3) := dk_154 0 9 (dk_at dksX6_copy_3 12 rfl rfl)
theorem dX6_copy_83 : decode cX6_copy 83 = .ok (.aload_n 0, 1) := dk_42 (dk_at dksX6_copy_3 15 rfl rfl)
theorem dX6_copy_84 : decode cX6_copy 84 = .ok (.iconst 2, 1) := dk_5 (dk_at dksX6_copy_3 16 rfl rfl)
theorem dX6_copy_85 : decode cX6_copy 85 = .ok (.invokevirtual 77, 3) := dk_182 0 77 (dk_at dksX6_copy_3 17 rfl rfl)
theorem dX6_copy_88 : decode cX6_copy 88 = .ok (.ireturn, 1) := dk_172 (dk_at dksX6_copy_3 20 rfl rfl)
theorem dX6_copy_89 : decode cX6_copy 89 = .ok (.iconst 0, 1) := dk_3 (dk_at dksX6_copy_3 21 rfl rfl)
theorem dX6_copy_90 : decode cX6_copy 90 = .ok (.istore 6, 2) := dk_54 6 (dk_at dksX6_copy_3 22 rfl rfl)
theorem dX6_copy_92 : decode cX6_copy 92 = .ok (.iload 6, 2) := dk_21 6 (dk_at dksX6_copy_4 0 rfl rfl)
theorem dX6_copy_94 : decode cX6_copy 94 = .ok (.iload 5, 2) := dk_21 5 (dk_at dksX6_copy_4 2 rfl rfl)
theorem dX6_copy_96 : decode cX6_copy 96 = .ok (.if_icmp .ge 30, 3) := dk_162 0 30 (dk_at dksX6_copy_4 4 rfl rfl)
theorem dX6_copy_99 : decode cX6_copy 99 = .ok (.aload_n 0, 1) := dk_42 (dk_at dksX6_copy_4 7 rfl rfl)
theorem dX6_copy_100 : decode cX6_copy 100 = .ok (.getfield 19, 3) := dk_180 0 19 (dk_at dksX6_copy_4 8 rfl rfl)
theorem dX6_copy_103 : decode cX6_copy 103 = .ok (.iload 6, 2) := dk_21 6 (dk_at dksX6_copy_4 11 rfl rfl)
theorem dX6_copy_105 : decode cX6_copy 105 = .ok (.aload_n 0, 1) := dk_42 (dk_at dksX6_copy_4 13 rfl rfl)
theorem dX6_copy_106 : decode cX6_copy 106 = .ok (.getfield 16, 3) := dk_180 0 16 (dk_at dksX6_copy_4 14 rfl rfl)
theorem dX6_copy_109 : decode cX6_copy 109 = .ok (.bipush 40, 2) := dk_16 40 (dk_at dksX6_copy_4 17 rfl rfl)
theorem dX6_copy_111 : decode cX6_copy 111 = .ok (.iload_n 1, 1) := dk_27 (dk_at dksX6_copy_4 19 rfl rfl)
theorem dX6_copy_112 : decode cX6_copy 112 = .ok (.imul, 1) := dk_104 (dk_at dksX6_copy_4 20 rfl rfl)
theorem dX6_copy_113 : decode cX6_copy 113 = .ok (.iload_n 2, 1) := dk_28 (dk_at dksX6_copy_4 21 rfl rfl)
theorem dX6_copy_114 : decode cX6_copy 114 = .ok (.iadd, 1) := dk_96 (dk_at dksX6_copy_4 22 rfl rfl)
theorem dX6_copy_115 : decode cX6_copy 115 = .ok (.iload 6, 2) := dk_21 6 (dk_at dksX6_copy_5 0 rfl rfl)
theorem dX6_copy_117 : decode cX6_copy 117 = .ok (.iadd, 1) := dk_96 (dk_at dksX6_copy_5 2 rfl rfl)
theorem dX6_copy_118 : decode cX6_copy 118 = .ok (.iaload, 1) := dk_46 (dk_at dksX6_copy_5 3 rfl rfl)
theorem dX6_copy_119 : decode cX6_copy 119 = .ok (.iastore, 1) := dk_79 (dk_at dksX6_copy_5 4 rfl rfl)
theorem dX6_copy_120 : decode cX6_copy 120 = .ok (.iinc 6 1, 3) := dk_132 6 1 (dk_at dksX6_copy_5 5 rfl rfl)
theorem dX6_copy_123 : decode cX6_copy 123 = .ok (.goto (-31), 3) := dk_167 255 225 (dk_at dksX6_copy_5 8 rfl rfl)
theorem dX6_copy_126 : decode cX6_copy 126 = .ok (.iconst 0, 1) := dk_3 (dk_at dksX6_copy_5 11 rfl rfl)
theorem dX6_copy_127 : decode cX6_copy 127 = .ok (.istore 6, 2) := dk_54 6 (dk_at dksX6_copy_5 12 rfl rfl)
theorem dX6_copy_129 : decode cX6_copy 129 = .ok (.iload 6, 2) := dk_21 6 (dk_at dksX6_copy_5 14 rfl rfl)
theorem dX6_copy_131 : decode cX6_copy 131 = .ok (.iload 5, 2) := dk_21 5 (dk_at dksX6_copy_5 16 rfl rfl)
theorem dX6_copy_133 : decode cX6_copy 133 = .ok (.if_icmp .ge 31, 3) := dk_162 0 31 (dk_at dksX6_copy_5 18 rfl rfl)
theorem dX6_copy_136 : decode cX6_copy 136 = .ok (.aload_n 0, 1) := dk_42 (dk_at dksX6_copy_5 21 rfl rfl)
theorem dX6_copy_137 : decode cX6_copy 137 = .ok (.getfield 16, 3) := dk_180 0 16 (dk_at dksX6_copy_6 0 rfl rfl)
theorem dX6_copy_140 : decode cX6_copy 140 = .ok (.bipush 40, 2) := dk_16 40 (dk_at dksX6_copy_6 3 rfl rfl)
theorem dX6_copy_142 : decode cX6_copy 142 = .ok (.iload_n 3, 1) := dk_29 (dk_at dksX6_copy_6 5 rfl rfl)
theorem dX6_copy_143 : decode cX6_copy 143 = .ok (.imul, 1) := dk_104 (dk_at dksX6_copy_6 6 rfl rfl)
theorem dX6_copy_144 : decode cX6_copy 144 = .ok (.iload 4, 2) := dk_21 4 (dk_at dksX6_copy_6 7 rfl rfl)
theorem dX6_copy_146 : decode cX6_copy 146 = .ok (.iadd, 1) := dk_96 (dk_at dksX6_copy_6 9 rfl rfl)
theorem dX6_copy_147 : decode cX6_copy 147 = .ok (.iload 6, 2) := dk_21 6 (dk_at dksX6_copy_6 10 rfl rfl)
theorem dX6_copy_149 : decode cX6_copy 149 = .ok (.iadd, 1) := dk_96 (dk_at dksX6_copy_6 12 rfl rfl)
theorem dX6_copy_150 : decode cX6_copy 150 = .ok (.aload_n 0, 1) := dk_42 (dk_at dksX6_copy_6 13 rfl rfl)
theorem dX6_copy_151 : decode cX6_copy 151 = .ok (.getfield 19, 3) := dk_180 0 19 (dk_at dksX6_copy_6 14 rfl rfl)
theorem dX6_copy_154 : decode cX6_copy 154 = .ok (.iload 6, 2) := dk_21 6 (dk_at dksX6_copy_6 17 rfl rfl)
theorem dX6_copy_156 : decode cX6_copy 156 = .ok (.iaload, 1) := dk_46 (dk_at dksX6_copy_6 19 rfl rfl)
theorem dX6_copy_157 : decode cX6_copy 157 = .ok (.iastore, 1) := dk_79 (dk_at dksX6_copy_6 20 rfl rfl)
theorem dX6_copy_158 : decode cX6_copy 158 = .ok (.iinc 6 1, 3) := dk_132 6 1 (dk_at dksX6_copy_6 21 rfl rfl)
theorem dX6_copy_161 : decode cX6_copy 161 = .ok (.goto (-32), 3) := dk_167 255 224 (dk_at dksX6_copy_7 0 rfl rfl)
theorem dX6_copy_164 : decode cX6_copy 164 = .ok (.aload_n 0, 1) := dk_42 (dk_at dksX6_copy_7 3 rfl rfl)
theorem dX6_copy_165 : decode cX6_copy 165 = .ok (.iload 5, 2) := dk_21 5 (dk_at dksX6_copy_7 4 rfl rfl)
theorem dX6_copy_167 : decode cX6_copy 167 = .ok (.invokevirtual 81, 3) := dk_182 0 81 (dk_at dksX6_copy_7 6 rfl rfl)
theorem dX6_copy_170 : decode cX6_copy 170 = .ok (.ireturn, 1) := dk_172 (dk_at dksX6_copy_7 9 rfl rfl)
abbrev cX6_isPart : ByteArray := prog_21_method_14_code
def yX6_isPart : MethodName := ⟨RX6, "isPart", "(III)Z"⟩
def dkwX6_isPart_1 : List UInt8 := [46, 28, 100, 163, 0, 7, 4, 167, 0, 4, 3, 172]
abbrev dktX6_isPart_1 : List UInt8 := dkwX6_isPart_1 ++ []
def dkwX6_isPart_0 : List UInt8 := [28, 155, 0, 33, 29, 155, 0, 29, 28, 42, 180, 0, 13, 27, 46, 163, 0, 19, 29, 42, 180, 0, 13, 27]
abbrev dktX6_isPart_0 : List UInt8 := dkwX6_isPart_0 ++ dktX6_isPart_1
theorem dksX6_isPart_0 : cX6_isPart.data.toList.drop 0 = dktX6_isPart_0 := by decide +kernel
theorem dksX6_isPart_1 : cX6_isPart.data.toList.drop 24 = dktX6_isPart_1 := dk_seg dksX6_isPart_0 24 rfl rfl
theorem dX6_isPart_0 : decode cX6_isPart 0 = .ok (.iload_n 2, 1) := dk_28 (dk_at dksX6_isPart_0 0 rfl rfl)
theorem dX6_isPart_1 : decode cX6_isPart 1 = .ok (.ifCond .lt 33, 3) := dk_155 0 33 (dk_at dksX6_isPart_0 1 rfl rfl)
theorem dX6_isPart_4 : decode cX6_isPart 4 = .ok (.iload_n 3, 1) := dk_29 (dk_at dksX6_isPart_0 4 rfl rfl)
theorem dX6_isPart_5 : decode cX6_isPart 5 = .ok (.ifCond .lt 29, 3) := dk_155 0 29 (dk_at dksX6_isPart_0 5 rfl rfl)
theorem dX6_isPart_8 : decode cX6_isPart 8 = .ok (.iload_n 2, 1) := dk_28 (dk_at dksX6_isPart_0 8 rfl rfl)
theorem dX6_isPart_9 : decode cX6_isPart 9 = .ok (.aload_n 0, 1) := dk_42 (dk_at dksX6_isPart_0 9 rfl rfl)
theorem dX6_isPart_10 : decode cX6_isPart 10 = .ok (.getfield 13, 3) := dk_180 0 13 (dk_at dksX6_isPart_0 10 rfl rfl)
theorem dX6_isPart_13 : decode cX6_isPart 13 = .ok (.iload_n 1, 1) := dk_27 (dk_at dksX6_isPart_0 13 rfl rfl)
theorem dX6_isPart_14 : decode cX6_isPart 14 = .ok (.iaload, 1) := dk_46 (dk_at dksX6_isPart_0 14 rfl rfl)
theorem dX6_isPart_15 : decode cX6_isPart 15 = .ok (.if_icmp .gt 19, 3) := dk_163 0 19 (dk_at dksX6_isPart_0 15 rfl rfl)
theorem dX6_isPart_18 : decode cX6_isPart 18 = .ok (.iload_n 3, 1) := dk_29 (dk_at dksX6_isPart_0 18 rfl rfl)
theorem dX6_isPart_19 : decode cX6_isPart 19 = .ok (.aload_n 0, 1) := dk_42 (dk_at dksX6_isPart_0 19 rfl rfl)
theorem dX6_isPart_20 : decode cX6_isPart 20 = .ok (.getfield 13, 3) := dk_180 0 13 (dk_at dksX6_isPart_0 20 rfl rfl)
theorem dX6_isPart_23 : decode cX6_isPart 23 = .ok (.iload_n 1, 1) := dk_27 (dk_at dksX6_isPart_0 23 rfl rfl)
theorem dX6_isPart_24 : decode cX6_isPart 24 = .ok (.iaload, 1) := dk_46 (dk_at dksX6_isPart_1 0 rfl rfl)
theorem dX6_isPart_25 : decode cX6_isPart 25 = .ok (.iload_n 2, 1) := dk_28 (dk_at dksX6_isPart_1 1 rfl rfl)
theorem dX6_isPart_26 : decode cX6_isPart 26 = .ok (.isub, 1) := dk_100 (dk_at dksX6_isPart_1 2 rfl rfl)
theorem dX6_isPart_27 : decode cX6_isPart 27 = .ok (.if_icmp .gt 7, 3) := dk_163 0 7 (dk_at dksX6_isPart_1 3 rfl rfl)
theorem dX6_isPart_30 : decode cX6_isPart 30 = .ok (.iconst 1, 1) := dk_4 (dk_at dksX6_isPart_1 6 rfl rfl)
theorem dX6_isPart_31 : decode cX6_isPart 31 = .ok (.goto 4, 3) := dk_167 0 4 (dk_at dksX6_isPart_1 7 rfl rfl)
theorem dX6_isPart_34 : decode cX6_isPart 34 = .ok (.iconst 0, 1) := dk_3 (dk_at dksX6_isPart_1 10 rfl rfl)
theorem dX6_isPart_35 : decode cX6_isPart 35 = .ok (.ireturn, 1) := dk_172 (dk_at dksX6_isPart_1 11 rfl rfl)
abbrev cX6_drop : ByteArray := prog_21_method_16_code
def yX6_drop : MethodName := ⟨RX6, "drop", "(I)I"⟩
def dkwX6_drop_1 : List UInt8 := [42, 180, 0, 7, 27, 18, 62, 79, 42, 42, 180, 0, 13, 27, 46, 182, 0, 81, 172]
abbrev dktX6_drop_1 : List UInt8 := dkwX6_drop_1 ++ []
def dkwX6_drop_0 : List UInt8 := [27, 184, 0, 72, 154, 0, 6, 18, 76, 172, 42, 27, 182, 0, 84, 153, 0, 9, 42, 4, 182, 0, 77, 172]
abbrev dktX6_drop_0 : List UInt8 := dkwX6_drop_0 ++ dktX6_drop_1
theorem dksX6_drop_0 : cX6_drop.data.toList.drop 0 = dktX6_drop_0 := by decide +kernel
theorem dksX6_drop_1 : cX6_drop.data.toList.drop 24 = dktX6_drop_1 := dk_seg dksX6_drop_0 24 rfl rfl
theorem dX6_drop_0 : decode cX6_drop 0 = .ok (.iload_n 1, 1) := dk_27 (dk_at dksX6_drop_0 0 rfl rfl)
theorem dX6_drop_1 : decode cX6_drop 1 = .ok (.invokestatic 72, 3) := dk_184 0 72 (dk_at dksX6_drop_0 1 rfl rfl)
theorem dX6_drop_4 : decode cX6_drop 4 = .ok (.ifCond .ne 6, 3) := dk_154 0 6 (dk_at dksX6_drop_0 4 rfl rfl)
theorem dX6_drop_7 : decode cX6_drop 7 = .ok (.ldc 76, 2) := dk_18 76 (dk_at dksX6_drop_0 7 rfl rfl)
theorem dX6_drop_9 : decode cX6_drop 9 = .ok (.ireturn, 1) := dk_172 (dk_at dksX6_drop_0 9 rfl rfl)
theorem dX6_drop_10 : decode cX6_drop 10 = .ok (.aload_n 0, 1) := dk_42 (dk_at dksX6_drop_0 10 rfl rfl)
theorem dX6_drop_11 : decode cX6_drop 11 = .ok (.iload_n 1, 1) := dk_27 (dk_at dksX6_drop_0 11 rfl rfl)
theorem dX6_drop_12 : decode cX6_drop 12 = .ok (.invokevirtual 84, 3) := dk_182 0 84 (dk_at dksX6_drop_0 12 rfl rfl)
theorem dX6_drop_15 : decode cX6_drop 15 = .ok (.ifCond .eq 9, 3) := dk_153 0 9 (dk_at dksX6_drop_0 15 rfl rfl)
theorem dX6_drop_18 : decode cX6_drop 18 = .ok (.aload_n 0, 1) := dk_42 (dk_at dksX6_drop_0 18 rfl rfl)
theorem dX6_drop_19 : decode cX6_drop 19 = .ok (.iconst 1, 1) := dk_4 (dk_at dksX6_drop_0 19 rfl rfl)
theorem dX6_drop_20 : decode cX6_drop 20 = .ok (.invokevirtual 77, 3) := dk_182 0 77 (dk_at dksX6_drop_0 20 rfl rfl)
theorem dX6_drop_23 : decode cX6_drop 23 = .ok (.ireturn, 1) := dk_172 (dk_at dksX6_drop_0 23 rfl rfl)
theorem dX6_drop_24 : decode cX6_drop 24 = .ok (.aload_n 0, 1) := dk_42 (dk_at dksX6_drop_1 0 rfl rfl)
theorem dX6_drop_25 : decode cX6_drop 25 = .ok (.getfield 7, 3) := dk_180 0 7 (dk_at dksX6_drop_1 1 rfl rfl)
theorem dX6_drop_28 : decode cX6_drop 28 = .ok (.iload_n 1, 1) := dk_27 (dk_at dksX6_drop_1 4 rfl rfl)
theorem dX6_drop_29 : decode cX6_drop 29 = .ok (.ldc 62, 2) := dk_18 62 (dk_at dksX6_drop_1 5 rfl rfl)
theorem dX6_drop_31 : decode cX6_drop 31 = .ok (.iastore, 1) := dk_79 (dk_at dksX6_drop_1 7 rfl rfl)
theorem dX6_drop_32 : decode cX6_drop 32 = .ok (.aload_n 0, 1) := dk_42 (dk_at dksX6_drop_1 8 rfl rfl)
theorem dX6_drop_33 : decode cX6_drop 33 = .ok (.aload_n 0, 1) := dk_42 (dk_at dksX6_drop_1 9 rfl rfl)
theorem dX6_drop_34 : decode cX6_drop 34 = .ok (.getfield 13, 3) := dk_180 0 13 (dk_at dksX6_drop_1 10 rfl rfl)
theorem dX6_drop_37 : decode cX6_drop 37 = .ok (.iload_n 1, 1) := dk_27 (dk_at dksX6_drop_1 13 rfl rfl)
theorem dX6_drop_38 : decode cX6_drop 38 = .ok (.iaload, 1) := dk_46 (dk_at dksX6_drop_1 14 rfl rfl)
theorem dX6_drop_39 : decode cX6_drop 39 = .ok (.invokevirtual 81, 3) := dk_182 0 81 (dk_at dksX6_drop_1 15 rfl rfl)
theorem dX6_drop_42 : decode cX6_drop 42 = .ok (.ireturn, 1) := dk_172 (dk_at dksX6_drop_1 18 rfl rfl)
abbrev cX6_feed : ByteArray := prog_21_method_17_code
def yX6_feed : MethodName := ⟨RX6, "feed", "(I)I"⟩
def dkwX6_feed_2 : List UInt8 := [180, 0, 94, 172]
abbrev dktX6_feed_2 : List UInt8 := dkwX6_feed_2 ++ []
def dkwX6_feed_1 : List UInt8 := [18, 97, 172, 42, 180, 0, 22, 42, 180, 0, 94, 27, 79, 42, 89, 180, 0, 94, 4, 96, 181, 0, 94, 42]
abbrev dktX6_feed_1 : List UInt8 := dkwX6_feed_1 ++ dktX6_feed_2
def dkwX6_feed_0 : List UInt8 := [27, 3, 17, 0, 255, 184, 0, 68, 154, 0, 6, 18, 76, 172, 42, 180, 0, 94, 17, 0, 130, 160, 0, 6]
abbrev dktX6_feed_0 : List UInt8 := dkwX6_feed_0 ++ dktX6_feed_1
theorem dksX6_feed_0 : cX6_feed.data.toList.drop 0 = dktX6_feed_0 := by decide +kernel
theorem dksX6_feed_1 : cX6_feed.data.toList.drop 24 = dktX6_feed_1 := dk_seg dksX6_feed_0 24 rfl rfl
theorem dksX6_feed_2 : cX6_feed.data.toList.drop 48 = dktX6_feed_2 := dk_seg dksX6_feed_1 24 rfl rfl
theorem dX6_feed_0 : decode cX6_feed 0 = .ok (.iload_n 1, 1) := dk_27 (dk_at dksX6_feed_0 0 rfl rfl)
theorem dX6_feed_1 : decode cX6_feed 1 = .ok (.iconst 0, 1) := dk_3 (dk_at dksX6_feed_0 1 rfl rfl)
theorem dX6_feed_2 : decode cX6_feed 2 = .ok (.sipush 255, 3) := dk_17 0 255 (dk_at dksX6_feed_0 2 rfl rfl)
theorem dX6_feed_5 : decode cX6_feed 5 = .ok (.invokestatic 68, 3) := dk_184 0 68 (dk_at dksX6_feed_0 5 rfl rfl)
theorem dX6_feed_8 : decode cX6_feed 8 = .ok (.ifCond .ne 6, 3) := dk_154 0 6 (dk_at dksX6_feed_0 8 rfl rfl)
theorem dX6_feed_11 : decode cX6_feed 11 = .ok (.ldc 76, 2) := dk_18 76 (dk_at dksX6_feed_0 11 rfl rfl)
theorem dX6_feed_13 : decode cX6_feed 13 = .ok (.ireturn, 1) := dk_172 (dk_at dksX6_feed_0 13 rfl rfl)
theorem dX6_feed_14 : decode cX6_feed 14 = .ok (.aload_n 0, 1) := dk_42 (dk_at dksX6_feed_0 14 rfl rfl)
theorem dX6_feed_15 : decode cX6_feed 15 = .ok (.getfield 94, 3) := dk_180 0 94 (dk_at dksX6_feed_0 15 rfl rfl)
theorem dX6_feed_18 : decode cX6_feed 18 = .ok (.sipush 130, 3) := dk_17 0 130 (dk_at dksX6_feed_0 18 rfl rfl)
theorem dX6_feed_21 : decode cX6_feed 21 = .ok (.if_icmp .ne 6, 3) := dk_160 0 6 (dk_at dksX6_feed_0 21 rfl rfl)
theorem dX6_feed_24 : decode cX6_feed 24 = .ok (.ldc 97, 2) := dk_18 97 (dk_at dksX6_feed_1 0 rfl rfl)
theorem dX6_feed_26 : decode cX6_feed 26 = .ok (.ireturn, 1) := dk_172 (dk_at dksX6_feed_1 2 rfl rfl)
theorem dX6_feed_27 : decode cX6_feed 27 = .ok (.aload_n 0, 1) := dk_42 (dk_at dksX6_feed_1 3 rfl rfl)
theorem dX6_feed_28 : decode cX6_feed 28 = .ok (.getfield 22, 3) := dk_180 0 22 (dk_at dksX6_feed_1 4 rfl rfl)
theorem dX6_feed_31 : decode cX6_feed 31 = .ok (.aload_n 0, 1) := dk_42 (dk_at dksX6_feed_1 7 rfl rfl)
theorem dX6_feed_32 : decode cX6_feed 32 = .ok (.getfield 94, 3) := dk_180 0 94 (dk_at dksX6_feed_1 8 rfl rfl)
theorem dX6_feed_35 : decode cX6_feed 35 = .ok (.iload_n 1, 1) := dk_27 (dk_at dksX6_feed_1 11 rfl rfl)
theorem dX6_feed_36 : decode cX6_feed 36 = .ok (.iastore, 1) := dk_79 (dk_at dksX6_feed_1 12 rfl rfl)
theorem dX6_feed_37 : decode cX6_feed 37 = .ok (.aload_n 0, 1) := dk_42 (dk_at dksX6_feed_1 13 rfl rfl)
theorem dX6_feed_38 : decode cX6_feed 38 = .ok (.dup, 1) := dk_89 (dk_at dksX6_feed_1 14 rfl rfl)
theorem dX6_feed_39 : decode cX6_feed 39 = .ok (.getfield 94, 3) := dk_180 0 94 (dk_at dksX6_feed_1 15 rfl rfl)
theorem dX6_feed_42 : decode cX6_feed 42 = .ok (.iconst 1, 1) := dk_4 (dk_at dksX6_feed_1 18 rfl rfl)
theorem dX6_feed_43 : decode cX6_feed 43 = .ok (.iadd, 1) := dk_96 (dk_at dksX6_feed_1 19 rfl rfl)
theorem dX6_feed_44 : decode cX6_feed 44 = .ok (.putfield 94, 3) := dk_181 0 94 (dk_at dksX6_feed_1 20 rfl rfl)
theorem dX6_feed_47 : decode cX6_feed 47 = .ok (.aload_n 0, 1) := dk_42 (dk_at dksX6_feed_1 23 rfl rfl)
theorem dX6_feed_48 : decode cX6_feed 48 = .ok (.getfield 94, 3) := dk_180 0 94 (dk_at dksX6_feed_2 0 rfl rfl)
theorem dX6_feed_51 : decode cX6_feed 51 = .ok (.ireturn, 1) := dk_172 (dk_at dksX6_feed_2 3 rfl rfl)
abbrev cX6_net : ByteArray := prog_21_method_30_code
def yX6_net : MethodName := ⟨RX6, "net", "()I"⟩
def dkwX6_net_11 : List UInt8 := [180, 0, 25, 3, 46, 172]
abbrev dktX6_net_11 : List UInt8 := dkwX6_net_11 ++ []
def dkwX6_net_10 : List UInt8 := [180, 0, 113, 100, 172, 42, 180, 0, 28, 3, 42, 180, 0, 25, 3, 184, 0, 156, 42, 3, 181, 0, 160, 42]
abbrev dktX6_net_10 : List UInt8 := dkwX6_net_10 ++ dktX6_net_11
def dkwX6_net_9 : List UInt8 := [167, 0, 4, 3, 4, 182, 0, 136, 42, 3, 181, 0, 94, 42, 182, 0, 116, 154, 0, 11, 18, 155, 42]
abbrev dktX6_net_9 : List UInt8 := dkwX6_net_9 ++ dktX6_net_10
def dkwX6_net_8 : List UInt8 := [182, 0, 146, 153, 0, 10, 42, 182, 0, 152, 167, 255, 243, 42, 42, 180, 0, 110, 154, 0, 7, 4]
abbrev dktX6_net_8 : List UInt8 := dkwX6_net_8 ++ dktX6_net_9
def dkwX6_net_7 : List UInt8 := [182, 0, 136, 42, 16, 99, 182, 0, 146, 153, 0, 10, 42, 182, 0, 149, 167, 255, 243, 42, 16, 105]
abbrev dktX6_net_7 : List UInt8 := dkwX6_net_7 ++ dktX6_net_8
def dkwX6_net_6 : List UInt8 := [182, 0, 143, 167, 255, 227, 42, 42, 180, 0, 28, 3, 46, 158, 0, 7, 4, 167, 0, 4, 3, 4]
abbrev dktX6_net_6 : List UInt8 := dkwX6_net_6 ++ dktX6_net_7
def dkwX6_net_5 : List UInt8 := [153, 0, 28, 42, 180, 0, 110, 4, 160, 0, 20, 42, 180, 0, 107, 184, 0, 133, 158, 0, 10, 42]
abbrev dktX6_net_5 : List UInt8 := dkwX6_net_5 ++ dktX6_net_6
def dkwX6_net_4 : List UInt8 := [79, 42, 42, 180, 0, 110, 7, 160, 0, 7, 4, 167, 0, 4, 3, 4, 182, 0, 126, 87, 42, 182, 0, 116]
abbrev dktX6_net_4 : List UInt8 := dkwX6_net_4 ++ dktX6_net_5
def dkwX6_net_3 : List UInt8 := [4, 16, 9, 182, 0, 130, 79, 42, 180, 0, 28, 6, 42, 42, 180, 0, 28, 5, 46, 16, 20, 182, 0, 140]
abbrev dktX6_net_3 : List UInt8 := dkwX6_net_3 ++ dktX6_net_4
def dkwX6_net_2 : List UInt8 := [180, 0, 107, 16, 119, 160, 0, 7, 4, 167, 0, 4, 3, 4, 182, 0, 126, 87, 42, 180, 0, 28, 5, 42]
abbrev dktX6_net_2 : List UInt8 := dkwX6_net_2 ++ dktX6_net_3
def dkwX6_net_1 : List UInt8 := [181, 0, 98, 42, 2, 181, 0, 113, 42, 182, 0, 123, 42, 42, 180, 0, 110, 4, 160, 0, 16, 42]
abbrev dktX6_net_1 : List UInt8 := dkwX6_net_1 ++ dktX6_net_2
def dkwX6_net_0 : List UInt8 := [3, 60, 27, 16, 52, 162, 0, 16, 42, 180, 0, 28, 27, 3, 79, 132, 1, 1, 167, 255, 240, 42, 3]
abbrev dktX6_net_0 : List UInt8 := dkwX6_net_0 ++ dktX6_net_1
theorem dksX6_net_0 : cX6_net.data.toList.drop 0 = dktX6_net_0 := by decide +kernel
theorem dksX6_net_1 : cX6_net.data.toList.drop 23 = dktX6_net_1 := dk_seg dksX6_net_0 23 rfl rfl
theorem dksX6_net_2 : cX6_net.data.toList.drop 45 = dktX6_net_2 := dk_seg dksX6_net_1 22 rfl rfl
theorem dksX6_net_3 : cX6_net.data.toList.drop 69 = dktX6_net_3 := dk_seg dksX6_net_2 24 rfl rfl
theorem dksX6_net_4 : cX6_net.data.toList.drop 93 = dktX6_net_4 := dk_seg dksX6_net_3 24 rfl rfl
theorem dksX6_net_5 : cX6_net.data.toList.drop 117 = dktX6_net_5 := dk_seg dksX6_net_4 24 rfl rfl
theorem dksX6_net_6 : cX6_net.data.toList.drop 139 = dktX6_net_6 := dk_seg dksX6_net_5 22 rfl rfl
theorem dksX6_net_7 : cX6_net.data.toList.drop 161 = dktX6_net_7 := dk_seg dksX6_net_6 22 rfl rfl
theorem dksX6_net_8 : cX6_net.data.toList.drop 183 = dktX6_net_8 := dk_seg dksX6_net_7 22 rfl rfl
theorem dksX6_net_9 : cX6_net.data.toList.drop 205 = dktX6_net_9 := dk_seg dksX6_net_8 22 rfl rfl
theorem dksX6_net_10 : cX6_net.data.toList.drop 228 = dktX6_net_10 := dk_seg dksX6_net_9 23 rfl rfl
theorem dksX6_net_11 : cX6_net.data.toList.drop 252 = dktX6_net_11 := dk_seg dksX6_net_10 24 rfl rfl
theorem dX6_net_0 : decode cX6_net 0 = .ok (.iconst 0, 1) := dk_3 (dk_at dksX6_net_0 0 rfl rfl)
theorem dX6_net_1 : decode cX6_net 1 = .ok (.istore_n 1, 1) := dk_60 (dk_at dksX6_net_0 1 rfl rfl)
theorem dX6_net_2 : decode cX6_net 2 = .ok (.iload_n 1, 1) := dk_27 (dk_at dksX6_net_0 2 rfl rfl)
theorem dX6_net_3 : decode cX6_net 3 = .ok (.bipush 52, 2) := dk_16 52 (dk_at dksX6_net_0 3 rfl rfl)
theorem dX6_net_5 : decode cX6_net 5 = .ok (.if_icmp .ge 16, 3) := dk_162 0 16 (dk_at dksX6_net_0 5 rfl rfl)
theorem dX6_net_8 : decode cX6_net 8 = .ok (.aload_n 0, 1) := dk_42 (dk_at dksX6_net_0 8 rfl rfl)
theorem dX6_net_9 : decode cX6_net 9 = .ok (.getfield 28, 3) := dk_180 0 28 (dk_at dksX6_net_0 9 rfl rfl)
theorem dX6_net_12 : decode cX6_net 12 = .ok (.iload_n 1, 1) := dk_27 (dk_at dksX6_net_0 12 rfl rfl)
theorem dX6_net_13 : decode cX6_net 13 = .ok (.iconst 0, 1) := dk_3 (dk_at dksX6_net_0 13 rfl rfl)
theorem dX6_net_14 : decode cX6_net 14 = .ok (.iastore, 1) := dk_79 (dk_at dksX6_net_0 14 rfl rfl)
theorem dX6_net_15 : decode cX6_net 15 = .ok (.iinc 1 1, 3) := dk_132 1 1 (dk_at dksX6_net_0 15 rfl rfl)
theorem dX6_net_18 : decode cX6_net 18 = .ok (.goto (-16), 3) := dk_167 255 240 (dk_at dksX6_net_0 18 rfl rfl)
theorem dX6_net_21 : decode cX6_net 21 = .ok (.aload_n 0, 1) := dk_42 (dk_at dksX6_net_0 21 rfl rfl)
theorem dX6_net_22 : decode cX6_net 22 = .ok (.iconst 0, 1) := dk_3 (dk_at dksX6_net_0 22 rfl rfl)
theorem dX6_net_23 : decode cX6_net 23 = .ok (.putfield 98, 3) := dk_181 0 98 (dk_at dksX6_net_1 0 rfl rfl)
theorem dX6_net_26 : decode cX6_net 26 = .ok (.aload_n 0, 1) := dk_42 (dk_at dksX6_net_1 3 rfl rfl)
theorem dX6_net_27 : decode cX6_net 27 = .ok (.iconst (-1), 1) := dk_2 (dk_at dksX6_net_1 4 rfl rfl)
theorem dX6_net_28 : decode cX6_net 28 = .ok (.putfield 113, 3) := dk_181 0 113 (dk_at dksX6_net_1 5 rfl rfl)
theorem dX6_net_31 : decode cX6_net 31 = .ok (.aload_n 0, 1) := dk_42 (dk_at dksX6_net_1 8 rfl rfl)
theorem dX6_net_32 : decode cX6_net 32 = .ok (.invokevirtual 123, 3) := dk_182 0 123 (dk_at dksX6_net_1 9 rfl rfl)
theorem dX6_net_35 : decode cX6_net 35 = .ok (.aload_n 0, 1) := dk_42 (dk_at dksX6_net_1 12 rfl rfl)
theorem dX6_net_36 : decode cX6_net 36 = .ok (.aload_n 0, 1) := dk_42 (dk_at dksX6_net_1 13 rfl rfl)
theorem dX6_net_37 : decode cX6_net 37 = .ok (.getfield 110, 3) := dk_180 0 110 (dk_at dksX6_net_1 14 rfl rfl)
theorem dX6_net_40 : decode cX6_net 40 = .ok (.iconst 1, 1) := dk_4 (dk_at dksX6_net_1 17 rfl rfl)
theorem dX6_net_41 : decode cX6_net 41 = .ok (.if_icmp .ne 16, 3) := dk_160 0 16 (dk_at dksX6_net_1 18 rfl rfl)
theorem dX6_net_44 : decode cX6_net 44 = .ok (.aload_n 0, 1) := dk_42 (dk_at dksX6_net_1 21 rfl rfl)
theorem dX6_net_45 : decode cX6_net 45 = .ok (.getfield 107, 3) := dk_180 0 107 (dk_at dksX6_net_2 0 rfl rfl)
theorem dX6_net_48 : decode cX6_net 48 = .ok (.bipush 119, 2) := dk_16 119 (dk_at dksX6_net_2 3 rfl rfl)
theorem dX6_net_50 : decode cX6_net 50 = .ok (.if_icmp .ne 7, 3) := dk_160 0 7 (dk_at dksX6_net_2 5 rfl rfl)
theorem dX6_net_53 : decode cX6_net 53 = .ok (.iconst 1, 1) := dk_4 (dk_at dksX6_net_2 8 rfl rfl)
theorem dX6_net_54 : decode cX6_net 54 = .ok (.goto 4, 3) := dk_167 0 4 (dk_at dksX6_net_2 9 rfl rfl)
theorem dX6_net_57 : decode cX6_net 57 = .ok (.iconst 0, 1) := dk_3 (dk_at dksX6_net_2 12 rfl rfl)
theorem dX6_net_58 : decode cX6_net 58 = .ok (.iconst 1, 1) := dk_4 (dk_at dksX6_net_2 13 rfl rfl)
theorem dX6_net_59 : decode cX6_net 59 = .ok (.invokevirtual 126, 3) := dk_182 0 126 (dk_at dksX6_net_2 14 rfl rfl)
theorem dX6_net_62 : decode cX6_net 62 = .ok (.pop, 1) := dk_87 (dk_at dksX6_net_2 17 rfl rfl)
theorem dX6_net_63 : decode cX6_net 63 = .ok (.aload_n 0, 1) := dk_42 (dk_at dksX6_net_2 18 rfl rfl)
theorem dX6_net_64 : decode cX6_net 64 = .ok (.getfield 28, 3) := dk_180 0 28 (dk_at dksX6_net_2 19 rfl rfl)
theorem dX6_net_67 : decode cX6_net 67 = .ok (.iconst 2, 1) := dk_5 (dk_at dksX6_net_2 22 rfl rfl)
theorem dX6_net_68 : decode cX6_net 68 = .ok (.aload_n 0, 1) := dk_42 (dk_at dksX6_net_2 23 rfl rfl)
theorem dX6_net_69 : decode cX6_net 69 = .ok (.iconst 1, 1) := dk_4 (dk_at dksX6_net_3 0 rfl rfl)
theorem dX6_net_70 : decode cX6_net 70 = .ok (.bipush 9, 2) := dk_16 9 (dk_at dksX6_net_3 1 rfl rfl)
theorem dX6_net_72 : decode cX6_net 72 = .ok (.invokevirtual 130, 3) := dk_182 0 130 (dk_at dksX6_net_3 3 rfl rfl)
theorem dX6_net_75 : decode cX6_net 75 = .ok (.iastore, 1) := dk_79 (dk_at dksX6_net_3 6 rfl rfl)
theorem dX6_net_76 : decode cX6_net 76 = .ok (.aload_n 0, 1) := dk_42 (dk_at dksX6_net_3 7 rfl rfl)
theorem dX6_net_77 : decode cX6_net 77 = .ok (.getfield 28, 3) := dk_180 0 28 (dk_at dksX6_net_3 8 rfl rfl)
theorem dX6_net_80 : decode cX6_net 80 = .ok (.iconst 3, 1) := dk_6 (dk_at dksX6_net_3 11 rfl rfl)
theorem dX6_net_81 : decode cX6_net 81 = .ok (.aload_n 0, 1) := dk_42 (dk_at dksX6_net_3 12 rfl rfl)
theorem dX6_net_82 : decode cX6_net 82 = .ok (.aload_n 0, 1) := dk_42 (dk_at dksX6_net_3 13 rfl rfl)
theorem dX6_net_83 : decode cX6_net 83 = .ok (.getfield 28, 3) := dk_180 0 28 (dk_at dksX6_net_3 14 rfl rfl)
theorem dX6_net_86 : decode cX6_net 86 = .ok (.iconst 2, 1) := dk_5 (dk_at dksX6_net_3 17 rfl rfl)
theorem dX6_net_87 : decode cX6_net 87 = .ok (.iaload, 1) := dk_46 (dk_at dksX6_net_3 18 rfl rfl)
theorem dX6_net_88 : decode cX6_net 88 = .ok (.bipush 20, 2) := dk_16 20 (dk_at dksX6_net_3 19 rfl rfl)
theorem dX6_net_90 : decode cX6_net 90 = .ok (.invokevirtual 140, 3) := dk_182 0 140 (dk_at dksX6_net_3 21 rfl rfl)
theorem dX6_net_93 : decode cX6_net 93 = .ok (.iastore, 1) := dk_79 (dk_at dksX6_net_4 0 rfl rfl)
theorem dX6_net_94 : decode cX6_net 94 = .ok (.aload_n 0, 1) := dk_42 (dk_at dksX6_net_4 1 rfl rfl)
theorem dX6_net_95 : decode cX6_net 95 = .ok (.aload_n 0, 1) := dk_42 (dk_at dksX6_net_4 2 rfl rfl)
theorem dX6_net_96 : decode cX6_net 96 = .ok (.getfield 110, 3) := dk_180 0 110 (dk_at dksX6_net_4 3 rfl rfl)
theorem dX6_net_99 : decode cX6_net 99 = .ok (.iconst 4, 1) := dk_7 (dk_at dksX6_net_4 6 rfl rfl)
theorem dX6_net_100 : decode cX6_net 100 = .ok (.if_icmp .ne 7, 3) := dk_160 0 7 (dk_at dksX6_net_4 7 rfl rfl)
theorem dX6_net_103 : decode cX6_net 103 = .ok (.iconst 1, 1) := dk_4 (dk_at dksX6_net_4 10 rfl rfl)
theorem dX6_net_104 : decode cX6_net 104 = .ok (.goto 4, 3) := dk_167 0 4 (dk_at dksX6_net_4 11 rfl rfl)
theorem dX6_net_107 : decode cX6_net 107 = .ok (.iconst 0, 1) := dk_3 (dk_at dksX6_net_4 14 rfl rfl)
theorem dX6_net_108 : decode cX6_net 108 = .ok (.iconst 1, 1) := dk_4 (dk_at dksX6_net_4 15 rfl rfl)
theorem dX6_net_109 : decode cX6_net 109 = .ok (.invokevirtual 126, 3) := dk_182 0 126 (dk_at dksX6_net_4 16 rfl rfl)
theorem dX6_net_112 : decode cX6_net 112 = .ok (.pop, 1) := dk_87 (dk_at dksX6_net_4 19 rfl rfl)
theorem dX6_net_113 : decode cX6_net 113 = .ok (.aload_n 0, 1) := dk_42 (dk_at dksX6_net_4 20 rfl rfl)
theorem dX6_net_114 : decode cX6_net 114 = .ok (.invokevirtual 116, 3) := dk_182 0 116 (dk_at dksX6_net_4 21 rfl rfl)
theorem dX6_net_117 : decode cX6_net 117 = .ok (.ifCond .eq 28, 3) := dk_153 0 28 (dk_at dksX6_net_5 0 rfl rfl)
theorem dX6_net_120 : decode cX6_net 120 = .ok (.aload_n 0, 1) := dk_42 (dk_at dksX6_net_5 3 rfl rfl)
theorem dX6_net_121 : decode cX6_net 121 = .ok (.getfield 110, 3) := dk_180 0 110 (dk_at dksX6_net_5 4 rfl rfl)
theorem dX6_net_124 : decode cX6_net 124 = .ok (.iconst 1, 1) := dk_4 (dk_at dksX6_net_5 7 rfl rfl)
theorem dX6_net_125 : decode cX6_net 125 = .ok (.if_icmp .ne 20, 3) := dk_160 0 20 (dk_at dksX6_net_5 8 rfl rfl)
theorem dX6_net_128 : decode cX6_net 128 = .ok (.aload_n 0, 1) := dk_42 (dk_at dksX6_net_5 11 rfl rfl)
theorem dX6_net_129 : decode cX6_net 129 = .ok (.getfield 107, 3) := dk_180 0 107 (dk_at dksX6_net_5 12 rfl rfl)
theorem dX6_net_132 : decode cX6_net 132 = .ok (.invokestatic 133, 3) := dk_184 0 133 (dk_at dksX6_net_5 15 rfl rfl)
theorem dX6_net_135 : decode cX6_net 135 = .ok (.ifCond .le 10, 3) := dk_158 0 10 (dk_at dksX6_net_5 18 rfl rfl)
theorem dX6_net_138 : decode cX6_net 138 = .ok (.aload_n 0, 1) := dk_42 (dk_at dksX6_net_5 21 rfl rfl)
theorem dX6_net_139 : decode cX6_net 139 = .ok (.invokevirtual 143, 3) := dk_182 0 143 (dk_at dksX6_net_6 0 rfl rfl)
theorem dX6_net_142 : decode cX6_net 142 = .ok (.goto (-29), 3) := dk_167 255 227 (dk_at dksX6_net_6 3 rfl rfl)
theorem dX6_net_145 : decode cX6_net 145 = .ok (.aload_n 0, 1) := dk_42 (dk_at dksX6_net_6 6 rfl rfl)
theorem dX6_net_146 : decode cX6_net 146 = .ok (.aload_n 0, 1) := dk_42 (dk_at dksX6_net_6 7 rfl rfl)
theorem dX6_net_147 : decode cX6_net 147 = .ok (.getfield 28, 3) := dk_180 0 28 (dk_at dksX6_net_6 8 rfl rfl)
theorem dX6_net_150 : decode cX6_net 150 = .ok (.iconst 0, 1) := dk_3 (dk_at dksX6_net_6 11 rfl rfl)
theorem dX6_net_151 : decode cX6_net 151 = .ok (.iaload, 1) := dk_46 (dk_at dksX6_net_6 12 rfl rfl)
theorem dX6_net_152 : decode cX6_net 152 = .ok (.ifCond .le 7, 3) := dk_158 0 7 (dk_at dksX6_net_6 13 rfl rfl)
theorem dX6_net_155 : decode cX6_net 155 = .ok (.iconst 1, 1) := dk_4 (dk_at dksX6_net_6 16 rfl rfl)
theorem dX6_net_156 : decode cX6_net 156 = .ok (.goto 4, 3) := dk_167 0 4 (dk_at dksX6_net_6 17 rfl rfl)
theorem dX6_net_159 : decode cX6_net 159 = .ok (.iconst 0, 1) := dk_3 (dk_at dksX6_net_6 20 rfl rfl)
theorem dX6_net_160 : decode cX6_net 160 = .ok (.iconst 1, 1) := dk_4 (dk_at dksX6_net_6 21 rfl rfl)
theorem dX6_net_161 : decode cX6_net 161 = .ok (.invokevirtual 136, 3) := dk_182 0 136 (dk_at dksX6_net_7 0 rfl rfl)
theorem dX6_net_164 : decode cX6_net 164 = .ok (.aload_n 0, 1) := dk_42 (dk_at dksX6_net_7 3 rfl rfl)
theorem dX6_net_165 : decode cX6_net 165 = .ok (.bipush 99, 2) := dk_16 99 (dk_at dksX6_net_7 4 rfl rfl)
theorem dX6_net_167 : decode cX6_net 167 = .ok (.invokevirtual 146, 3) := dk_182 0 146 (dk_at dksX6_net_7 6 rfl rfl)
theorem dX6_net_170 : decode cX6_net 170 = .ok (.ifCond .eq 10, 3) := dk_153 0 10 (dk_at dksX6_net_7 9 rfl rfl)
theorem dX6_net_173 : decode cX6_net 173 = .ok (.aload_n 0, 1) := dk_42 (dk_at dksX6_net_7 12 rfl rfl)
theorem dX6_net_174 : decode cX6_net 174 = .ok (.invokevirtual 149, 3) := dk_182 0 149 (dk_at dksX6_net_7 13 rfl rfl)
theorem dX6_net_177 : decode cX6_net 177 = .ok (.goto (-13), 3) := dk_167 255 243 (dk_at dksX6_net_7 16 rfl rfl)
theorem dX6_net_180 : decode cX6_net 180 = .ok (.aload_n 0, 1) := dk_42 (dk_at dksX6_net_7 19 rfl rfl)
theorem dX6_net_181 : decode cX6_net 181 = .ok (.bipush 105, 2) := dk_16 105 (dk_at dksX6_net_7 20 rfl rfl)
theorem dX6_net_183 : decode cX6_net 183 = .ok (.invokevirtual 146, 3) := dk_182 0 146 (dk_at dksX6_net_8 0 rfl rfl)
theorem dX6_net_186 : decode cX6_net 186 = .ok (.ifCond .eq 10, 3) := dk_153 0 10 (dk_at dksX6_net_8 3 rfl rfl)
theorem dX6_net_189 : decode cX6_net 189 = .ok (.aload_n 0, 1) := dk_42 (dk_at dksX6_net_8 6 rfl rfl)
theorem dX6_net_190 : decode cX6_net 190 = .ok (.invokevirtual 152, 3) := dk_182 0 152 (dk_at dksX6_net_8 7 rfl rfl)
theorem dX6_net_193 : decode cX6_net 193 = .ok (.goto (-13), 3) := dk_167 255 243 (dk_at dksX6_net_8 10 rfl rfl)
theorem dX6_net_196 : decode cX6_net 196 = .ok (.aload_n 0, 1) := dk_42 (dk_at dksX6_net_8 13 rfl rfl)
theorem dX6_net_197 : decode cX6_net 197 = .ok (.aload_n 0, 1) := dk_42 (dk_at dksX6_net_8 14 rfl rfl)
theorem dX6_net_198 : decode cX6_net 198 = .ok (.getfield 110, 3) := dk_180 0 110 (dk_at dksX6_net_8 15 rfl rfl)
theorem dX6_net_201 : decode cX6_net 201 = .ok (.ifCond .ne 7, 3) := dk_154 0 7 (dk_at dksX6_net_8 18 rfl rfl)
theorem dX6_net_204 : decode cX6_net 204 = .ok (.iconst 1, 1) := dk_4 (dk_at dksX6_net_8 21 rfl rfl)
theorem dX6_net_205 : decode cX6_net 205 = .ok (.goto 4, 3) := dk_167 0 4 (dk_at dksX6_net_9 0 rfl rfl)
theorem dX6_net_208 : decode cX6_net 208 = .ok (.iconst 0, 1) := dk_3 (dk_at dksX6_net_9 3 rfl rfl)
theorem dX6_net_209 : decode cX6_net 209 = .ok (.iconst 1, 1) := dk_4 (dk_at dksX6_net_9 4 rfl rfl)
theorem dX6_net_210 : decode cX6_net 210 = .ok (.invokevirtual 136, 3) := dk_182 0 136 (dk_at dksX6_net_9 5 rfl rfl)
theorem dX6_net_213 : decode cX6_net 213 = .ok (.aload_n 0, 1) := dk_42 (dk_at dksX6_net_9 8 rfl rfl)
theorem dX6_net_214 : decode cX6_net 214 = .ok (.iconst 0, 1) := dk_3 (dk_at dksX6_net_9 9 rfl rfl)
theorem dX6_net_215 : decode cX6_net 215 = .ok (.putfield 94, 3) := dk_181 0 94 (dk_at dksX6_net_9 10 rfl rfl)
theorem dX6_net_218 : decode cX6_net 218 = .ok (.aload_n 0, 1) := dk_42 (dk_at dksX6_net_9 13 rfl rfl)
theorem dX6_net_219 : decode cX6_net 219 = .ok (.invokevirtual 116, 3) := dk_182 0 116 (dk_at dksX6_net_9 14 rfl rfl)
theorem dX6_net_222 : decode cX6_net 222 = .ok (.ifCond .ne 11, 3) := dk_154 0 11 (dk_at dksX6_net_9 17 rfl rfl)
theorem dX6_net_225 : decode cX6_net 225 = .ok (.ldc 155, 2) := dk_18 155 (dk_at dksX6_net_9 20 rfl rfl)
theorem dX6_net_227 : decode cX6_net 227 = .ok (.aload_n 0, 1) := dk_42 (dk_at dksX6_net_9 22 rfl rfl)
theorem dX6_net_228 : decode cX6_net 228 = .ok (.getfield 113, 3) := dk_180 0 113 (dk_at dksX6_net_10 0 rfl rfl)
theorem dX6_net_231 : decode cX6_net 231 = .ok (.isub, 1) := dk_100 (dk_at dksX6_net_10 3 rfl rfl)
theorem dX6_net_232 : decode cX6_net 232 = .ok (.ireturn, 1) := dk_172 (dk_at dksX6_net_10 4 rfl rfl)
theorem dX6_net_233 : decode cX6_net 233 = .ok (.aload_n 0, 1) := dk_42 (dk_at dksX6_net_10 5 rfl rfl)
theorem dX6_net_234 : decode cX6_net 234 = .ok (.getfield 28, 3) := dk_180 0 28 (dk_at dksX6_net_10 6 rfl rfl)
theorem dX6_net_237 : decode cX6_net 237 = .ok (.iconst 0, 1) := dk_3 (dk_at dksX6_net_10 9 rfl rfl)
theorem dX6_net_238 : decode cX6_net 238 = .ok (.aload_n 0, 1) := dk_42 (dk_at dksX6_net_10 10 rfl rfl)
theorem dX6_net_239 : decode cX6_net 239 = .ok (.getfield 25, 3) := dk_180 0 25 (dk_at dksX6_net_10 11 rfl rfl)
theorem dX6_net_242 : decode cX6_net 242 = .ok (.iconst 0, 1) := dk_3 (dk_at dksX6_net_10 14 rfl rfl)
theorem dX6_net_243 : decode cX6_net 243 = .ok (.invokestatic 156, 3) := dk_184 0 156 (dk_at dksX6_net_10 15 rfl rfl)
theorem dX6_net_246 : decode cX6_net 246 = .ok (.aload_n 0, 1) := dk_42 (dk_at dksX6_net_10 18 rfl rfl)
theorem dX6_net_247 : decode cX6_net 247 = .ok (.iconst 0, 1) := dk_3 (dk_at dksX6_net_10 19 rfl rfl)
theorem dX6_net_248 : decode cX6_net 248 = .ok (.putfield 160, 3) := dk_181 0 160 (dk_at dksX6_net_10 20 rfl rfl)
theorem dX6_net_251 : decode cX6_net 251 = .ok (.aload_n 0, 1) := dk_42 (dk_at dksX6_net_10 23 rfl rfl)
theorem dX6_net_252 : decode cX6_net 252 = .ok (.getfield 25, 3) := dk_180 0 25 (dk_at dksX6_net_11 0 rfl rfl)
theorem dX6_net_255 : decode cX6_net 255 = .ok (.iconst 0, 1) := dk_3 (dk_at dksX6_net_11 3 rfl rfl)
theorem dX6_net_256 : decode cX6_net 256 = .ok (.iaload, 1) := dk_46 (dk_at dksX6_net_11 4 rfl rfl)
theorem dX6_net_257 : decode cX6_net 257 = .ok (.ireturn, 1) := dk_172 (dk_at dksX6_net_11 5 rfl rfl)
abbrev cX6_advances : ByteArray := prog_21_method_19_code
def yX6_advances : MethodName := ⟨RX6, "advances", "()V"⟩
def dkwX6_advances_8 : List UInt8 := [180, 0, 110, 154, 0, 7, 3, 167, 0, 4, 4, 96, 181, 0, 98, 177]
abbrev dktX6_advances_8 : List UInt8 := dkwX6_advances_8 ++ []
def dkwX6_advances_7 : List UInt8 := [6, 167, 0, 14, 27, 16, 59, 160, 0, 7, 7, 167, 0, 4, 8, 181, 0, 110, 42, 89, 180, 0, 98, 42]
abbrev dktX6_advances_7 : List UInt8 := dkwX6_advances_7 ++ dktX6_advances_8
def dkwX6_advances_6 : List UInt8 := [167, 0, 39, 27, 16, 97, 16, 122, 184, 0, 68, 153, 0, 7, 4, 167, 0, 24, 27, 16, 44, 160, 0, 7]
abbrev dktX6_advances_6 : List UInt8 := dkwX6_advances_6 ++ dktX6_advances_7
def dkwX6_advances_5 : List UInt8 := [42, 180, 0, 101, 100, 6, 162, 0, 7, 5, 167, 0, 4, 8, 181, 0, 110, 177, 42, 27, 156, 0, 7, 3]
abbrev dktX6_advances_5 : List UInt8 := dkwX6_advances_5 ++ dktX6_advances_6
def dkwX6_advances_4 : List UInt8 := [180, 0, 107, 181, 0, 107, 42, 89, 180, 0, 98, 4, 96, 181, 0, 98, 167, 255, 185, 42, 42, 180, 0, 98]
abbrev dktX6_advances_4 : List UInt8 := dkwX6_advances_4 ++ dktX6_advances_5
def dkwX6_advances_3 : List UInt8 := [16, 10, 42, 180, 0, 107, 104, 42, 42, 180, 0, 98, 182, 0, 104, 96, 16, 48, 100, 167, 0, 7, 42]
abbrev dktX6_advances_3 : List UInt8 := dkwX6_advances_3 ++ dktX6_advances_4
def dkwX6_advances_2 : List UInt8 := [16, 48, 16, 57, 184, 0, 68, 153, 0, 59, 42, 42, 180, 0, 98, 42, 180, 0, 101, 100, 5, 162, 0, 25]
abbrev dktX6_advances_2 : List UInt8 := dkwX6_advances_2 ++ dktX6_advances_3
def dkwX6_advances_1 : List UInt8 := [16, 48, 16, 57, 184, 0, 68, 153, 0, 105, 42, 3, 181, 0, 107, 42, 42, 180, 0, 98, 182, 0, 104]
abbrev dktX6_advances_1 : List UInt8 := dkwX6_advances_1 ++ dktX6_advances_2
def dkwX6_advances_0 : List UInt8 := [42, 42, 180, 0, 98, 181, 0, 101, 42, 42, 180, 0, 98, 182, 0, 104, 60, 42, 27, 181, 0, 107, 27]
abbrev dktX6_advances_0 : List UInt8 := dkwX6_advances_0 ++ dktX6_advances_1
theorem dksX6_advances_0 : cX6_advances.data.toList.drop 0 = dktX6_advances_0 := by decide +kernel
theorem dksX6_advances_1 : cX6_advances.data.toList.drop 23 = dktX6_advances_1 := dk_seg dksX6_advances_0 23 rfl rfl
theorem dksX6_advances_2 : cX6_advances.data.toList.drop 46 = dktX6_advances_2 := dk_seg dksX6_advances_1 23 rfl rfl
theorem dksX6_advances_3 : cX6_advances.data.toList.drop 70 = dktX6_advances_3 := dk_seg dksX6_advances_2 24 rfl rfl
theorem dksX6_advances_4 : cX6_advances.data.toList.drop 93 = dktX6_advances_4 := dk_seg dksX6_advances_3 23 rfl rfl
theorem dksX6_advances_5 : cX6_advances.data.toList.drop 117 = dktX6_advances_5 := dk_seg dksX6_advances_4 24 rfl rfl
theorem dksX6_advances_6 : cX6_advances.data.toList.drop 141 = dktX6_advances_6 := dk_seg dksX6_advances_5 24 rfl rfl
theorem dksX6_advances_7 : cX6_advances.data.toList.drop 165 = dktX6_advances_7 := dk_seg dksX6_advances_6 24 rfl rfl
theorem dksX6_advances_8 : cX6_advances.data.toList.drop 189 = dktX6_advances_8 := dk_seg dksX6_advances_7 24 rfl rfl
theorem dX6_advances_0 : decode cX6_advances 0 = .ok (.aload_n 0, 1) := dk_42 (dk_at dksX6_advances_0 0 rfl rfl)
theorem dX6_advances_1 : decode cX6_advances 1 = .ok (.aload_n 0, 1) := dk_42 (dk_at dksX6_advances_0 1 rfl rfl)
theorem dX6_advances_2 : decode cX6_advances 2 = .ok (.getfield 98, 3) := dk_180 0 98 (dk_at dksX6_advances_0 2 rfl rfl)
theorem dX6_advances_5 : decode cX6_advances 5 = .ok (.putfield 101, 3) := dk_181 0 101 (dk_at dksX6_advances_0 5 rfl rfl)
theorem dX6_advances_8 : decode cX6_advances 8 = .ok (.aload_n 0, 1) := dk_42 (dk_at dksX6_advances_0 8 rfl rfl)
theorem dX6_advances_9 : decode cX6_advances 9 = .ok (.aload_n 0, 1) := dk_42 (dk_at dksX6_advances_0 9 rfl rfl)
theorem dX6_advances_10 : decode cX6_advances 10 = .ok (.getfield 98, 3) := dk_180 0 98 (dk_at dksX6_advances_0 10 rfl rfl)
theorem dX6_advances_13 : decode cX6_advances 13 = .ok (.invokevirtual 104, 3) := dk_182 0 104 (dk_at dksX6_advances_0 13 rfl rfl)
theorem dX6_advances_16 : decode cX6_advances 16 = .ok (.istore_n 1, 1) := dk_60 (dk_at dksX6_advances_0 16 rfl rfl)
theorem dX6_advances_17 : decode cX6_advances 17 = .ok (.aload_n 0, 1) := dk_42 (dk_at dksX6_advances_0 17 rfl rfl)
theorem dX6_advances_18 : decode cX6_advances 18 = .ok (.iload_n 1, 1) := dk_27 (dk_at dksX6_advances_0 18 rfl rfl)
theorem dX6_advances_19 : decode cX6_advances 19 = .ok (.putfield 107, 3) := dk_181 0 107 (dk_at dksX6_advances_0 19 rfl rfl)
theorem dX6_advances_22 : decode cX6_advances 22 = .ok (.iload_n 1, 1) := dk_27 (dk_at dksX6_advances_0 22 rfl rfl)
theorem dX6_advances_23 : decode cX6_advances 23 = .ok (.bipush 48, 2) := dk_16 48 (dk_at dksX6_advances_1 0 rfl rfl)
theorem dX6_advances_25 : decode cX6_advances 25 = .ok (.bipush 57, 2) := dk_16 57 (dk_at dksX6_advances_1 2 rfl rfl)
theorem dX6_advances_27 : decode cX6_advances 27 = .ok (.invokestatic 68, 3) := dk_184 0 68 (dk_at dksX6_advances_1 4 rfl rfl)
theorem dX6_advances_30 : decode cX6_advances 30 = .ok (.ifCond .eq 105, 3) := dk_153 0 105 (dk_at dksX6_advances_1 7 rfl rfl)
theorem dX6_advances_33 : decode cX6_advances 33 = .ok (.aload_n 0, 1) := dk_42 (dk_at dksX6_advances_1 10 rfl rfl)
theorem dX6_advances_34 : decode cX6_advances 34 = .ok (.iconst 0, 1) := dk_3 (dk_at dksX6_advances_1 11 rfl rfl)
theorem dX6_advances_35 : decode cX6_advances 35 = .ok (.putfield 107, 3) := dk_181 0 107 (dk_at dksX6_advances_1 12 rfl rfl)
theorem dX6_advances_38 : decode cX6_advances 38 = .ok (.aload_n 0, 1) := dk_42 (dk_at dksX6_advances_1 15 rfl rfl)
theorem dX6_advances_39 : decode cX6_advances 39 = .ok (.aload_n 0, 1) := dk_42 (dk_at dksX6_advances_1 16 rfl rfl)
theorem dX6_advances_40 : decode cX6_advances 40 = .ok (.getfield 98, 3) := dk_180 0 98 (dk_at dksX6_advances_1 17 rfl rfl)
theorem dX6_advances_43 : decode cX6_advances 43 = .ok (.invokevirtual 104, 3) := dk_182 0 104 (dk_at dksX6_advances_1 20 rfl rfl)
theorem dX6_advances_46 : decode cX6_advances 46 = .ok (.bipush 48, 2) := dk_16 48 (dk_at dksX6_advances_2 0 rfl rfl)
theorem dX6_advances_48 : decode cX6_advances 48 = .ok (.bipush 57, 2) := dk_16 57 (dk_at dksX6_advances_2 2 rfl rfl)
theorem dX6_advances_50 : decode cX6_advances 50 = .ok (.invokestatic 68, 3) := dk_184 0 68 (dk_at dksX6_advances_2 4 rfl rfl)
theorem dX6_advances_53 : decode cX6_advances 53 = .ok (.ifCond .eq 59, 3) := dk_153 0 59 (dk_at dksX6_advances_2 7 rfl rfl)
theorem dX6_advances_56 : decode cX6_advances 56 = .ok (.aload_n 0, 1) := dk_42 (dk_at dksX6_advances_2 10 rfl rfl)
theorem dX6_advances_57 : decode cX6_advances 57 = .ok (.aload_n 0, 1) := dk_42 (dk_at dksX6_advances_2 11 rfl rfl)
theorem dX6_advances_58 : decode cX6_advances 58 = .ok (.getfield 98, 3) := dk_180 0 98 (dk_at dksX6_advances_2 12 rfl rfl)
theorem dX6_advances_61 : decode cX6_advances 61 = .ok (.aload_n 0, 1) := dk_42 (dk_at dksX6_advances_2 15 rfl rfl)
theorem dX6_advances_62 : decode cX6_advances 62 = .ok (.getfield 101, 3) := dk_180 0 101 (dk_at dksX6_advances_2 16 rfl rfl)
theorem dX6_advances_65 : decode cX6_advances 65 = .ok (.isub, 1) := dk_100 (dk_at dksX6_advances_2 19 rfl rfl)
theorem dX6_advances_66 : decode cX6_advances 66 = .ok (.iconst 2, 1) := dk_5 (dk_at dksX6_advances_2 20 rfl rfl)
theorem dX6_advances_67 : decode cX6_advances 67 = .ok (.if_icmp .ge 25, 3) := dk_162 0 25 (dk_at dksX6_advances_2 21 rfl rfl)
theorem dX6_advances_70 : decode cX6_advances 70 = .ok (.bipush 10, 2) := dk_16 10 (dk_at dksX6_advances_3 0 rfl rfl)
theorem dX6_advances_72 : decode cX6_advances 72 = .ok (.aload_n 0, 1) := dk_42 (dk_at dksX6_advances_3 2 rfl rfl)
theorem dX6_advances_73 : decode cX6_advances 73 = .ok (.getfield 107, 3) := dk_180 0 107 (dk_at dksX6_advances_3 3 rfl rfl)
theorem dX6_advances_76 : decode cX6_advances 76 = .ok (.imul, 1) := dk_104 (dk_at dksX6_advances_3 6 rfl rfl)
theorem dX6_advances_77 : decode cX6_advances 77 = .ok (.aload_n 0, 1) := dk_42 (dk_at dksX6_advances_3 7 rfl rfl)
theorem dX6_advances_78 : decode cX6_advances 78 = .ok (.aload_n 0, 1) := dk_42 (dk_at dksX6_advances_3 8 rfl rfl)
theorem dX6_advances_79 : decode cX6_advances 79 = .ok (.getfield 98, 3) := dk_180 0 98 (dk_at dksX6_advances_3 9 rfl rfl)
theorem dX6_advances_82 : decode cX6_advances 82 = .ok (.invokevirtual 104, 3) := dk_182 0 104 (dk_at dksX6_advances_3 12 rfl rfl)
theorem dX6_advances_85 : decode cX6_advances 85 = .ok (.iadd, 1) := dk_96 (dk_at dksX6_advances_3 15 rfl rfl)
theorem dX6_advances_86 : decode cX6_advances 86 = .ok (.bipush 48, 2) := dk_16 48 (dk_at dksX6_advances_3 16 rfl rfl)
theorem dX6_advances_88 : decode cX6_advances 88 = .ok (.isub, 1) := dk_100 (dk_at dksX6_advances_3 18 rfl rfl)
theorem dX6_advances_89 : decode cX6_advances 89 = .ok (.goto 7, 3) := dk_167 0 7 (dk_at dksX6_advances_3 19 rfl rfl)
theorem dX6_advances_92 : decode cX6_advances 92 = .ok (.aload_n 0, 1) := dk_42 (dk_at dksX6_advances_3 22 rfl rfl)
theorem dX6_advances_93 : decode cX6_advances 93 = .ok (.getfield 107, 3) := dk_180 0 107 (dk_at dksX6_advances_4 0 rfl rfl)
theorem dX6_advances_96 : decode cX6_advances 96 = .ok (.putfield 107, 3) := dk_181 0 107 (dk_at dksX6_advances_4 3 rfl rfl)
theorem dX6_advances_99 : decode cX6_advances 99 = .ok (.aload_n 0, 1) := dk_42 (dk_at dksX6_advances_4 6 rfl rfl)
theorem dX6_advances_100 : decode cX6_advances 100 = .ok (.dup, 1) := dk_89 (dk_at dksX6_advances_4 7 rfl rfl)
theorem dX6_advances_101 : decode cX6_advances 101 = .ok (.getfield 98, 3) := dk_180 0 98 (dk_at dksX6_advances_4 8 rfl rfl)
theorem dX6_advances_104 : decode cX6_advances 104 = .ok (.iconst 1, 1) := dk_4 (dk_at dksX6_advances_4 11 rfl rfl)
theorem dX6_advances_105 : decode cX6_advances 105 = .ok (.iadd, 1) := dk_96 (dk_at dksX6_advances_4 12 rfl rfl)
theorem dX6_advances_106 : decode cX6_advances 106 = .ok (.putfield 98, 3) := dk_181 0 98 (dk_at dksX6_advances_4 13 rfl rfl)
theorem dX6_advances_109 : decode cX6_advances 109 = .ok (.goto (-71), 3) := dk_167 255 185 (dk_at dksX6_advances_4 16 rfl rfl)
theorem dX6_advances_112 : decode cX6_advances 112 = .ok (.aload_n 0, 1) := dk_42 (dk_at dksX6_advances_4 19 rfl rfl)
theorem dX6_advances_113 : decode cX6_advances 113 = .ok (.aload_n 0, 1) := dk_42 (dk_at dksX6_advances_4 20 rfl rfl)
theorem dX6_advances_114 : decode cX6_advances 114 = .ok (.getfield 98, 3) := dk_180 0 98 (dk_at dksX6_advances_4 21 rfl rfl)
theorem dX6_advances_117 : decode cX6_advances 117 = .ok (.aload_n 0, 1) := dk_42 (dk_at dksX6_advances_5 0 rfl rfl)
theorem dX6_advances_118 : decode cX6_advances 118 = .ok (.getfield 101, 3) := dk_180 0 101 (dk_at dksX6_advances_5 1 rfl rfl)
theorem dX6_advances_121 : decode cX6_advances 121 = .ok (.isub, 1) := dk_100 (dk_at dksX6_advances_5 4 rfl rfl)
theorem dX6_advances_122 : decode cX6_advances 122 = .ok (.iconst 3, 1) := dk_6 (dk_at dksX6_advances_5 5 rfl rfl)
theorem dX6_advances_123 : decode cX6_advances 123 = .ok (.if_icmp .ge 7, 3) := dk_162 0 7 (dk_at dksX6_advances_5 6 rfl rfl)
theorem dX6_advances_126 : decode cX6_advances 126 = .ok (.iconst 2, 1) := dk_5 (dk_at dksX6_advances_5 9 rfl rfl)
theorem dX6_advances_127 : decode cX6_advances 127 = .ok (.goto 4, 3) := dk_167 0 4 (dk_at dksX6_advances_5 10 rfl rfl)
theorem dX6_advances_130 : decode cX6_advances 130 = .ok (.iconst 5, 1) := dk_8 (dk_at dksX6_advances_5 13 rfl rfl)
theorem dX6_advances_131 : decode cX6_advances 131 = .ok (.putfield 110, 3) := dk_181 0 110 (dk_at dksX6_advances_5 14 rfl rfl)
theorem dX6_advances_134 : decode cX6_advances 134 = .ok (.return_, 1) := dk_177 (dk_at dksX6_advances_5 17 rfl rfl)
theorem dX6_advances_135 : decode cX6_advances 135 = .ok (.aload_n 0, 1) := dk_42 (dk_at dksX6_advances_5 18 rfl rfl)
theorem dX6_advances_136 : decode cX6_advances 136 = .ok (.iload_n 1, 1) := dk_27 (dk_at dksX6_advances_5 19 rfl rfl)
theorem dX6_advances_137 : decode cX6_advances 137 = .ok (.ifCond .ge 7, 3) := dk_156 0 7 (dk_at dksX6_advances_5 20 rfl rfl)
theorem dX6_advances_140 : decode cX6_advances 140 = .ok (.iconst 0, 1) := dk_3 (dk_at dksX6_advances_5 23 rfl rfl)
theorem dX6_advances_141 : decode cX6_advances 141 = .ok (.goto 39, 3) := dk_167 0 39 (dk_at dksX6_advances_6 0 rfl rfl)
theorem dX6_advances_144 : decode cX6_advances 144 = .ok (.iload_n 1, 1) := dk_27 (dk_at dksX6_advances_6 3 rfl rfl)
theorem dX6_advances_145 : decode cX6_advances 145 = .ok (.bipush 97, 2) := dk_16 97 (dk_at dksX6_advances_6 4 rfl rfl)
theorem dX6_advances_147 : decode cX6_advances 147 = .ok (.bipush 122, 2) := dk_16 122 (dk_at dksX6_advances_6 6 rfl rfl)
theorem dX6_advances_149 : decode cX6_advances 149 = .ok (.invokestatic 68, 3) := dk_184 0 68 (dk_at dksX6_advances_6 8 rfl rfl)
theorem dX6_advances_152 : decode cX6_advances 152 = .ok (.ifCond .eq 7, 3) := dk_153 0 7 (dk_at dksX6_advances_6 11 rfl rfl)
theorem dX6_advances_155 : decode cX6_advances 155 = .ok (.iconst 1, 1) := dk_4 (dk_at dksX6_advances_6 14 rfl rfl)
theorem dX6_advances_156 : decode cX6_advances 156 = .ok (.goto 24, 3) := dk_167 0 24 (dk_at dksX6_advances_6 15 rfl rfl)
theorem dX6_advances_159 : decode cX6_advances 159 = .ok (.iload_n 1, 1) := dk_27 (dk_at dksX6_advances_6 18 rfl rfl)
theorem dX6_advances_160 : decode cX6_advances 160 = .ok (.bipush 44, 2) := dk_16 44 (dk_at dksX6_advances_6 19 rfl rfl)
theorem dX6_advances_162 : decode cX6_advances 162 = .ok (.if_icmp .ne 7, 3) := dk_160 0 7 (dk_at dksX6_advances_6 21 rfl rfl)
theorem dX6_advances_165 : decode cX6_advances 165 = .ok (.iconst 3, 1) := dk_6 (dk_at dksX6_advances_7 0 rfl rfl)
theorem dX6_advances_166 : decode cX6_advances 166 = .ok (.goto 14, 3) := dk_167 0 14 (dk_at dksX6_advances_7 1 rfl rfl)
theorem dX6_advances_169 : decode cX6_advances 169 = .ok (.iload_n 1, 1) := dk_27 (dk_at dksX6_advances_7 4 rfl rfl)
theorem dX6_advances_170 : decode cX6_advances 170 = .ok (.bipush 59, 2) := dk_16 59 (dk_at dksX6_advances_7 5 rfl rfl)
theorem dX6_advances_172 : decode cX6_advances 172 = .ok (.if_icmp .ne 7, 3) := dk_160 0 7 (dk_at dksX6_advances_7 7 rfl rfl)
theorem dX6_advances_175 : decode cX6_advances 175 = .ok (.iconst 4, 1) := dk_7 (dk_at dksX6_advances_7 10 rfl rfl)
theorem dX6_advances_176 : decode cX6_advances 176 = .ok (.goto 4, 3) := dk_167 0 4 (dk_at dksX6_advances_7 11 rfl rfl)
theorem dX6_advances_179 : decode cX6_advances 179 = .ok (.iconst 5, 1) := dk_8 (dk_at dksX6_advances_7 14 rfl rfl)
theorem dX6_advances_180 : decode cX6_advances 180 = .ok (.putfield 110, 3) := dk_181 0 110 (dk_at dksX6_advances_7 15 rfl rfl)
theorem dX6_advances_183 : decode cX6_advances 183 = .ok (.aload_n 0, 1) := dk_42 (dk_at dksX6_advances_7 18 rfl rfl)
theorem dX6_advances_184 : decode cX6_advances 184 = .ok (.dup, 1) := dk_89 (dk_at dksX6_advances_7 19 rfl rfl)
theorem dX6_advances_185 : decode cX6_advances 185 = .ok (.getfield 98, 3) := dk_180 0 98 (dk_at dksX6_advances_7 20 rfl rfl)
theorem dX6_advances_188 : decode cX6_advances 188 = .ok (.aload_n 0, 1) := dk_42 (dk_at dksX6_advances_7 23 rfl rfl)
theorem dX6_advances_189 : decode cX6_advances 189 = .ok (.getfield 110, 3) := dk_180 0 110 (dk_at dksX6_advances_8 0 rfl rfl)
theorem dX6_advances_192 : decode cX6_advances 192 = .ok (.ifCond .ne 7, 3) := dk_154 0 7 (dk_at dksX6_advances_8 3 rfl rfl)
theorem dX6_advances_195 : decode cX6_advances 195 = .ok (.iconst 0, 1) := dk_3 (dk_at dksX6_advances_8 6 rfl rfl)
theorem dX6_advances_196 : decode cX6_advances 196 = .ok (.goto 4, 3) := dk_167 0 4 (dk_at dksX6_advances_8 7 rfl rfl)
theorem dX6_advances_199 : decode cX6_advances 199 = .ok (.iconst 1, 1) := dk_4 (dk_at dksX6_advances_8 10 rfl rfl)
theorem dX6_advances_200 : decode cX6_advances 200 = .ok (.iadd, 1) := dk_96 (dk_at dksX6_advances_8 11 rfl rfl)
theorem dX6_advances_201 : decode cX6_advances 201 = .ok (.putfield 98, 3) := dk_181 0 98 (dk_at dksX6_advances_8 12 rfl rfl)
theorem dX6_advances_204 : decode cX6_advances 204 = .ok (.return_, 1) := dk_177 (dk_at dksX6_advances_8 15 rfl rfl)
abbrev cX6_byteAt : ByteArray := prog_21_method_18_code
def yX6_byteAt : MethodName := ⟨RX6, "byteAt", "(I)I"⟩
def dkwX6_byteAt_0 : List UInt8 := [27, 42, 180, 0, 94, 162, 0, 12, 42, 180, 0, 22, 27, 46, 167, 0, 4, 2, 172]
abbrev dktX6_byteAt_0 : List UInt8 := dkwX6_byteAt_0 ++ []
theorem dksX6_byteAt_0 : cX6_byteAt.data.toList.drop 0 = dktX6_byteAt_0 := by decide +kernel
theorem dX6_byteAt_0 : decode cX6_byteAt 0 = .ok (.iload_n 1, 1) := dk_27 (dk_at dksX6_byteAt_0 0 rfl rfl)
theorem dX6_byteAt_1 : decode cX6_byteAt 1 = .ok (.aload_n 0, 1) := dk_42 (dk_at dksX6_byteAt_0 1 rfl rfl)
theorem dX6_byteAt_2 : decode cX6_byteAt 2 = .ok (.getfield 94, 3) := dk_180 0 94 (dk_at dksX6_byteAt_0 2 rfl rfl)
theorem dX6_byteAt_5 : decode cX6_byteAt 5 = .ok (.if_icmp .ge 12, 3) := dk_162 0 12 (dk_at dksX6_byteAt_0 5 rfl rfl)
theorem dX6_byteAt_8 : decode cX6_byteAt 8 = .ok (.aload_n 0, 1) := dk_42 (dk_at dksX6_byteAt_0 8 rfl rfl)
theorem dX6_byteAt_9 : decode cX6_byteAt 9 = .ok (.getfield 22, 3) := dk_180 0 22 (dk_at dksX6_byteAt_0 9 rfl rfl)
theorem dX6_byteAt_12 : decode cX6_byteAt 12 = .ok (.iload_n 1, 1) := dk_27 (dk_at dksX6_byteAt_0 12 rfl rfl)
theorem dX6_byteAt_13 : decode cX6_byteAt 13 = .ok (.iaload, 1) := dk_46 (dk_at dksX6_byteAt_0 13 rfl rfl)
theorem dX6_byteAt_14 : decode cX6_byteAt 14 = .ok (.goto 4, 3) := dk_167 0 4 (dk_at dksX6_byteAt_0 14 rfl rfl)
theorem dX6_byteAt_17 : decode cX6_byteAt 17 = .ok (.iconst (-1), 1) := dk_2 (dk_at dksX6_byteAt_0 17 rfl rfl)
theorem dX6_byteAt_18 : decode cX6_byteAt 18 = .ok (.ireturn, 1) := dk_172 (dk_at dksX6_byteAt_0 18 rfl rfl)
abbrev cX6_takes : ByteArray := prog_21_method_21_code
def yX6_takes : MethodName := ⟨RX6, "takes", "(ZI)I"⟩
def dkwX6_takes_1 : List UInt8 := [181, 0, 120, 3, 172, 42, 180, 0, 107, 62, 42, 182, 0, 123, 29, 172]
abbrev dktX6_takes_1 : List UInt8 := dkwX6_takes_1 ++ []
def dkwX6_takes_0 : List UInt8 := [42, 182, 0, 116, 154, 0, 5, 3, 172, 27, 154, 0, 18, 42, 42, 180, 0, 101, 181, 0, 113, 42, 28]
abbrev dktX6_takes_0 : List UInt8 := dkwX6_takes_0 ++ dktX6_takes_1
theorem dksX6_takes_0 : cX6_takes.data.toList.drop 0 = dktX6_takes_0 := by decide +kernel
theorem dksX6_takes_1 : cX6_takes.data.toList.drop 23 = dktX6_takes_1 := dk_seg dksX6_takes_0 23 rfl rfl
theorem dX6_takes_0 : decode cX6_takes 0 = .ok (.aload_n 0, 1) := dk_42 (dk_at dksX6_takes_0 0 rfl rfl)
theorem dX6_takes_1 : decode cX6_takes 1 = .ok (.invokevirtual 116, 3) := dk_182 0 116 (dk_at dksX6_takes_0 1 rfl rfl)
theorem dX6_takes_4 : decode cX6_takes 4 = .ok (.ifCond .ne 5, 3) := dk_154 0 5 (dk_at dksX6_takes_0 4 rfl rfl)
theorem dX6_takes_7 : decode cX6_takes 7 = .ok (.iconst 0, 1) := dk_3 (dk_at dksX6_takes_0 7 rfl rfl)
theorem dX6_takes_8 : decode cX6_takes 8 = .ok (.ireturn, 1) := dk_172 (dk_at dksX6_takes_0 8 rfl rfl)
theorem dX6_takes_9 : decode cX6_takes 9 = .ok (.iload_n 1, 1) := dk_27 (dk_at dksX6_takes_0 9 rfl rfl)
theorem dX6_takes_10 : decode cX6_takes 10 = .ok (.ifCond .ne 18, 3) := dk_154 0 18 (dk_at dksX6_takes_0 10 rfl rfl)
theorem dX6_takes_13 : decode cX6_takes 13 = .ok (.aload_n 0, 1) := dk_42 (dk_at dksX6_takes_0 13 rfl rfl)
theorem dX6_takes_14 : decode cX6_takes 14 = .ok (.aload_n 0, 1) := dk_42 (dk_at dksX6_takes_0 14 rfl rfl)
theorem dX6_takes_15 : decode cX6_takes 15 = .ok (.getfield 101, 3) := dk_180 0 101 (dk_at dksX6_takes_0 15 rfl rfl)
theorem dX6_takes_18 : decode cX6_takes 18 = .ok (.putfield 113, 3) := dk_181 0 113 (dk_at dksX6_takes_0 18 rfl rfl)
theorem dX6_takes_21 : decode cX6_takes 21 = .ok (.aload_n 0, 1) := dk_42 (dk_at dksX6_takes_0 21 rfl rfl)
theorem dX6_takes_22 : decode cX6_takes 22 = .ok (.iload_n 2, 1) := dk_28 (dk_at dksX6_takes_0 22 rfl rfl)
theorem dX6_takes_23 : decode cX6_takes 23 = .ok (.putfield 120, 3) := dk_181 0 120 (dk_at dksX6_takes_1 0 rfl rfl)
theorem dX6_takes_26 : decode cX6_takes 26 = .ok (.iconst 0, 1) := dk_3 (dk_at dksX6_takes_1 3 rfl rfl)
theorem dX6_takes_27 : decode cX6_takes 27 = .ok (.ireturn, 1) := dk_172 (dk_at dksX6_takes_1 4 rfl rfl)
theorem dX6_takes_28 : decode cX6_takes 28 = .ok (.aload_n 0, 1) := dk_42 (dk_at dksX6_takes_1 5 rfl rfl)
theorem dX6_takes_29 : decode cX6_takes 29 = .ok (.getfield 107, 3) := dk_180 0 107 (dk_at dksX6_takes_1 6 rfl rfl)
theorem dX6_takes_32 : decode cX6_takes 32 = .ok (.istore_n 3, 1) := dk_62 (dk_at dksX6_takes_1 9 rfl rfl)
theorem dX6_takes_33 : decode cX6_takes 33 = .ok (.aload_n 0, 1) := dk_42 (dk_at dksX6_takes_1 10 rfl rfl)
theorem dX6_takes_34 : decode cX6_takes 34 = .ok (.invokevirtual 123, 3) := dk_182 0 123 (dk_at dksX6_takes_1 11 rfl rfl)
theorem dX6_takes_37 : decode cX6_takes 37 = .ok (.iload_n 3, 1) := dk_29 (dk_at dksX6_takes_1 14 rfl rfl)
theorem dX6_takes_38 : decode cX6_takes 38 = .ok (.ireturn, 1) := dk_172 (dk_at dksX6_takes_1 15 rfl rfl)
abbrev cX6_isWell : ByteArray := prog_21_method_20_code
def yX6_isWell : MethodName := ⟨RX6, "isWell", "()Z"⟩
def dkwX6_isWell_0 : List UInt8 := [42, 180, 0, 113, 156, 0, 7, 4, 167, 0, 4, 3, 172]
abbrev dktX6_isWell_0 : List UInt8 := dkwX6_isWell_0 ++ []
theorem dksX6_isWell_0 : cX6_isWell.data.toList.drop 0 = dktX6_isWell_0 := by decide +kernel
theorem dX6_isWell_0 : decode cX6_isWell 0 = .ok (.aload_n 0, 1) := dk_42 (dk_at dksX6_isWell_0 0 rfl rfl)
theorem dX6_isWell_1 : decode cX6_isWell 1 = .ok (.getfield 113, 3) := dk_180 0 113 (dk_at dksX6_isWell_0 1 rfl rfl)
theorem dX6_isWell_4 : decode cX6_isWell 4 = .ok (.ifCond .ge 7, 3) := dk_156 0 7 (dk_at dksX6_isWell_0 4 rfl rfl)
theorem dX6_isWell_7 : decode cX6_isWell 7 = .ok (.iconst 1, 1) := dk_4 (dk_at dksX6_isWell_0 7 rfl rfl)
theorem dX6_isWell_8 : decode cX6_isWell 8 = .ok (.goto 4, 3) := dk_167 0 4 (dk_at dksX6_isWell_0 8 rfl rfl)
theorem dX6_isWell_11 : decode cX6_isWell 11 = .ok (.iconst 0, 1) := dk_3 (dk_at dksX6_isWell_0 11 rfl rfl)
theorem dX6_isWell_12 : decode cX6_isWell 12 = .ok (.ireturn, 1) := dk_172 (dk_at dksX6_isWell_0 12 rfl rfl)
abbrev cX6_figure : ByteArray := prog_21_method_22_code
def yX6_figure : MethodName := ⟨RX6, "figure", "(II)I"⟩
def dkwX6_figure_1 : List UInt8 := [180, 0, 107, 27, 28, 184, 0, 68, 5, 182, 0, 126, 172]
abbrev dktX6_figure_1 : List UInt8 := dkwX6_figure_1 ++ []
def dkwX6_figure_0 : List UInt8 := [42, 182, 0, 116, 153, 0, 18, 42, 180, 0, 110, 5, 159, 0, 10, 42, 3, 4, 182, 0, 126, 172, 42, 42]
abbrev dktX6_figure_0 : List UInt8 := dkwX6_figure_0 ++ dktX6_figure_1
theorem dksX6_figure_0 : cX6_figure.data.toList.drop 0 = dktX6_figure_0 := by decide +kernel
theorem dksX6_figure_1 : cX6_figure.data.toList.drop 24 = dktX6_figure_1 := dk_seg dksX6_figure_0 24 rfl rfl
theorem dX6_figure_0 : decode cX6_figure 0 = .ok (.aload_n 0, 1) := dk_42 (dk_at dksX6_figure_0 0 rfl rfl)
theorem dX6_figure_1 : decode cX6_figure 1 = .ok (.invokevirtual 116, 3) := dk_182 0 116 (dk_at dksX6_figure_0 1 rfl rfl)
theorem dX6_figure_4 : decode cX6_figure 4 = .ok (.ifCond .eq 18, 3) := dk_153 0 18 (dk_at dksX6_figure_0 4 rfl rfl)
theorem dX6_figure_7 : decode cX6_figure 7 = .ok (.aload_n 0, 1) := dk_42 (dk_at dksX6_figure_0 7 rfl rfl)
theorem dX6_figure_8 : decode cX6_figure 8 = .ok (.getfield 110, 3) := dk_180 0 110 (dk_at dksX6_figure_0 8 rfl rfl)
theorem dX6_figure_11 : decode cX6_figure 11 = .ok (.iconst 2, 1) := dk_5 (dk_at dksX6_figure_0 11 rfl rfl)
theorem dX6_figure_12 : decode cX6_figure 12 = .ok (.if_icmp .eq 10, 3) := dk_159 0 10 (dk_at dksX6_figure_0 12 rfl rfl)
theorem dX6_figure_15 : decode cX6_figure 15 = .ok (.aload_n 0, 1) := dk_42 (dk_at dksX6_figure_0 15 rfl rfl)
theorem dX6_figure_16 : decode cX6_figure 16 = .ok (.iconst 0, 1) := dk_3 (dk_at dksX6_figure_0 16 rfl rfl)
theorem dX6_figure_17 : decode cX6_figure 17 = .ok (.iconst 1, 1) := dk_4 (dk_at dksX6_figure_0 17 rfl rfl)
theorem dX6_figure_18 : decode cX6_figure 18 = .ok (.invokevirtual 126, 3) := dk_182 0 126 (dk_at dksX6_figure_0 18 rfl rfl)
theorem dX6_figure_21 : decode cX6_figure 21 = .ok (.ireturn, 1) := dk_172 (dk_at dksX6_figure_0 21 rfl rfl)
theorem dX6_figure_22 : decode cX6_figure 22 = .ok (.aload_n 0, 1) := dk_42 (dk_at dksX6_figure_0 22 rfl rfl)
theorem dX6_figure_23 : decode cX6_figure 23 = .ok (.aload_n 0, 1) := dk_42 (dk_at dksX6_figure_0 23 rfl rfl)
theorem dX6_figure_24 : decode cX6_figure 24 = .ok (.getfield 107, 3) := dk_180 0 107 (dk_at dksX6_figure_1 0 rfl rfl)
theorem dX6_figure_27 : decode cX6_figure 27 = .ok (.iload_n 1, 1) := dk_27 (dk_at dksX6_figure_1 3 rfl rfl)
theorem dX6_figure_28 : decode cX6_figure 28 = .ok (.iload_n 2, 1) := dk_28 (dk_at dksX6_figure_1 4 rfl rfl)
theorem dX6_figure_29 : decode cX6_figure 29 = .ok (.invokestatic 68, 3) := dk_184 0 68 (dk_at dksX6_figure_1 5 rfl rfl)
theorem dX6_figure_32 : decode cX6_figure 32 = .ok (.iconst 2, 1) := dk_5 (dk_at dksX6_figure_1 8 rfl rfl)
theorem dX6_figure_33 : decode cX6_figure 33 = .ok (.invokevirtual 126, 3) := dk_182 0 126 (dk_at dksX6_figure_1 9 rfl rfl)
theorem dX6_figure_36 : decode cX6_figure 36 = .ok (.ireturn, 1) := dk_172 (dk_at dksX6_figure_1 12 rfl rfl)
abbrev cX6_behind : ByteArray := prog_21_method_24_code
def yX6_behind : MethodName := ⟨RX6, "behind", "(II)I"⟩
def dkwX6_behind_1 : List UInt8 := [182, 0, 130, 172]
abbrev dktX6_behind_1 : List UInt8 := dkwX6_behind_1 ++ []
def dkwX6_behind_0 : List UInt8 := [42, 42, 180, 0, 110, 6, 160, 0, 7, 4, 167, 0, 4, 3, 4, 182, 0, 126, 87, 42, 27, 28]
abbrev dktX6_behind_0 : List UInt8 := dkwX6_behind_0 ++ dktX6_behind_1
theorem dksX6_behind_0 : cX6_behind.data.toList.drop 0 = dktX6_behind_0 := by decide +kernel
theorem dksX6_behind_1 : cX6_behind.data.toList.drop 22 = dktX6_behind_1 := dk_seg dksX6_behind_0 22 rfl rfl
theorem dX6_behind_0 : decode cX6_behind 0 = .ok (.aload_n 0, 1) := dk_42 (dk_at dksX6_behind_0 0 rfl rfl)
theorem dX6_behind_1 : decode cX6_behind 1 = .ok (.aload_n 0, 1) := dk_42 (dk_at dksX6_behind_0 1 rfl rfl)
theorem dX6_behind_2 : decode cX6_behind 2 = .ok (.getfield 110, 3) := dk_180 0 110 (dk_at dksX6_behind_0 2 rfl rfl)
theorem dX6_behind_5 : decode cX6_behind 5 = .ok (.iconst 3, 1) := dk_6 (dk_at dksX6_behind_0 5 rfl rfl)
theorem dX6_behind_6 : decode cX6_behind 6 = .ok (.if_icmp .ne 7, 3) := dk_160 0 7 (dk_at dksX6_behind_0 6 rfl rfl)
theorem dX6_behind_9 : decode cX6_behind 9 = .ok (.iconst 1, 1) := dk_4 (dk_at dksX6_behind_0 9 rfl rfl)
theorem dX6_behind_10 : decode cX6_behind 10 = .ok (.goto 4, 3) := dk_167 0 4 (dk_at dksX6_behind_0 10 rfl rfl)
theorem dX6_behind_13 : decode cX6_behind 13 = .ok (.iconst 0, 1) := dk_3 (dk_at dksX6_behind_0 13 rfl rfl)
theorem dX6_behind_14 : decode cX6_behind 14 = .ok (.iconst 1, 1) := dk_4 (dk_at dksX6_behind_0 14 rfl rfl)
theorem dX6_behind_15 : decode cX6_behind 15 = .ok (.invokevirtual 126, 3) := dk_182 0 126 (dk_at dksX6_behind_0 15 rfl rfl)
theorem dX6_behind_18 : decode cX6_behind 18 = .ok (.pop, 1) := dk_87 (dk_at dksX6_behind_0 18 rfl rfl)
theorem dX6_behind_19 : decode cX6_behind 19 = .ok (.aload_n 0, 1) := dk_42 (dk_at dksX6_behind_0 19 rfl rfl)
theorem dX6_behind_20 : decode cX6_behind 20 = .ok (.iload_n 1, 1) := dk_27 (dk_at dksX6_behind_0 20 rfl rfl)
theorem dX6_behind_21 : decode cX6_behind 21 = .ok (.iload_n 2, 1) := dk_28 (dk_at dksX6_behind_0 21 rfl rfl)
theorem dX6_behind_22 : decode cX6_behind 22 = .ok (.invokevirtual 130, 3) := dk_182 0 130 (dk_at dksX6_behind_1 0 rfl rfl)
theorem dX6_behind_25 : decode cX6_behind 25 = .ok (.ireturn, 1) := dk_172 (dk_at dksX6_behind_1 3 rfl rfl)
abbrev cX6_kindOf : ByteArray := prog_21_method_23_code
def yX6_kindOf : MethodName := ⟨RX6, "kindOf", "(I)I"⟩
def dkwX6_kindOf_2 : List UInt8 := [167, 0, 4, 3, 172]
abbrev dktX6_kindOf_2 : List UInt8 := dkwX6_kindOf_2 ++ []
def dkwX6_kindOf_1 : List UInt8 := [160, 0, 7, 6, 167, 0, 24, 26, 16, 100, 160, 0, 7, 7, 167, 0, 14, 26, 16, 115, 160, 0, 7, 8]
abbrev dktX6_kindOf_1 : List UInt8 := dkwX6_kindOf_1 ++ dktX6_kindOf_2
def dkwX6_kindOf_0 : List UInt8 := [26, 16, 111, 160, 0, 7, 4, 167, 0, 44, 26, 16, 108, 160, 0, 7, 5, 167, 0, 34, 26, 16, 104]
abbrev dktX6_kindOf_0 : List UInt8 := dkwX6_kindOf_0 ++ dktX6_kindOf_1
theorem dksX6_kindOf_0 : cX6_kindOf.data.toList.drop 0 = dktX6_kindOf_0 := by decide +kernel
theorem dksX6_kindOf_1 : cX6_kindOf.data.toList.drop 23 = dktX6_kindOf_1 := dk_seg dksX6_kindOf_0 23 rfl rfl
theorem dksX6_kindOf_2 : cX6_kindOf.data.toList.drop 47 = dktX6_kindOf_2 := dk_seg dksX6_kindOf_1 24 rfl rfl
theorem dX6_kindOf_0 : decode cX6_kindOf 0 = .ok (.iload_n 0, 1) := dk_26 (dk_at dksX6_kindOf_0 0 rfl rfl)
theorem dX6_kindOf_1 : decode cX6_kindOf 1 = .ok (.bipush 111, 2) := dk_16 111 (dk_at dksX6_kindOf_0 1 rfl rfl)
theorem dX6_kindOf_3 : decode cX6_kindOf 3 = .ok (.if_icmp .ne 7, 3) := dk_160 0 7 (dk_at dksX6_kindOf_0 3 rfl rfl)
theorem dX6_kindOf_6 : decode cX6_kindOf 6 = .ok (.iconst 1, 1) := dk_4 (dk_at dksX6_kindOf_0 6 rfl rfl)
theorem dX6_kindOf_7 : decode cX6_kindOf 7 = .ok (.goto 44, 3) := dk_167 0 44 (dk_at dksX6_kindOf_0 7 rfl rfl)
theorem dX6_kindOf_10 : decode cX6_kindOf 10 = .ok (.iload_n 0, 1) := dk_26 (dk_at dksX6_kindOf_0 10 rfl rfl)
theorem dX6_kindOf_11 : decode cX6_kindOf 11 = .ok (.bipush 108, 2) := dk_16 108 (dk_at dksX6_kindOf_0 11 rfl rfl)
theorem dX6_kindOf_13 : decode cX6_kindOf 13 = .ok (.if_icmp .ne 7, 3) := dk_160 0 7 (dk_at dksX6_kindOf_0 13 rfl rfl)
theorem dX6_kindOf_16 : decode cX6_kindOf 16 = .ok (.iconst 2, 1) := dk_5 (dk_at dksX6_kindOf_0 16 rfl rfl)
theorem dX6_kindOf_17 : decode cX6_kindOf 17 = .ok (.goto 34, 3) := dk_167 0 34 (dk_at dksX6_kindOf_0 17 rfl rfl)
theorem dX6_kindOf_20 : decode cX6_kindOf 20 = .ok (.iload_n 0, 1) := dk_26 (dk_at dksX6_kindOf_0 20 rfl rfl)
theorem dX6_kindOf_21 : decode cX6_kindOf 21 = .ok (.bipush 104, 2) := dk_16 104 (dk_at dksX6_kindOf_0 21 rfl rfl)
theorem dX6_kindOf_23 : decode cX6_kindOf 23 = .ok (.if_icmp .ne 7, 3) := dk_160 0 7 (dk_at dksX6_kindOf_1 0 rfl rfl)
theorem dX6_kindOf_26 : decode cX6_kindOf 26 = .ok (.iconst 3, 1) := dk_6 (dk_at dksX6_kindOf_1 3 rfl rfl)
theorem dX6_kindOf_27 : decode cX6_kindOf 27 = .ok (.goto 24, 3) := dk_167 0 24 (dk_at dksX6_kindOf_1 4 rfl rfl)
theorem dX6_kindOf_30 : decode cX6_kindOf 30 = .ok (.iload_n 0, 1) := dk_26 (dk_at dksX6_kindOf_1 7 rfl rfl)
theorem dX6_kindOf_31 : decode cX6_kindOf 31 = .ok (.bipush 100, 2) := dk_16 100 (dk_at dksX6_kindOf_1 8 rfl rfl)
theorem dX6_kindOf_33 : decode cX6_kindOf 33 = .ok (.if_icmp .ne 7, 3) := dk_160 0 7 (dk_at dksX6_kindOf_1 10 rfl rfl)
theorem dX6_kindOf_36 : decode cX6_kindOf 36 = .ok (.iconst 4, 1) := dk_7 (dk_at dksX6_kindOf_1 13 rfl rfl)
theorem dX6_kindOf_37 : decode cX6_kindOf 37 = .ok (.goto 14, 3) := dk_167 0 14 (dk_at dksX6_kindOf_1 14 rfl rfl)
theorem dX6_kindOf_40 : decode cX6_kindOf 40 = .ok (.iload_n 0, 1) := dk_26 (dk_at dksX6_kindOf_1 17 rfl rfl)
theorem dX6_kindOf_41 : decode cX6_kindOf 41 = .ok (.bipush 115, 2) := dk_16 115 (dk_at dksX6_kindOf_1 18 rfl rfl)
theorem dX6_kindOf_43 : decode cX6_kindOf 43 = .ok (.if_icmp .ne 7, 3) := dk_160 0 7 (dk_at dksX6_kindOf_1 20 rfl rfl)
theorem dX6_kindOf_46 : decode cX6_kindOf 46 = .ok (.iconst 5, 1) := dk_8 (dk_at dksX6_kindOf_1 23 rfl rfl)
theorem dX6_kindOf_47 : decode cX6_kindOf 47 = .ok (.goto 4, 3) := dk_167 0 4 (dk_at dksX6_kindOf_2 0 rfl rfl)
theorem dX6_kindOf_50 : decode cX6_kindOf 50 = .ok (.iconst 0, 1) := dk_3 (dk_at dksX6_kindOf_2 3 rfl rfl)
theorem dX6_kindOf_51 : decode cX6_kindOf 51 = .ok (.ireturn, 1) := dk_172 (dk_at dksX6_kindOf_2 4 rfl rfl)
abbrev cX6_readsPerson : ByteArray := prog_21_method_27_code
def yX6_readsPerson : MethodName := ⟨RX6, "readsPerson", "()V"⟩
def dkwX6_readsPerson_3 : List UInt8 := [27, 79, 42, 180, 0, 28, 28, 4, 96, 2, 79, 42, 180, 0, 28, 3, 92, 46, 4, 96, 79, 177]
abbrev dktX6_readsPerson_3 : List UInt8 := dkwX6_readsPerson_3 ++ []
def dkwX6_readsPerson_2 : List UInt8 := [87, 42, 182, 0, 116, 153, 0, 40, 7, 5, 42, 180, 0, 28, 3, 46, 104, 96, 61, 42, 180, 0, 28, 28]
abbrev dktX6_readsPerson_2 : List UInt8 := dkwX6_readsPerson_2 ++ dktX6_readsPerson_3
def dkwX6_readsPerson_1 : List UInt8 := [3, 6, 182, 0, 126, 87, 42, 42, 180, 0, 110, 7, 160, 0, 7, 4, 167, 0, 4, 3, 4, 182, 0, 126]
abbrev dktX6_readsPerson_1 : List UInt8 := dkwX6_readsPerson_1 ++ dktX6_readsPerson_2
def dkwX6_readsPerson_0 : List UInt8 := [42, 180, 0, 107, 184, 0, 133, 60, 42, 42, 180, 0, 28, 3, 46, 16, 9, 162, 0, 7, 4, 167, 0, 4]
abbrev dktX6_readsPerson_0 : List UInt8 := dkwX6_readsPerson_0 ++ dktX6_readsPerson_1
theorem dksX6_readsPerson_0 : cX6_readsPerson.data.toList.drop 0 = dktX6_readsPerson_0 := by decide +kernel
theorem dksX6_readsPerson_1 : cX6_readsPerson.data.toList.drop 24 = dktX6_readsPerson_1 := dk_seg dksX6_readsPerson_0 24 rfl rfl
theorem dksX6_readsPerson_2 : cX6_readsPerson.data.toList.drop 48 = dktX6_readsPerson_2 := dk_seg dksX6_readsPerson_1 24 rfl rfl
theorem dksX6_readsPerson_3 : cX6_readsPerson.data.toList.drop 72 = dktX6_readsPerson_3 := dk_seg dksX6_readsPerson_2 24 rfl rfl
theorem dX6_readsPerson_0 : decode cX6_readsPerson 0 = .ok (.aload_n 0, 1) := dk_42 (dk_at dksX6_readsPerson_0 0 rfl rfl)
theorem dX6_readsPerson_1 : decode cX6_readsPerson 1 = .ok (.getfield 107, 3) := dk_180 0 107 (dk_at dksX6_readsPerson_0 1 rfl rfl)
theorem dX6_readsPerson_4 : decode cX6_readsPerson 4 = .ok (.invokestatic 133, 3) := dk_184 0 133 (dk_at dksX6_readsPerson_0 4 rfl rfl)
theorem dX6_readsPerson_7 : decode cX6_readsPerson 7 = .ok (.istore_n 1, 1) := dk_60 (dk_at dksX6_readsPerson_0 7 rfl rfl)
theorem dX6_readsPerson_8 : decode cX6_readsPerson 8 = .ok (.aload_n 0, 1) := dk_42 (dk_at dksX6_readsPerson_0 8 rfl rfl)
theorem dX6_readsPerson_9 : decode cX6_readsPerson 9 = .ok (.aload_n 0, 1) := dk_42 (dk_at dksX6_readsPerson_0 9 rfl rfl)
theorem dX6_readsPerson_10 : decode cX6_readsPerson 10 = .ok (.getfield 28, 3) := dk_180 0 28 (dk_at dksX6_readsPerson_0 10 rfl rfl)
theorem dX6_readsPerson_13 : decode cX6_readsPerson 13 = .ok (.iconst 0, 1) := dk_3 (dk_at dksX6_readsPerson_0 13 rfl rfl)
theorem dX6_readsPerson_14 : decode cX6_readsPerson 14 = .ok (.iaload, 1) := dk_46 (dk_at dksX6_readsPerson_0 14 rfl rfl)
theorem dX6_readsPerson_15 : decode cX6_readsPerson 15 = .ok (.bipush 9, 2) := dk_16 9 (dk_at dksX6_readsPerson_0 15 rfl rfl)
theorem dX6_readsPerson_17 : decode cX6_readsPerson 17 = .ok (.if_icmp .ge 7, 3) := dk_162 0 7 (dk_at dksX6_readsPerson_0 17 rfl rfl)
theorem dX6_readsPerson_20 : decode cX6_readsPerson 20 = .ok (.iconst 1, 1) := dk_4 (dk_at dksX6_readsPerson_0 20 rfl rfl)
theorem dX6_readsPerson_21 : decode cX6_readsPerson 21 = .ok (.goto 4, 3) := dk_167 0 4 (dk_at dksX6_readsPerson_0 21 rfl rfl)
theorem dX6_readsPerson_24 : decode cX6_readsPerson 24 = .ok (.iconst 0, 1) := dk_3 (dk_at dksX6_readsPerson_1 0 rfl rfl)
theorem dX6_readsPerson_25 : decode cX6_readsPerson 25 = .ok (.iconst 3, 1) := dk_6 (dk_at dksX6_readsPerson_1 1 rfl rfl)
theorem dX6_readsPerson_26 : decode cX6_readsPerson 26 = .ok (.invokevirtual 126, 3) := dk_182 0 126 (dk_at dksX6_readsPerson_1 2 rfl rfl)
theorem dX6_readsPerson_29 : decode cX6_readsPerson 29 = .ok (.pop, 1) := dk_87 (dk_at dksX6_readsPerson_1 5 rfl rfl)
theorem dX6_readsPerson_30 : decode cX6_readsPerson 30 = .ok (.aload_n 0, 1) := dk_42 (dk_at dksX6_readsPerson_1 6 rfl rfl)
theorem dX6_readsPerson_31 : decode cX6_readsPerson 31 = .ok (.aload_n 0, 1) := dk_42 (dk_at dksX6_readsPerson_1 7 rfl rfl)
theorem dX6_readsPerson_32 : decode cX6_readsPerson 32 = .ok (.getfield 110, 3) := dk_180 0 110 (dk_at dksX6_readsPerson_1 8 rfl rfl)
theorem dX6_readsPerson_35 : decode cX6_readsPerson 35 = .ok (.iconst 4, 1) := dk_7 (dk_at dksX6_readsPerson_1 11 rfl rfl)
theorem dX6_readsPerson_36 : decode cX6_readsPerson 36 = .ok (.if_icmp .ne 7, 3) := dk_160 0 7 (dk_at dksX6_readsPerson_1 12 rfl rfl)
theorem dX6_readsPerson_39 : decode cX6_readsPerson 39 = .ok (.iconst 1, 1) := dk_4 (dk_at dksX6_readsPerson_1 15 rfl rfl)
theorem dX6_readsPerson_40 : decode cX6_readsPerson 40 = .ok (.goto 4, 3) := dk_167 0 4 (dk_at dksX6_readsPerson_1 16 rfl rfl)
theorem dX6_readsPerson_43 : decode cX6_readsPerson 43 = .ok (.iconst 0, 1) := dk_3 (dk_at dksX6_readsPerson_1 19 rfl rfl)
theorem dX6_readsPerson_44 : decode cX6_readsPerson 44 = .ok (.iconst 1, 1) := dk_4 (dk_at dksX6_readsPerson_1 20 rfl rfl)
theorem dX6_readsPerson_45 : decode cX6_readsPerson 45 = .ok (.invokevirtual 126, 3) := dk_182 0 126 (dk_at dksX6_readsPerson_1 21 rfl rfl)
theorem dX6_readsPerson_48 : decode cX6_readsPerson 48 = .ok (.pop, 1) := dk_87 (dk_at dksX6_readsPerson_2 0 rfl rfl)
theorem dX6_readsPerson_49 : decode cX6_readsPerson 49 = .ok (.aload_n 0, 1) := dk_42 (dk_at dksX6_readsPerson_2 1 rfl rfl)
theorem dX6_readsPerson_50 : decode cX6_readsPerson 50 = .ok (.invokevirtual 116, 3) := dk_182 0 116 (dk_at dksX6_readsPerson_2 2 rfl rfl)
theorem dX6_readsPerson_53 : decode cX6_readsPerson 53 = .ok (.ifCond .eq 40, 3) := dk_153 0 40 (dk_at dksX6_readsPerson_2 5 rfl rfl)
theorem dX6_readsPerson_56 : decode cX6_readsPerson 56 = .ok (.iconst 4, 1) := dk_7 (dk_at dksX6_readsPerson_2 8 rfl rfl)
theorem dX6_readsPerson_57 : decode cX6_readsPerson 57 = .ok (.iconst 2, 1) := dk_5 (dk_at dksX6_readsPerson_2 9 rfl rfl)
theorem dX6_readsPerson_58 : decode cX6_readsPerson 58 = .ok (.aload_n 0, 1) := dk_42 (dk_at dksX6_readsPerson_2 10 rfl rfl)
theorem dX6_readsPerson_59 : decode cX6_readsPerson 59 = .ok (.getfield 28, 3) := dk_180 0 28 (dk_at dksX6_readsPerson_2 11 rfl rfl)
theorem dX6_readsPerson_62 : decode cX6_readsPerson 62 = .ok (.iconst 0, 1) := dk_3 (dk_at dksX6_readsPerson_2 14 rfl rfl)
theorem dX6_readsPerson_63 : decode cX6_readsPerson 63 = .ok (.iaload, 1) := dk_46 (dk_at dksX6_readsPerson_2 15 rfl rfl)
theorem dX6_readsPerson_64 : decode cX6_readsPerson 64 = .ok (.imul, 1) := dk_104 (dk_at dksX6_readsPerson_2 16 rfl rfl)
theorem dX6_readsPerson_65 : decode cX6_readsPerson 65 = .ok (.iadd, 1) := dk_96 (dk_at dksX6_readsPerson_2 17 rfl rfl)
theorem dX6_readsPerson_66 : decode cX6_readsPerson 66 = .ok (.istore_n 2, 1) := dk_61 (dk_at dksX6_readsPerson_2 18 rfl rfl)
theorem dX6_readsPerson_67 : decode cX6_readsPerson 67 = .ok (.aload_n 0, 1) := dk_42 (dk_at dksX6_readsPerson_2 19 rfl rfl)
theorem dX6_readsPerson_68 : decode cX6_readsPerson 68 = .ok (.getfield 28, 3) := dk_180 0 28 (dk_at dksX6_readsPerson_2 20 rfl rfl)
theorem dX6_readsPerson_71 : decode cX6_readsPerson 71 = .ok (.iload_n 2, 1) := dk_28 (dk_at dksX6_readsPerson_2 23 rfl rfl)
theorem dX6_readsPerson_72 : decode cX6_readsPerson 72 = .ok (.iload_n 1, 1) := dk_27 (dk_at dksX6_readsPerson_3 0 rfl rfl)
theorem dX6_readsPerson_73 : decode cX6_readsPerson 73 = .ok (.iastore, 1) := dk_79 (dk_at dksX6_readsPerson_3 1 rfl rfl)
theorem dX6_readsPerson_74 : decode cX6_readsPerson 74 = .ok (.aload_n 0, 1) := dk_42 (dk_at dksX6_readsPerson_3 2 rfl rfl)
theorem dX6_readsPerson_75 : decode cX6_readsPerson 75 = .ok (.getfield 28, 3) := dk_180 0 28 (dk_at dksX6_readsPerson_3 3 rfl rfl)
theorem dX6_readsPerson_78 : decode cX6_readsPerson 78 = .ok (.iload_n 2, 1) := dk_28 (dk_at dksX6_readsPerson_3 6 rfl rfl)
theorem dX6_readsPerson_79 : decode cX6_readsPerson 79 = .ok (.iconst 1, 1) := dk_4 (dk_at dksX6_readsPerson_3 7 rfl rfl)
theorem dX6_readsPerson_80 : decode cX6_readsPerson 80 = .ok (.iadd, 1) := dk_96 (dk_at dksX6_readsPerson_3 8 rfl rfl)
theorem dX6_readsPerson_81 : decode cX6_readsPerson 81 = .ok (.iconst (-1), 1) := dk_2 (dk_at dksX6_readsPerson_3 9 rfl rfl)
theorem dX6_readsPerson_82 : decode cX6_readsPerson 82 = .ok (.iastore, 1) := dk_79 (dk_at dksX6_readsPerson_3 10 rfl rfl)
theorem dX6_readsPerson_83 : decode cX6_readsPerson 83 = .ok (.aload_n 0, 1) := dk_42 (dk_at dksX6_readsPerson_3 11 rfl rfl)
theorem dX6_readsPerson_84 : decode cX6_readsPerson 84 = .ok (.getfield 28, 3) := dk_180 0 28 (dk_at dksX6_readsPerson_3 12 rfl rfl)
theorem dX6_readsPerson_87 : decode cX6_readsPerson 87 = .ok (.iconst 0, 1) := dk_3 (dk_at dksX6_readsPerson_3 15 rfl rfl)
theorem dX6_readsPerson_88 : decode cX6_readsPerson 88 = .ok (.dup2, 1) := dk_92 (dk_at dksX6_readsPerson_3 16 rfl rfl)
theorem dX6_readsPerson_89 : decode cX6_readsPerson 89 = .ok (.iaload, 1) := dk_46 (dk_at dksX6_readsPerson_3 17 rfl rfl)
theorem dX6_readsPerson_90 : decode cX6_readsPerson 90 = .ok (.iconst 1, 1) := dk_4 (dk_at dksX6_readsPerson_3 18 rfl rfl)
theorem dX6_readsPerson_91 : decode cX6_readsPerson 91 = .ok (.iadd, 1) := dk_96 (dk_at dksX6_readsPerson_3 19 rfl rfl)
theorem dX6_readsPerson_92 : decode cX6_readsPerson 92 = .ok (.iastore, 1) := dk_79 (dk_at dksX6_readsPerson_3 20 rfl rfl)
theorem dX6_readsPerson_93 : decode cX6_readsPerson 93 = .ok (.return_, 1) := dk_177 (dk_at dksX6_readsPerson_3 21 rfl rfl)
abbrev cX6_must : ByteArray := prog_21_method_25_code
def yX6_must : MethodName := ⟨RX6, "must", "(ZI)V"⟩
def dkwX6_must_0 : List UInt8 := [42, 182, 0, 116, 153, 0, 14, 27, 154, 0, 10, 42, 3, 28, 182, 0, 126, 87, 177]
abbrev dktX6_must_0 : List UInt8 := dkwX6_must_0 ++ []
theorem dksX6_must_0 : cX6_must.data.toList.drop 0 = dktX6_must_0 := by decide +kernel
theorem dX6_must_0 : decode cX6_must 0 = .ok (.aload_n 0, 1) := dk_42 (dk_at dksX6_must_0 0 rfl rfl)
theorem dX6_must_1 : decode cX6_must 1 = .ok (.invokevirtual 116, 3) := dk_182 0 116 (dk_at dksX6_must_0 1 rfl rfl)
theorem dX6_must_4 : decode cX6_must 4 = .ok (.ifCond .eq 14, 3) := dk_153 0 14 (dk_at dksX6_must_0 4 rfl rfl)
theorem dX6_must_7 : decode cX6_must 7 = .ok (.iload_n 1, 1) := dk_27 (dk_at dksX6_must_0 7 rfl rfl)
theorem dX6_must_8 : decode cX6_must 8 = .ok (.ifCond .ne 10, 3) := dk_154 0 10 (dk_at dksX6_must_0 8 rfl rfl)
theorem dX6_must_11 : decode cX6_must 11 = .ok (.aload_n 0, 1) := dk_42 (dk_at dksX6_must_0 11 rfl rfl)
theorem dX6_must_12 : decode cX6_must 12 = .ok (.iconst 0, 1) := dk_3 (dk_at dksX6_must_0 12 rfl rfl)
theorem dX6_must_13 : decode cX6_must 13 = .ok (.iload_n 2, 1) := dk_28 (dk_at dksX6_must_0 13 rfl rfl)
theorem dX6_must_14 : decode cX6_must 14 = .ok (.invokevirtual 126, 3) := dk_182 0 126 (dk_at dksX6_must_0 14 rfl rfl)
theorem dX6_must_17 : decode cX6_must 17 = .ok (.pop, 1) := dk_87 (dk_at dksX6_must_0 17 rfl rfl)
theorem dX6_must_18 : decode cX6_must 18 = .ok (.return_, 1) := dk_177 (dk_at dksX6_must_0 18 rfl rfl)
abbrev cX6_isLetter : ByteArray := prog_21_method_26_code
def yX6_isLetter : MethodName := ⟨RX6, "isLetter", "(I)Z"⟩
def dkwX6_isLetter_1 : List UInt8 := [167, 0, 4, 3, 172]
abbrev dktX6_isLetter_1 : List UInt8 := dkwX6_isLetter_1 ++ []
def dkwX6_isLetter_0 : List UInt8 := [42, 182, 0, 116, 153, 0, 23, 42, 180, 0, 110, 4, 160, 0, 15, 42, 180, 0, 107, 27, 160, 0, 7, 4]
abbrev dktX6_isLetter_0 : List UInt8 := dkwX6_isLetter_0 ++ dktX6_isLetter_1
theorem dksX6_isLetter_0 : cX6_isLetter.data.toList.drop 0 = dktX6_isLetter_0 := by decide +kernel
theorem dksX6_isLetter_1 : cX6_isLetter.data.toList.drop 24 = dktX6_isLetter_1 := dk_seg dksX6_isLetter_0 24 rfl rfl
theorem dX6_isLetter_0 : decode cX6_isLetter 0 = .ok (.aload_n 0, 1) := dk_42 (dk_at dksX6_isLetter_0 0 rfl rfl)
theorem dX6_isLetter_1 : decode cX6_isLetter 1 = .ok (.invokevirtual 116, 3) := dk_182 0 116 (dk_at dksX6_isLetter_0 1 rfl rfl)
theorem dX6_isLetter_4 : decode cX6_isLetter 4 = .ok (.ifCond .eq 23, 3) := dk_153 0 23 (dk_at dksX6_isLetter_0 4 rfl rfl)
theorem dX6_isLetter_7 : decode cX6_isLetter 7 = .ok (.aload_n 0, 1) := dk_42 (dk_at dksX6_isLetter_0 7 rfl rfl)
theorem dX6_isLetter_8 : decode cX6_isLetter 8 = .ok (.getfield 110, 3) := dk_180 0 110 (dk_at dksX6_isLetter_0 8 rfl rfl)
theorem dX6_isLetter_11 : decode cX6_isLetter 11 = .ok (.iconst 1, 1) := dk_4 (dk_at dksX6_isLetter_0 11 rfl rfl)
theorem dX6_isLetter_12 : decode cX6_isLetter 12 = .ok (.if_icmp .ne 15, 3) := dk_160 0 15 (dk_at dksX6_isLetter_0 12 rfl rfl)
theorem dX6_isLetter_15 : decode cX6_isLetter 15 = .ok (.aload_n 0, 1) := dk_42 (dk_at dksX6_isLetter_0 15 rfl rfl)
theorem dX6_isLetter_16 : decode cX6_isLetter 16 = .ok (.getfield 107, 3) := dk_180 0 107 (dk_at dksX6_isLetter_0 16 rfl rfl)
theorem dX6_isLetter_19 : decode cX6_isLetter 19 = .ok (.iload_n 1, 1) := dk_27 (dk_at dksX6_isLetter_0 19 rfl rfl)
theorem dX6_isLetter_20 : decode cX6_isLetter 20 = .ok (.if_icmp .ne 7, 3) := dk_160 0 7 (dk_at dksX6_isLetter_0 20 rfl rfl)
theorem dX6_isLetter_23 : decode cX6_isLetter 23 = .ok (.iconst 1, 1) := dk_4 (dk_at dksX6_isLetter_0 23 rfl rfl)
theorem dX6_isLetter_24 : decode cX6_isLetter 24 = .ok (.goto 4, 3) := dk_167 0 4 (dk_at dksX6_isLetter_1 0 rfl rfl)
theorem dX6_isLetter_27 : decode cX6_isLetter 27 = .ok (.iconst 0, 1) := dk_3 (dk_at dksX6_isLetter_1 3 rfl rfl)
theorem dX6_isLetter_28 : decode cX6_isLetter 28 = .ok (.ireturn, 1) := dk_172 (dk_at dksX6_isLetter_1 4 rfl rfl)
abbrev cX6_readsContact : ByteArray := prog_21_method_28_code
def yX6_readsContact : MethodName := ⟨RX6, "readsContact", "()V"⟩
def dkwX6_readsContact_7 : List UInt8 := [180, 0, 28, 21, 4, 5, 96, 29, 79, 42, 180, 0, 28, 4, 92, 46, 4, 96, 79, 177]
abbrev dktX6_readsContact_7 : List UInt8 := dkwX6_readsContact_7 ++ []
def dkwX6_readsContact_6 : List UInt8 := [46, 104, 96, 54, 4, 42, 180, 0, 28, 21, 4, 27, 79, 42, 180, 0, 28, 21, 4, 4, 96, 28, 79, 42]
abbrev dktX6_readsContact_6 : List UInt8 := dkwX6_readsContact_6 ++ dktX6_readsContact_7
def dkwX6_readsContact_5 : List UInt8 := [167, 0, 4, 3, 4, 182, 0, 126, 87, 42, 182, 0, 116, 153, 0, 54, 16, 22, 6, 42, 180, 0, 28, 4]
abbrev dktX6_readsContact_5 : List UInt8 := dkwX6_readsContact_5 ++ dktX6_readsContact_6
def dkwX6_readsContact_4 : List UInt8 := [182, 0, 130, 61, 42, 3, 16, 30, 182, 0, 140, 62, 42, 42, 180, 0, 110, 7, 160, 0, 7, 4]
abbrev dktX6_readsContact_4 : List UInt8 := dkwX6_readsContact_4 ++ dktX6_readsContact_5
def dkwX6_readsContact_3 : List UInt8 := [159, 0, 7, 4, 167, 0, 4, 3, 5, 182, 0, 136, 42, 3, 42, 180, 0, 28, 3, 46, 4, 100]
abbrev dktX6_readsContact_3 : List UInt8 := dkwX6_readsContact_3 ++ dktX6_readsContact_4
def dkwX6_readsContact_2 : List UInt8 := [167, 0, 4, 3, 4, 182, 0, 126, 87, 42, 42, 180, 0, 110, 5, 160, 0, 11, 42, 180, 0, 107, 27]
abbrev dktX6_readsContact_2 : List UInt8 := dkwX6_readsContact_2 ++ dktX6_readsContact_3
def dkwX6_readsContact_1 : List UInt8 := [42, 180, 0, 28, 3, 46, 4, 100, 182, 0, 130, 60, 42, 42, 180, 0, 110, 6, 160, 0, 7, 4]
abbrev dktX6_readsContact_1 : List UInt8 := dkwX6_readsContact_1 ++ dktX6_readsContact_2
def dkwX6_readsContact_0 : List UInt8 := [42, 42, 180, 0, 28, 4, 46, 16, 10, 162, 0, 7, 4, 167, 0, 4, 3, 6, 182, 0, 126, 87, 42, 3]
abbrev dktX6_readsContact_0 : List UInt8 := dkwX6_readsContact_0 ++ dktX6_readsContact_1
theorem dksX6_readsContact_0 : cX6_readsContact.data.toList.drop 0 = dktX6_readsContact_0 := by decide +kernel
theorem dksX6_readsContact_1 : cX6_readsContact.data.toList.drop 24 = dktX6_readsContact_1 := dk_seg dksX6_readsContact_0 24 rfl rfl
theorem dksX6_readsContact_2 : cX6_readsContact.data.toList.drop 46 = dktX6_readsContact_2 := dk_seg dksX6_readsContact_1 22 rfl rfl
theorem dksX6_readsContact_3 : cX6_readsContact.data.toList.drop 69 = dktX6_readsContact_3 := dk_seg dksX6_readsContact_2 23 rfl rfl
theorem dksX6_readsContact_4 : cX6_readsContact.data.toList.drop 91 = dktX6_readsContact_4 := dk_seg dksX6_readsContact_3 22 rfl rfl
theorem dksX6_readsContact_5 : cX6_readsContact.data.toList.drop 113 = dktX6_readsContact_5 := dk_seg dksX6_readsContact_4 22 rfl rfl
theorem dksX6_readsContact_6 : cX6_readsContact.data.toList.drop 137 = dktX6_readsContact_6 := dk_seg dksX6_readsContact_5 24 rfl rfl
theorem dksX6_readsContact_7 : cX6_readsContact.data.toList.drop 161 = dktX6_readsContact_7 := dk_seg dksX6_readsContact_6 24 rfl rfl
theorem dX6_readsContact_0 : decode cX6_readsContact 0 = .ok (.aload_n 0, 1) := dk_42 (dk_at dksX6_readsContact_0 0 rfl rfl)
theorem dX6_readsContact_1 : decode cX6_readsContact 1 = .ok (.aload_n 0, 1) := dk_42 (dk_at dksX6_readsContact_0 1 rfl rfl)
theorem dX6_readsContact_2 : decode cX6_readsContact 2 = .ok (.getfield 28, 3) := dk_180 0 28 (dk_at dksX6_readsContact_0 2 rfl rfl)
theorem dX6_readsContact_5 : decode cX6_readsContact 5 = .ok (.iconst 1, 1) := dk_4 (dk_at dksX6_readsContact_0 5 rfl rfl)
theorem dX6_readsContact_6 : decode cX6_readsContact 6 = .ok (.iaload, 1) := dk_46 (dk_at dksX6_readsContact_0 6 rfl rfl)
theorem dX6_readsContact_7 : decode cX6_readsContact 7 = .ok (.bipush 10, 2) := dk_16 10 (dk_at dksX6_readsContact_0 7 rfl rfl)
theorem dX6_readsContact_9 : decode cX6_readsContact 9 = .ok (.if_icmp .ge 7, 3) := dk_162 0 7 (dk_at dksX6_readsContact_0 9 rfl rfl)
theorem dX6_readsContact_12 : decode cX6_readsContact 12 = .ok (.iconst 1, 1) := dk_4 (dk_at dksX6_readsContact_0 12 rfl rfl)
theorem dX6_readsContact_13 : decode cX6_readsContact 13 = .ok (.goto 4, 3) := dk_167 0 4 (dk_at dksX6_readsContact_0 13 rfl rfl)
theorem dX6_readsContact_16 : decode cX6_readsContact 16 = .ok (.iconst 0, 1) := dk_3 (dk_at dksX6_readsContact_0 16 rfl rfl)
theorem dX6_readsContact_17 : decode cX6_readsContact 17 = .ok (.iconst 3, 1) := dk_6 (dk_at dksX6_readsContact_0 17 rfl rfl)
theorem dX6_readsContact_18 : decode cX6_readsContact 18 = .ok (.invokevirtual 126, 3) := dk_182 0 126 (dk_at dksX6_readsContact_0 18 rfl rfl)
theorem dX6_readsContact_21 : decode cX6_readsContact 21 = .ok (.pop, 1) := dk_87 (dk_at dksX6_readsContact_0 21 rfl rfl)
theorem dX6_readsContact_22 : decode cX6_readsContact 22 = .ok (.aload_n 0, 1) := dk_42 (dk_at dksX6_readsContact_0 22 rfl rfl)
theorem dX6_readsContact_23 : decode cX6_readsContact 23 = .ok (.iconst 0, 1) := dk_3 (dk_at dksX6_readsContact_0 23 rfl rfl)
theorem dX6_readsContact_24 : decode cX6_readsContact 24 = .ok (.aload_n 0, 1) := dk_42 (dk_at dksX6_readsContact_1 0 rfl rfl)
theorem dX6_readsContact_25 : decode cX6_readsContact 25 = .ok (.getfield 28, 3) := dk_180 0 28 (dk_at dksX6_readsContact_1 1 rfl rfl)
theorem dX6_readsContact_28 : decode cX6_readsContact 28 = .ok (.iconst 0, 1) := dk_3 (dk_at dksX6_readsContact_1 4 rfl rfl)
theorem dX6_readsContact_29 : decode cX6_readsContact 29 = .ok (.iaload, 1) := dk_46 (dk_at dksX6_readsContact_1 5 rfl rfl)
theorem dX6_readsContact_30 : decode cX6_readsContact 30 = .ok (.iconst 1, 1) := dk_4 (dk_at dksX6_readsContact_1 6 rfl rfl)
theorem dX6_readsContact_31 : decode cX6_readsContact 31 = .ok (.isub, 1) := dk_100 (dk_at dksX6_readsContact_1 7 rfl rfl)
theorem dX6_readsContact_32 : decode cX6_readsContact 32 = .ok (.invokevirtual 130, 3) := dk_182 0 130 (dk_at dksX6_readsContact_1 8 rfl rfl)
theorem dX6_readsContact_35 : decode cX6_readsContact 35 = .ok (.istore_n 1, 1) := dk_60 (dk_at dksX6_readsContact_1 11 rfl rfl)
theorem dX6_readsContact_36 : decode cX6_readsContact 36 = .ok (.aload_n 0, 1) := dk_42 (dk_at dksX6_readsContact_1 12 rfl rfl)
theorem dX6_readsContact_37 : decode cX6_readsContact 37 = .ok (.aload_n 0, 1) := dk_42 (dk_at dksX6_readsContact_1 13 rfl rfl)
theorem dX6_readsContact_38 : decode cX6_readsContact 38 = .ok (.getfield 110, 3) := dk_180 0 110 (dk_at dksX6_readsContact_1 14 rfl rfl)
theorem dX6_readsContact_41 : decode cX6_readsContact 41 = .ok (.iconst 3, 1) := dk_6 (dk_at dksX6_readsContact_1 17 rfl rfl)
theorem dX6_readsContact_42 : decode cX6_readsContact 42 = .ok (.if_icmp .ne 7, 3) := dk_160 0 7 (dk_at dksX6_readsContact_1 18 rfl rfl)
theorem dX6_readsContact_45 : decode cX6_readsContact 45 = .ok (.iconst 1, 1) := dk_4 (dk_at dksX6_readsContact_1 21 rfl rfl)
theorem dX6_readsContact_46 : decode cX6_readsContact 46 = .ok (.goto 4, 3) := dk_167 0 4 (dk_at dksX6_readsContact_2 0 rfl rfl)
theorem dX6_readsContact_49 : decode cX6_readsContact 49 = .ok (.iconst 0, 1) := dk_3 (dk_at dksX6_readsContact_2 3 rfl rfl)
theorem dX6_readsContact_50 : decode cX6_readsContact 50 = .ok (.iconst 1, 1) := dk_4 (dk_at dksX6_readsContact_2 4 rfl rfl)
theorem dX6_readsContact_51 : decode cX6_readsContact 51 = .ok (.invokevirtual 126, 3) := dk_182 0 126 (dk_at dksX6_readsContact_2 5 rfl rfl)
theorem dX6_readsContact_54 : decode cX6_readsContact 54 = .ok (.pop, 1) := dk_87 (dk_at dksX6_readsContact_2 8 rfl rfl)
theorem dX6_readsContact_55 : decode cX6_readsContact 55 = .ok (.aload_n 0, 1) := dk_42 (dk_at dksX6_readsContact_2 9 rfl rfl)
theorem dX6_readsContact_56 : decode cX6_readsContact 56 = .ok (.aload_n 0, 1) := dk_42 (dk_at dksX6_readsContact_2 10 rfl rfl)
theorem dX6_readsContact_57 : decode cX6_readsContact 57 = .ok (.getfield 110, 3) := dk_180 0 110 (dk_at dksX6_readsContact_2 11 rfl rfl)
theorem dX6_readsContact_60 : decode cX6_readsContact 60 = .ok (.iconst 2, 1) := dk_5 (dk_at dksX6_readsContact_2 14 rfl rfl)
theorem dX6_readsContact_61 : decode cX6_readsContact 61 = .ok (.if_icmp .ne 11, 3) := dk_160 0 11 (dk_at dksX6_readsContact_2 15 rfl rfl)
theorem dX6_readsContact_64 : decode cX6_readsContact 64 = .ok (.aload_n 0, 1) := dk_42 (dk_at dksX6_readsContact_2 18 rfl rfl)
theorem dX6_readsContact_65 : decode cX6_readsContact 65 = .ok (.getfield 107, 3) := dk_180 0 107 (dk_at dksX6_readsContact_2 19 rfl rfl)
theorem dX6_readsContact_68 : decode cX6_readsContact 68 = .ok (.iload_n 1, 1) := dk_27 (dk_at dksX6_readsContact_2 22 rfl rfl)
theorem dX6_readsContact_69 : decode cX6_readsContact 69 = .ok (.if_icmp .eq 7, 3) := dk_159 0 7 (dk_at dksX6_readsContact_3 0 rfl rfl)
theorem dX6_readsContact_72 : decode cX6_readsContact 72 = .ok (.iconst 1, 1) := dk_4 (dk_at dksX6_readsContact_3 3 rfl rfl)
theorem dX6_readsContact_73 : decode cX6_readsContact 73 = .ok (.goto 4, 3) := dk_167 0 4 (dk_at dksX6_readsContact_3 4 rfl rfl)
theorem dX6_readsContact_76 : decode cX6_readsContact 76 = .ok (.iconst 0, 1) := dk_3 (dk_at dksX6_readsContact_3 7 rfl rfl)
theorem dX6_readsContact_77 : decode cX6_readsContact 77 = .ok (.iconst 2, 1) := dk_5 (dk_at dksX6_readsContact_3 8 rfl rfl)
theorem dX6_readsContact_78 : decode cX6_readsContact 78 = .ok (.invokevirtual 136, 3) := dk_182 0 136 (dk_at dksX6_readsContact_3 9 rfl rfl)
theorem dX6_readsContact_81 : decode cX6_readsContact 81 = .ok (.aload_n 0, 1) := dk_42 (dk_at dksX6_readsContact_3 12 rfl rfl)
theorem dX6_readsContact_82 : decode cX6_readsContact 82 = .ok (.iconst 0, 1) := dk_3 (dk_at dksX6_readsContact_3 13 rfl rfl)
theorem dX6_readsContact_83 : decode cX6_readsContact 83 = .ok (.aload_n 0, 1) := dk_42 (dk_at dksX6_readsContact_3 14 rfl rfl)
theorem dX6_readsContact_84 : decode cX6_readsContact 84 = .ok (.getfield 28, 3) := dk_180 0 28 (dk_at dksX6_readsContact_3 15 rfl rfl)
theorem dX6_readsContact_87 : decode cX6_readsContact 87 = .ok (.iconst 0, 1) := dk_3 (dk_at dksX6_readsContact_3 18 rfl rfl)
theorem dX6_readsContact_88 : decode cX6_readsContact 88 = .ok (.iaload, 1) := dk_46 (dk_at dksX6_readsContact_3 19 rfl rfl)
theorem dX6_readsContact_89 : decode cX6_readsContact 89 = .ok (.iconst 1, 1) := dk_4 (dk_at dksX6_readsContact_3 20 rfl rfl)
theorem dX6_readsContact_90 : decode cX6_readsContact 90 = .ok (.isub, 1) := dk_100 (dk_at dksX6_readsContact_3 21 rfl rfl)
theorem dX6_readsContact_91 : decode cX6_readsContact 91 = .ok (.invokevirtual 130, 3) := dk_182 0 130 (dk_at dksX6_readsContact_4 0 rfl rfl)
theorem dX6_readsContact_94 : decode cX6_readsContact 94 = .ok (.istore_n 2, 1) := dk_61 (dk_at dksX6_readsContact_4 3 rfl rfl)
theorem dX6_readsContact_95 : decode cX6_readsContact 95 = .ok (.aload_n 0, 1) := dk_42 (dk_at dksX6_readsContact_4 4 rfl rfl)
theorem dX6_readsContact_96 : decode cX6_readsContact 96 = .ok (.iconst 0, 1) := dk_3 (dk_at dksX6_readsContact_4 5 rfl rfl)
theorem dX6_readsContact_97 : decode cX6_readsContact 97 = .ok (.bipush 30, 2) := dk_16 30 (dk_at dksX6_readsContact_4 6 rfl rfl)
theorem dX6_readsContact_99 : decode cX6_readsContact 99 = .ok (.invokevirtual 140, 3) := dk_182 0 140 (dk_at dksX6_readsContact_4 8 rfl rfl)
theorem dX6_readsContact_102 : decode cX6_readsContact 102 = .ok (.istore_n 3, 1) := dk_62 (dk_at dksX6_readsContact_4 11 rfl rfl)
theorem dX6_readsContact_103 : decode cX6_readsContact 103 = .ok (.aload_n 0, 1) := dk_42 (dk_at dksX6_readsContact_4 12 rfl rfl)
theorem dX6_readsContact_104 : decode cX6_readsContact 104 = .ok (.aload_n 0, 1) := dk_42 (dk_at dksX6_readsContact_4 13 rfl rfl)
theorem dX6_readsContact_105 : decode cX6_readsContact 105 = .ok (.getfield 110, 3) := dk_180 0 110 (dk_at dksX6_readsContact_4 14 rfl rfl)
theorem dX6_readsContact_108 : decode cX6_readsContact 108 = .ok (.iconst 4, 1) := dk_7 (dk_at dksX6_readsContact_4 17 rfl rfl)
theorem dX6_readsContact_109 : decode cX6_readsContact 109 = .ok (.if_icmp .ne 7, 3) := dk_160 0 7 (dk_at dksX6_readsContact_4 18 rfl rfl)
theorem dX6_readsContact_112 : decode cX6_readsContact 112 = .ok (.iconst 1, 1) := dk_4 (dk_at dksX6_readsContact_4 21 rfl rfl)
theorem dX6_readsContact_113 : decode cX6_readsContact 113 = .ok (.goto 4, 3) := dk_167 0 4 (dk_at dksX6_readsContact_5 0 rfl rfl)
theorem dX6_readsContact_116 : decode cX6_readsContact 116 = .ok (.iconst 0, 1) := dk_3 (dk_at dksX6_readsContact_5 3 rfl rfl)
theorem dX6_readsContact_117 : decode cX6_readsContact 117 = .ok (.iconst 1, 1) := dk_4 (dk_at dksX6_readsContact_5 4 rfl rfl)
theorem dX6_readsContact_118 : decode cX6_readsContact 118 = .ok (.invokevirtual 126, 3) := dk_182 0 126 (dk_at dksX6_readsContact_5 5 rfl rfl)
theorem dX6_readsContact_121 : decode cX6_readsContact 121 = .ok (.pop, 1) := dk_87 (dk_at dksX6_readsContact_5 8 rfl rfl)
theorem dX6_readsContact_122 : decode cX6_readsContact 122 = .ok (.aload_n 0, 1) := dk_42 (dk_at dksX6_readsContact_5 9 rfl rfl)
theorem dX6_readsContact_123 : decode cX6_readsContact 123 = .ok (.invokevirtual 116, 3) := dk_182 0 116 (dk_at dksX6_readsContact_5 10 rfl rfl)
theorem dX6_readsContact_126 : decode cX6_readsContact 126 = .ok (.ifCond .eq 54, 3) := dk_153 0 54 (dk_at dksX6_readsContact_5 13 rfl rfl)
theorem dX6_readsContact_129 : decode cX6_readsContact 129 = .ok (.bipush 22, 2) := dk_16 22 (dk_at dksX6_readsContact_5 16 rfl rfl)
theorem dX6_readsContact_131 : decode cX6_readsContact 131 = .ok (.iconst 3, 1) := dk_6 (dk_at dksX6_readsContact_5 18 rfl rfl)
theorem dX6_readsContact_132 : decode cX6_readsContact 132 = .ok (.aload_n 0, 1) := dk_42 (dk_at dksX6_readsContact_5 19 rfl rfl)
theorem dX6_readsContact_133 : decode cX6_readsContact 133 = .ok (.getfield 28, 3) := dk_180 0 28 (dk_at dksX6_readsContact_5 20 rfl rfl)
theorem dX6_readsContact_136 : decode cX6_readsContact 136 = .ok (.iconst 1, 1) := dk_4 (dk_at dksX6_readsContact_5 23 rfl rfl)
theorem dX6_readsContact_137 : decode cX6_readsContact 137 = .ok (.iaload, 1) := dk_46 (dk_at dksX6_readsContact_6 0 rfl rfl)
theorem dX6_readsContact_138 : decode cX6_readsContact 138 = .ok (.imul, 1) := dk_104 (dk_at dksX6_readsContact_6 1 rfl rfl)
theorem dX6_readsContact_139 : decode cX6_readsContact 139 = .ok (.iadd, 1) := dk_96 (dk_at dksX6_readsContact_6 2 rfl rfl)
theorem dX6_readsContact_140 : decode cX6_readsContact 140 = .ok (.istore 4, 2) := dk_54 4 (dk_at dksX6_readsContact_6 3 rfl rfl)
theorem dX6_readsContact_142 : decode cX6_readsContact 142 = .ok (.aload_n 0, 1) := dk_42 (dk_at dksX6_readsContact_6 5 rfl rfl)
theorem dX6_readsContact_143 : decode cX6_readsContact 143 = .ok (.getfield 28, 3) := dk_180 0 28 (dk_at dksX6_readsContact_6 6 rfl rfl)
theorem dX6_readsContact_146 : decode cX6_readsContact 146 = .ok (.iload 4, 2) := dk_21 4 (dk_at dksX6_readsContact_6 9 rfl rfl)
theorem dX6_readsContact_148 : decode cX6_readsContact 148 = .ok (.iload_n 1, 1) := dk_27 (dk_at dksX6_readsContact_6 11 rfl rfl)
theorem dX6_readsContact_149 : decode cX6_readsContact 149 = .ok (.iastore, 1) := dk_79 (dk_at dksX6_readsContact_6 12 rfl rfl)
theorem dX6_readsContact_150 : decode cX6_readsContact 150 = .ok (.aload_n 0, 1) := dk_42 (dk_at dksX6_readsContact_6 13 rfl rfl)
theorem dX6_readsContact_151 : decode cX6_readsContact 151 = .ok (.getfield 28, 3) := dk_180 0 28 (dk_at dksX6_readsContact_6 14 rfl rfl)
theorem dX6_readsContact_154 : decode cX6_readsContact 154 = .ok (.iload 4, 2) := dk_21 4 (dk_at dksX6_readsContact_6 17 rfl rfl)
theorem dX6_readsContact_156 : decode cX6_readsContact 156 = .ok (.iconst 1, 1) := dk_4 (dk_at dksX6_readsContact_6 19 rfl rfl)
theorem dX6_readsContact_157 : decode cX6_readsContact 157 = .ok (.iadd, 1) := dk_96 (dk_at dksX6_readsContact_6 20 rfl rfl)
theorem dX6_readsContact_158 : decode cX6_readsContact 158 = .ok (.iload_n 2, 1) := dk_28 (dk_at dksX6_readsContact_6 21 rfl rfl)
theorem dX6_readsContact_159 : decode cX6_readsContact 159 = .ok (.iastore, 1) := dk_79 (dk_at dksX6_readsContact_6 22 rfl rfl)
theorem dX6_readsContact_160 : decode cX6_readsContact 160 = .ok (.aload_n 0, 1) := dk_42 (dk_at dksX6_readsContact_6 23 rfl rfl)
theorem dX6_readsContact_161 : decode cX6_readsContact 161 = .ok (.getfield 28, 3) := dk_180 0 28 (dk_at dksX6_readsContact_7 0 rfl rfl)
theorem dX6_readsContact_164 : decode cX6_readsContact 164 = .ok (.iload 4, 2) := dk_21 4 (dk_at dksX6_readsContact_7 3 rfl rfl)
theorem dX6_readsContact_166 : decode cX6_readsContact 166 = .ok (.iconst 2, 1) := dk_5 (dk_at dksX6_readsContact_7 5 rfl rfl)
theorem dX6_readsContact_167 : decode cX6_readsContact 167 = .ok (.iadd, 1) := dk_96 (dk_at dksX6_readsContact_7 6 rfl rfl)
theorem dX6_readsContact_168 : decode cX6_readsContact 168 = .ok (.iload_n 3, 1) := dk_29 (dk_at dksX6_readsContact_7 7 rfl rfl)
theorem dX6_readsContact_169 : decode cX6_readsContact 169 = .ok (.iastore, 1) := dk_79 (dk_at dksX6_readsContact_7 8 rfl rfl)
theorem dX6_readsContact_170 : decode cX6_readsContact 170 = .ok (.aload_n 0, 1) := dk_42 (dk_at dksX6_readsContact_7 9 rfl rfl)
theorem dX6_readsContact_171 : decode cX6_readsContact 171 = .ok (.getfield 28, 3) := dk_180 0 28 (dk_at dksX6_readsContact_7 10 rfl rfl)
theorem dX6_readsContact_174 : decode cX6_readsContact 174 = .ok (.iconst 1, 1) := dk_4 (dk_at dksX6_readsContact_7 13 rfl rfl)
theorem dX6_readsContact_175 : decode cX6_readsContact 175 = .ok (.dup2, 1) := dk_92 (dk_at dksX6_readsContact_7 14 rfl rfl)
theorem dX6_readsContact_176 : decode cX6_readsContact 176 = .ok (.iaload, 1) := dk_46 (dk_at dksX6_readsContact_7 15 rfl rfl)
theorem dX6_readsContact_177 : decode cX6_readsContact 177 = .ok (.iconst 1, 1) := dk_4 (dk_at dksX6_readsContact_7 16 rfl rfl)
theorem dX6_readsContact_178 : decode cX6_readsContact 178 = .ok (.iadd, 1) := dk_96 (dk_at dksX6_readsContact_7 17 rfl rfl)
theorem dX6_readsContact_179 : decode cX6_readsContact 179 = .ok (.iastore, 1) := dk_79 (dk_at dksX6_readsContact_7 18 rfl rfl)
theorem dX6_readsContact_180 : decode cX6_readsContact 180 = .ok (.return_, 1) := dk_177 (dk_at dksX6_readsContact_7 19 rfl rfl)
abbrev cX6_readsIll : ByteArray := prog_21_method_29_code
def yX6_readsIll : MethodName := ⟨RX6, "readsIll", "()V"⟩
def dkwX6_readsIll_4 : List UInt8 := [87, 42, 182, 0, 116, 153, 0, 16, 42, 180, 0, 28, 7, 5, 27, 104, 96, 4, 96, 28, 79, 177]
abbrev dktX6_readsIll_4 : List UInt8 := dkwX6_readsIll_4 ++ []
def dkwX6_readsIll_3 : List UInt8 := [16, 30, 182, 0, 140, 61, 42, 42, 180, 0, 110, 7, 160, 0, 7, 4, 167, 0, 4, 3, 4, 182, 0, 126]
abbrev dktX6_readsIll_3 : List UInt8 := dkwX6_readsIll_3 ++ dktX6_readsIll_4
def dkwX6_readsIll_2 : List UInt8 := [167, 0, 4, 3, 5, 182, 0, 136, 42, 3, 42, 180, 0, 28, 3, 46, 4, 100, 182, 0, 130, 60, 42, 3]
abbrev dktX6_readsIll_2 : List UInt8 := dkwX6_readsIll_2 ++ dktX6_readsIll_3
def dkwX6_readsIll_1 : List UInt8 := [3, 46, 162, 0, 21, 42, 180, 0, 28, 7, 5, 42, 180, 0, 107, 104, 96, 4, 96, 46, 156, 0, 7, 4]
abbrev dktX6_readsIll_1 : List UInt8 := dkwX6_readsIll_1 ++ dktX6_readsIll_2
def dkwX6_readsIll_0 : List UInt8 := [42, 4, 4, 182, 0, 126, 87, 42, 42, 180, 0, 110, 5, 160, 0, 34, 42, 180, 0, 107, 42, 180, 0, 28]
abbrev dktX6_readsIll_0 : List UInt8 := dkwX6_readsIll_0 ++ dktX6_readsIll_1
theorem dksX6_readsIll_0 : cX6_readsIll.data.toList.drop 0 = dktX6_readsIll_0 := by decide +kernel
theorem dksX6_readsIll_1 : cX6_readsIll.data.toList.drop 24 = dktX6_readsIll_1 := dk_seg dksX6_readsIll_0 24 rfl rfl
theorem dksX6_readsIll_2 : cX6_readsIll.data.toList.drop 48 = dktX6_readsIll_2 := dk_seg dksX6_readsIll_1 24 rfl rfl
theorem dksX6_readsIll_3 : cX6_readsIll.data.toList.drop 72 = dktX6_readsIll_3 := dk_seg dksX6_readsIll_2 24 rfl rfl
theorem dksX6_readsIll_4 : cX6_readsIll.data.toList.drop 96 = dktX6_readsIll_4 := dk_seg dksX6_readsIll_3 24 rfl rfl
theorem dX6_readsIll_0 : decode cX6_readsIll 0 = .ok (.aload_n 0, 1) := dk_42 (dk_at dksX6_readsIll_0 0 rfl rfl)
theorem dX6_readsIll_1 : decode cX6_readsIll 1 = .ok (.iconst 1, 1) := dk_4 (dk_at dksX6_readsIll_0 1 rfl rfl)
theorem dX6_readsIll_2 : decode cX6_readsIll 2 = .ok (.iconst 1, 1) := dk_4 (dk_at dksX6_readsIll_0 2 rfl rfl)
theorem dX6_readsIll_3 : decode cX6_readsIll 3 = .ok (.invokevirtual 126, 3) := dk_182 0 126 (dk_at dksX6_readsIll_0 3 rfl rfl)
theorem dX6_readsIll_6 : decode cX6_readsIll 6 = .ok (.pop, 1) := dk_87 (dk_at dksX6_readsIll_0 6 rfl rfl)
theorem dX6_readsIll_7 : decode cX6_readsIll 7 = .ok (.aload_n 0, 1) := dk_42 (dk_at dksX6_readsIll_0 7 rfl rfl)
theorem dX6_readsIll_8 : decode cX6_readsIll 8 = .ok (.aload_n 0, 1) := dk_42 (dk_at dksX6_readsIll_0 8 rfl rfl)
theorem dX6_readsIll_9 : decode cX6_readsIll 9 = .ok (.getfield 110, 3) := dk_180 0 110 (dk_at dksX6_readsIll_0 9 rfl rfl)
theorem dX6_readsIll_12 : decode cX6_readsIll 12 = .ok (.iconst 2, 1) := dk_5 (dk_at dksX6_readsIll_0 12 rfl rfl)
theorem dX6_readsIll_13 : decode cX6_readsIll 13 = .ok (.if_icmp .ne 34, 3) := dk_160 0 34 (dk_at dksX6_readsIll_0 13 rfl rfl)
theorem dX6_readsIll_16 : decode cX6_readsIll 16 = .ok (.aload_n 0, 1) := dk_42 (dk_at dksX6_readsIll_0 16 rfl rfl)
theorem dX6_readsIll_17 : decode cX6_readsIll 17 = .ok (.getfield 107, 3) := dk_180 0 107 (dk_at dksX6_readsIll_0 17 rfl rfl)
theorem dX6_readsIll_20 : decode cX6_readsIll 20 = .ok (.aload_n 0, 1) := dk_42 (dk_at dksX6_readsIll_0 20 rfl rfl)
theorem dX6_readsIll_21 : decode cX6_readsIll 21 = .ok (.getfield 28, 3) := dk_180 0 28 (dk_at dksX6_readsIll_0 21 rfl rfl)
theorem dX6_readsIll_24 : decode cX6_readsIll 24 = .ok (.iconst 0, 1) := dk_3 (dk_at dksX6_readsIll_1 0 rfl rfl)
theorem dX6_readsIll_25 : decode cX6_readsIll 25 = .ok (.iaload, 1) := dk_46 (dk_at dksX6_readsIll_1 1 rfl rfl)
theorem dX6_readsIll_26 : decode cX6_readsIll 26 = .ok (.if_icmp .ge 21, 3) := dk_162 0 21 (dk_at dksX6_readsIll_1 2 rfl rfl)
theorem dX6_readsIll_29 : decode cX6_readsIll 29 = .ok (.aload_n 0, 1) := dk_42 (dk_at dksX6_readsIll_1 5 rfl rfl)
theorem dX6_readsIll_30 : decode cX6_readsIll 30 = .ok (.getfield 28, 3) := dk_180 0 28 (dk_at dksX6_readsIll_1 6 rfl rfl)
theorem dX6_readsIll_33 : decode cX6_readsIll 33 = .ok (.iconst 4, 1) := dk_7 (dk_at dksX6_readsIll_1 9 rfl rfl)
theorem dX6_readsIll_34 : decode cX6_readsIll 34 = .ok (.iconst 2, 1) := dk_5 (dk_at dksX6_readsIll_1 10 rfl rfl)
theorem dX6_readsIll_35 : decode cX6_readsIll 35 = .ok (.aload_n 0, 1) := dk_42 (dk_at dksX6_readsIll_1 11 rfl rfl)
theorem dX6_readsIll_36 : decode cX6_readsIll 36 = .ok (.getfield 107, 3) := dk_180 0 107 (dk_at dksX6_readsIll_1 12 rfl rfl)
theorem dX6_readsIll_39 : decode cX6_readsIll 39 = .ok (.imul, 1) := dk_104 (dk_at dksX6_readsIll_1 15 rfl rfl)
theorem dX6_readsIll_40 : decode cX6_readsIll 40 = .ok (.iadd, 1) := dk_96 (dk_at dksX6_readsIll_1 16 rfl rfl)
theorem dX6_readsIll_41 : decode cX6_readsIll 41 = .ok (.iconst 1, 1) := dk_4 (dk_at dksX6_readsIll_1 17 rfl rfl)
theorem dX6_readsIll_42 : decode cX6_readsIll 42 = .ok (.iadd, 1) := dk_96 (dk_at dksX6_readsIll_1 18 rfl rfl)
theorem dX6_readsIll_43 : decode cX6_readsIll 43 = .ok (.iaload, 1) := dk_46 (dk_at dksX6_readsIll_1 19 rfl rfl)
theorem dX6_readsIll_44 : decode cX6_readsIll 44 = .ok (.ifCond .ge 7, 3) := dk_156 0 7 (dk_at dksX6_readsIll_1 20 rfl rfl)
theorem dX6_readsIll_47 : decode cX6_readsIll 47 = .ok (.iconst 1, 1) := dk_4 (dk_at dksX6_readsIll_1 23 rfl rfl)
theorem dX6_readsIll_48 : decode cX6_readsIll 48 = .ok (.goto 4, 3) := dk_167 0 4 (dk_at dksX6_readsIll_2 0 rfl rfl)
theorem dX6_readsIll_51 : decode cX6_readsIll 51 = .ok (.iconst 0, 1) := dk_3 (dk_at dksX6_readsIll_2 3 rfl rfl)
theorem dX6_readsIll_52 : decode cX6_readsIll 52 = .ok (.iconst 2, 1) := dk_5 (dk_at dksX6_readsIll_2 4 rfl rfl)
theorem dX6_readsIll_53 : decode cX6_readsIll 53 = .ok (.invokevirtual 136, 3) := dk_182 0 136 (dk_at dksX6_readsIll_2 5 rfl rfl)
theorem dX6_readsIll_56 : decode cX6_readsIll 56 = .ok (.aload_n 0, 1) := dk_42 (dk_at dksX6_readsIll_2 8 rfl rfl)
theorem dX6_readsIll_57 : decode cX6_readsIll 57 = .ok (.iconst 0, 1) := dk_3 (dk_at dksX6_readsIll_2 9 rfl rfl)
theorem dX6_readsIll_58 : decode cX6_readsIll 58 = .ok (.aload_n 0, 1) := dk_42 (dk_at dksX6_readsIll_2 10 rfl rfl)
theorem dX6_readsIll_59 : decode cX6_readsIll 59 = .ok (.getfield 28, 3) := dk_180 0 28 (dk_at dksX6_readsIll_2 11 rfl rfl)
theorem dX6_readsIll_62 : decode cX6_readsIll 62 = .ok (.iconst 0, 1) := dk_3 (dk_at dksX6_readsIll_2 14 rfl rfl)
theorem dX6_readsIll_63 : decode cX6_readsIll 63 = .ok (.iaload, 1) := dk_46 (dk_at dksX6_readsIll_2 15 rfl rfl)
theorem dX6_readsIll_64 : decode cX6_readsIll 64 = .ok (.iconst 1, 1) := dk_4 (dk_at dksX6_readsIll_2 16 rfl rfl)
theorem dX6_readsIll_65 : decode cX6_readsIll 65 = .ok (.isub, 1) := dk_100 (dk_at dksX6_readsIll_2 17 rfl rfl)
theorem dX6_readsIll_66 : decode cX6_readsIll 66 = .ok (.invokevirtual 130, 3) := dk_182 0 130 (dk_at dksX6_readsIll_2 18 rfl rfl)
theorem dX6_readsIll_69 : decode cX6_readsIll 69 = .ok (.istore_n 1, 1) := dk_60 (dk_at dksX6_readsIll_2 21 rfl rfl)
theorem dX6_readsIll_70 : decode cX6_readsIll 70 = .ok (.aload_n 0, 1) := dk_42 (dk_at dksX6_readsIll_2 22 rfl rfl)
theorem dX6_readsIll_71 : decode cX6_readsIll 71 = .ok (.iconst 0, 1) := dk_3 (dk_at dksX6_readsIll_2 23 rfl rfl)
theorem dX6_readsIll_72 : decode cX6_readsIll 72 = .ok (.bipush 30, 2) := dk_16 30 (dk_at dksX6_readsIll_3 0 rfl rfl)
theorem dX6_readsIll_74 : decode cX6_readsIll 74 = .ok (.invokevirtual 140, 3) := dk_182 0 140 (dk_at dksX6_readsIll_3 2 rfl rfl)
theorem dX6_readsIll_77 : decode cX6_readsIll 77 = .ok (.istore_n 2, 1) := dk_61 (dk_at dksX6_readsIll_3 5 rfl rfl)
theorem dX6_readsIll_78 : decode cX6_readsIll 78 = .ok (.aload_n 0, 1) := dk_42 (dk_at dksX6_readsIll_3 6 rfl rfl)
theorem dX6_readsIll_79 : decode cX6_readsIll 79 = .ok (.aload_n 0, 1) := dk_42 (dk_at dksX6_readsIll_3 7 rfl rfl)
theorem dX6_readsIll_80 : decode cX6_readsIll 80 = .ok (.getfield 110, 3) := dk_180 0 110 (dk_at dksX6_readsIll_3 8 rfl rfl)
theorem dX6_readsIll_83 : decode cX6_readsIll 83 = .ok (.iconst 4, 1) := dk_7 (dk_at dksX6_readsIll_3 11 rfl rfl)
theorem dX6_readsIll_84 : decode cX6_readsIll 84 = .ok (.if_icmp .ne 7, 3) := dk_160 0 7 (dk_at dksX6_readsIll_3 12 rfl rfl)
theorem dX6_readsIll_87 : decode cX6_readsIll 87 = .ok (.iconst 1, 1) := dk_4 (dk_at dksX6_readsIll_3 15 rfl rfl)
theorem dX6_readsIll_88 : decode cX6_readsIll 88 = .ok (.goto 4, 3) := dk_167 0 4 (dk_at dksX6_readsIll_3 16 rfl rfl)
theorem dX6_readsIll_91 : decode cX6_readsIll 91 = .ok (.iconst 0, 1) := dk_3 (dk_at dksX6_readsIll_3 19 rfl rfl)
theorem dX6_readsIll_92 : decode cX6_readsIll 92 = .ok (.iconst 1, 1) := dk_4 (dk_at dksX6_readsIll_3 20 rfl rfl)
theorem dX6_readsIll_93 : decode cX6_readsIll 93 = .ok (.invokevirtual 126, 3) := dk_182 0 126 (dk_at dksX6_readsIll_3 21 rfl rfl)
theorem dX6_readsIll_96 : decode cX6_readsIll 96 = .ok (.pop, 1) := dk_87 (dk_at dksX6_readsIll_4 0 rfl rfl)
theorem dX6_readsIll_97 : decode cX6_readsIll 97 = .ok (.aload_n 0, 1) := dk_42 (dk_at dksX6_readsIll_4 1 rfl rfl)
theorem dX6_readsIll_98 : decode cX6_readsIll 98 = .ok (.invokevirtual 116, 3) := dk_182 0 116 (dk_at dksX6_readsIll_4 2 rfl rfl)
theorem dX6_readsIll_101 : decode cX6_readsIll 101 = .ok (.ifCond .eq 16, 3) := dk_153 0 16 (dk_at dksX6_readsIll_4 5 rfl rfl)
theorem dX6_readsIll_104 : decode cX6_readsIll 104 = .ok (.aload_n 0, 1) := dk_42 (dk_at dksX6_readsIll_4 8 rfl rfl)
theorem dX6_readsIll_105 : decode cX6_readsIll 105 = .ok (.getfield 28, 3) := dk_180 0 28 (dk_at dksX6_readsIll_4 9 rfl rfl)
theorem dX6_readsIll_108 : decode cX6_readsIll 108 = .ok (.iconst 4, 1) := dk_7 (dk_at dksX6_readsIll_4 12 rfl rfl)
theorem dX6_readsIll_109 : decode cX6_readsIll 109 = .ok (.iconst 2, 1) := dk_5 (dk_at dksX6_readsIll_4 13 rfl rfl)
theorem dX6_readsIll_110 : decode cX6_readsIll 110 = .ok (.iload_n 1, 1) := dk_27 (dk_at dksX6_readsIll_4 14 rfl rfl)
theorem dX6_readsIll_111 : decode cX6_readsIll 111 = .ok (.imul, 1) := dk_104 (dk_at dksX6_readsIll_4 15 rfl rfl)
theorem dX6_readsIll_112 : decode cX6_readsIll 112 = .ok (.iadd, 1) := dk_96 (dk_at dksX6_readsIll_4 16 rfl rfl)
theorem dX6_readsIll_113 : decode cX6_readsIll 113 = .ok (.iconst 1, 1) := dk_4 (dk_at dksX6_readsIll_4 17 rfl rfl)
theorem dX6_readsIll_114 : decode cX6_readsIll 114 = .ok (.iadd, 1) := dk_96 (dk_at dksX6_readsIll_4 18 rfl rfl)
theorem dX6_readsIll_115 : decode cX6_readsIll 115 = .ok (.iload_n 2, 1) := dk_28 (dk_at dksX6_readsIll_4 19 rfl rfl)
theorem dX6_readsIll_116 : decode cX6_readsIll 116 = .ok (.iastore, 1) := dk_79 (dk_at dksX6_readsIll_4 20 rfl rfl)
theorem dX6_readsIll_117 : decode cX6_readsIll 117 = .ok (.return_, 1) := dk_177 (dk_at dksX6_readsIll_4 21 rfl rfl)
abbrev cX6_copies : ByteArray := prog_21_method_8_code
def yX6_copies : MethodName := ⟨RX6, "copies", "([II[II)V"⟩
def dkwX6_copies_1 : List UInt8 := [132, 4, 1, 167, 255, 234, 177]
abbrev dktX6_copies_1 : List UInt8 := dkwX6_copies_1 ++ []
def dkwX6_copies_0 : List UInt8 := [3, 54, 4, 21, 4, 16, 52, 162, 0, 21, 44, 29, 21, 4, 96, 42, 27, 21, 4, 96, 46, 79]
abbrev dktX6_copies_0 : List UInt8 := dkwX6_copies_0 ++ dktX6_copies_1
theorem dksX6_copies_0 : cX6_copies.data.toList.drop 0 = dktX6_copies_0 := by decide +kernel
theorem dksX6_copies_1 : cX6_copies.data.toList.drop 22 = dktX6_copies_1 := dk_seg dksX6_copies_0 22 rfl rfl
theorem dX6_copies_0 : decode cX6_copies 0 = .ok (.iconst 0, 1) := dk_3 (dk_at dksX6_copies_0 0 rfl rfl)
theorem dX6_copies_1 : decode cX6_copies 1 = .ok (.istore 4, 2) := dk_54 4 (dk_at dksX6_copies_0 1 rfl rfl)
theorem dX6_copies_3 : decode cX6_copies 3 = .ok (.iload 4, 2) := dk_21 4 (dk_at dksX6_copies_0 3 rfl rfl)
theorem dX6_copies_5 : decode cX6_copies 5 = .ok (.bipush 52, 2) := dk_16 52 (dk_at dksX6_copies_0 5 rfl rfl)
theorem dX6_copies_7 : decode cX6_copies 7 = .ok (.if_icmp .ge 21, 3) := dk_162 0 21 (dk_at dksX6_copies_0 7 rfl rfl)
theorem dX6_copies_10 : decode cX6_copies 10 = .ok (.aload_n 2, 1) := dk_44 (dk_at dksX6_copies_0 10 rfl rfl)
theorem dX6_copies_11 : decode cX6_copies 11 = .ok (.iload_n 3, 1) := dk_29 (dk_at dksX6_copies_0 11 rfl rfl)
theorem dX6_copies_12 : decode cX6_copies 12 = .ok (.iload 4, 2) := dk_21 4 (dk_at dksX6_copies_0 12 rfl rfl)
theorem dX6_copies_14 : decode cX6_copies 14 = .ok (.iadd, 1) := dk_96 (dk_at dksX6_copies_0 14 rfl rfl)
theorem dX6_copies_15 : decode cX6_copies 15 = .ok (.aload_n 0, 1) := dk_42 (dk_at dksX6_copies_0 15 rfl rfl)
theorem dX6_copies_16 : decode cX6_copies 16 = .ok (.iload_n 1, 1) := dk_27 (dk_at dksX6_copies_0 16 rfl rfl)
theorem dX6_copies_17 : decode cX6_copies 17 = .ok (.iload 4, 2) := dk_21 4 (dk_at dksX6_copies_0 17 rfl rfl)
theorem dX6_copies_19 : decode cX6_copies 19 = .ok (.iadd, 1) := dk_96 (dk_at dksX6_copies_0 19 rfl rfl)
theorem dX6_copies_20 : decode cX6_copies 20 = .ok (.iaload, 1) := dk_46 (dk_at dksX6_copies_0 20 rfl rfl)
theorem dX6_copies_21 : decode cX6_copies 21 = .ok (.iastore, 1) := dk_79 (dk_at dksX6_copies_0 21 rfl rfl)
theorem dX6_copies_22 : decode cX6_copies 22 = .ok (.iinc 4 1, 3) := dk_132 4 1 (dk_at dksX6_copies_1 0 rfl rfl)
theorem dX6_copies_25 : decode cX6_copies 25 = .ok (.goto (-22), 3) := dk_167 255 234 (dk_at dksX6_copies_1 3 rfl rfl)
theorem dX6_copies_28 : decode cX6_copies 28 = .ok (.return_, 1) := dk_177 (dk_at dksX6_copies_1 6 rfl rfl)
abbrev cX6_fault : ByteArray := prog_21_method_31_code
def yX6_fault : MethodName := ⟨RX6, "fault", "()I"⟩
theorem dX6_fault_0 : decode cX6_fault 0 = .ok (.aload_n 0, 1) := by decide +kernel
theorem dX6_fault_1 : decode cX6_fault 1 = .ok (.getfield 120, 3) := by decide +kernel
theorem dX6_fault_4 : decode cX6_fault 4 = .ok (.ireturn, 1) := by decide +kernel
abbrev cX6_meet : ByteArray := prog_21_method_43_code
def yX6_meet : MethodName := ⟨RX6, "meet", "(III)I"⟩
def dkwX6_meet_4 : List UInt8 := [180, 0, 25, 4, 92, 46, 4, 96, 79, 42, 180, 0, 25, 4, 46, 172]
abbrev dktX6_meet_4 : List UInt8 := dkwX6_meet_4 ++ []
def dkwX6_meet_3 : List UInt8 := [27, 79, 42, 180, 0, 25, 21, 4, 4, 96, 28, 79, 42, 180, 0, 25, 21, 4, 5, 96, 29, 79, 42]
abbrev dktX6_meet_3 : List UInt8 := dkwX6_meet_3 ++ dktX6_meet_4
def dkwX6_meet_2 : List UInt8 := [172, 42, 182, 0, 183, 16, 22, 6, 42, 180, 0, 25, 4, 46, 104, 96, 54, 4, 42, 180, 0, 25, 21, 4]
abbrev dktX6_meet_2 : List UInt8 := dkwX6_meet_2 ++ dktX6_meet_3
def dkwX6_meet_1 : List UInt8 := [16, 30, 184, 0, 68, 154, 0, 6, 18, 76, 172, 42, 180, 0, 25, 4, 46, 16, 10, 160, 0, 6, 18, 97]
abbrev dktX6_meet_1 : List UInt8 := dkwX6_meet_1 ++ dktX6_meet_2
def dkwX6_meet_0 : List UInt8 := [42, 27, 182, 0, 186, 153, 0, 26, 42, 28, 182, 0, 186, 153, 0, 18, 27, 28, 159, 0, 13, 29, 3]
abbrev dktX6_meet_0 : List UInt8 := dkwX6_meet_0 ++ dktX6_meet_1
theorem dksX6_meet_0 : cX6_meet.data.toList.drop 0 = dktX6_meet_0 := by decide +kernel
theorem dksX6_meet_1 : cX6_meet.data.toList.drop 23 = dktX6_meet_1 := dk_seg dksX6_meet_0 23 rfl rfl
theorem dksX6_meet_2 : cX6_meet.data.toList.drop 47 = dktX6_meet_2 := dk_seg dksX6_meet_1 24 rfl rfl
theorem dksX6_meet_3 : cX6_meet.data.toList.drop 71 = dktX6_meet_3 := dk_seg dksX6_meet_2 24 rfl rfl
theorem dksX6_meet_4 : cX6_meet.data.toList.drop 94 = dktX6_meet_4 := dk_seg dksX6_meet_3 23 rfl rfl
theorem dX6_meet_0 : decode cX6_meet 0 = .ok (.aload_n 0, 1) := dk_42 (dk_at dksX6_meet_0 0 rfl rfl)
theorem dX6_meet_1 : decode cX6_meet 1 = .ok (.iload_n 1, 1) := dk_27 (dk_at dksX6_meet_0 1 rfl rfl)
theorem dX6_meet_2 : decode cX6_meet 2 = .ok (.invokevirtual 186, 3) := dk_182 0 186 (dk_at dksX6_meet_0 2 rfl rfl)
theorem dX6_meet_5 : decode cX6_meet 5 = .ok (.ifCond .eq 26, 3) := dk_153 0 26 (dk_at dksX6_meet_0 5 rfl rfl)
theorem dX6_meet_8 : decode cX6_meet 8 = .ok (.aload_n 0, 1) := dk_42 (dk_at dksX6_meet_0 8 rfl rfl)
theorem dX6_meet_9 : decode cX6_meet 9 = .ok (.iload_n 2, 1) := dk_28 (dk_at dksX6_meet_0 9 rfl rfl)
theorem dX6_meet_10 : decode cX6_meet 10 = .ok (.invokevirtual 186, 3) := dk_182 0 186 (dk_at dksX6_meet_0 10 rfl rfl)
theorem dX6_meet_13 : decode cX6_meet 13 = .ok (.ifCond .eq 18, 3) := dk_153 0 18 (dk_at dksX6_meet_0 13 rfl rfl)
theorem dX6_meet_16 : decode cX6_meet 16 = .ok (.iload_n 1, 1) := dk_27 (dk_at dksX6_meet_0 16 rfl rfl)
theorem dX6_meet_17 : decode cX6_meet 17 = .ok (.iload_n 2, 1) := dk_28 (dk_at dksX6_meet_0 17 rfl rfl)
theorem dX6_meet_18 : decode cX6_meet 18 = .ok (.if_icmp .eq 13, 3) := dk_159 0 13 (dk_at dksX6_meet_0 18 rfl rfl)
theorem dX6_meet_21 : decode cX6_meet 21 = .ok (.iload_n 3, 1) := dk_29 (dk_at dksX6_meet_0 21 rfl rfl)
theorem dX6_meet_22 : decode cX6_meet 22 = .ok (.iconst 0, 1) := dk_3 (dk_at dksX6_meet_0 22 rfl rfl)
theorem dX6_meet_23 : decode cX6_meet 23 = .ok (.bipush 30, 2) := dk_16 30 (dk_at dksX6_meet_1 0 rfl rfl)
theorem dX6_meet_25 : decode cX6_meet 25 = .ok (.invokestatic 68, 3) := dk_184 0 68 (dk_at dksX6_meet_1 2 rfl rfl)
theorem dX6_meet_28 : decode cX6_meet 28 = .ok (.ifCond .ne 6, 3) := dk_154 0 6 (dk_at dksX6_meet_1 5 rfl rfl)
theorem dX6_meet_31 : decode cX6_meet 31 = .ok (.ldc 76, 2) := dk_18 76 (dk_at dksX6_meet_1 8 rfl rfl)
theorem dX6_meet_33 : decode cX6_meet 33 = .ok (.ireturn, 1) := dk_172 (dk_at dksX6_meet_1 10 rfl rfl)
theorem dX6_meet_34 : decode cX6_meet 34 = .ok (.aload_n 0, 1) := dk_42 (dk_at dksX6_meet_1 11 rfl rfl)
theorem dX6_meet_35 : decode cX6_meet 35 = .ok (.getfield 25, 3) := dk_180 0 25 (dk_at dksX6_meet_1 12 rfl rfl)
theorem dX6_meet_38 : decode cX6_meet 38 = .ok (.iconst 1, 1) := dk_4 (dk_at dksX6_meet_1 15 rfl rfl)
theorem dX6_meet_39 : decode cX6_meet 39 = .ok (.iaload, 1) := dk_46 (dk_at dksX6_meet_1 16 rfl rfl)
theorem dX6_meet_40 : decode cX6_meet 40 = .ok (.bipush 10, 2) := dk_16 10 (dk_at dksX6_meet_1 17 rfl rfl)
theorem dX6_meet_42 : decode cX6_meet 42 = .ok (.if_icmp .ne 6, 3) := dk_160 0 6 (dk_at dksX6_meet_1 19 rfl rfl)
theorem dX6_meet_45 : decode cX6_meet 45 = .ok (.ldc 97, 2) := dk_18 97 (dk_at dksX6_meet_1 22 rfl rfl)
theorem dX6_meet_47 : decode cX6_meet 47 = .ok (.ireturn, 1) := dk_172 (dk_at dksX6_meet_2 0 rfl rfl)
theorem dX6_meet_48 : decode cX6_meet 48 = .ok (.aload_n 0, 1) := dk_42 (dk_at dksX6_meet_2 1 rfl rfl)
theorem dX6_meet_49 : decode cX6_meet 49 = .ok (.invokevirtual 183, 3) := dk_182 0 183 (dk_at dksX6_meet_2 2 rfl rfl)
theorem dX6_meet_52 : decode cX6_meet 52 = .ok (.bipush 22, 2) := dk_16 22 (dk_at dksX6_meet_2 5 rfl rfl)
theorem dX6_meet_54 : decode cX6_meet 54 = .ok (.iconst 3, 1) := dk_6 (dk_at dksX6_meet_2 7 rfl rfl)
theorem dX6_meet_55 : decode cX6_meet 55 = .ok (.aload_n 0, 1) := dk_42 (dk_at dksX6_meet_2 8 rfl rfl)
theorem dX6_meet_56 : decode cX6_meet 56 = .ok (.getfield 25, 3) := dk_180 0 25 (dk_at dksX6_meet_2 9 rfl rfl)
theorem dX6_meet_59 : decode cX6_meet 59 = .ok (.iconst 1, 1) := dk_4 (dk_at dksX6_meet_2 12 rfl rfl)
theorem dX6_meet_60 : decode cX6_meet 60 = .ok (.iaload, 1) := dk_46 (dk_at dksX6_meet_2 13 rfl rfl)
theorem dX6_meet_61 : decode cX6_meet 61 = .ok (.imul, 1) := dk_104 (dk_at dksX6_meet_2 14 rfl rfl)
theorem dX6_meet_62 : decode cX6_meet 62 = .ok (.iadd, 1) := dk_96 (dk_at dksX6_meet_2 15 rfl rfl)
theorem dX6_meet_63 : decode cX6_meet 63 = .ok (.istore 4, 2) := dk_54 4 (dk_at dksX6_meet_2 16 rfl rfl)
theorem dX6_meet_65 : decode cX6_meet 65 = .ok (.aload_n 0, 1) := dk_42 (dk_at dksX6_meet_2 18 rfl rfl)
theorem dX6_meet_66 : decode cX6_meet 66 = .ok (.getfield 25, 3) := dk_180 0 25 (dk_at dksX6_meet_2 19 rfl rfl)
theorem dX6_meet_69 : decode cX6_meet 69 = .ok (.iload 4, 2) := dk_21 4 (dk_at dksX6_meet_2 22 rfl rfl)
theorem dX6_meet_71 : decode cX6_meet 71 = .ok (.iload_n 1, 1) := dk_27 (dk_at dksX6_meet_3 0 rfl rfl)
theorem dX6_meet_72 : decode cX6_meet 72 = .ok (.iastore, 1) := dk_79 (dk_at dksX6_meet_3 1 rfl rfl)
theorem dX6_meet_73 : decode cX6_meet 73 = .ok (.aload_n 0, 1) := dk_42 (dk_at dksX6_meet_3 2 rfl rfl)
theorem dX6_meet_74 : decode cX6_meet 74 = .ok (.getfield 25, 3) := dk_180 0 25 (dk_at dksX6_meet_3 3 rfl rfl)
theorem dX6_meet_77 : decode cX6_meet 77 = .ok (.iload 4, 2) := dk_21 4 (dk_at dksX6_meet_3 6 rfl rfl)
theorem dX6_meet_79 : decode cX6_meet 79 = .ok (.iconst 1, 1) := dk_4 (dk_at dksX6_meet_3 8 rfl rfl)
theorem dX6_meet_80 : decode cX6_meet 80 = .ok (.iadd, 1) := dk_96 (dk_at dksX6_meet_3 9 rfl rfl)
theorem dX6_meet_81 : decode cX6_meet 81 = .ok (.iload_n 2, 1) := dk_28 (dk_at dksX6_meet_3 10 rfl rfl)
theorem dX6_meet_82 : decode cX6_meet 82 = .ok (.iastore, 1) := dk_79 (dk_at dksX6_meet_3 11 rfl rfl)
theorem dX6_meet_83 : decode cX6_meet 83 = .ok (.aload_n 0, 1) := dk_42 (dk_at dksX6_meet_3 12 rfl rfl)
theorem dX6_meet_84 : decode cX6_meet 84 = .ok (.getfield 25, 3) := dk_180 0 25 (dk_at dksX6_meet_3 13 rfl rfl)
theorem dX6_meet_87 : decode cX6_meet 87 = .ok (.iload 4, 2) := dk_21 4 (dk_at dksX6_meet_3 16 rfl rfl)
theorem dX6_meet_89 : decode cX6_meet 89 = .ok (.iconst 2, 1) := dk_5 (dk_at dksX6_meet_3 18 rfl rfl)
theorem dX6_meet_90 : decode cX6_meet 90 = .ok (.iadd, 1) := dk_96 (dk_at dksX6_meet_3 19 rfl rfl)
theorem dX6_meet_91 : decode cX6_meet 91 = .ok (.iload_n 3, 1) := dk_29 (dk_at dksX6_meet_3 20 rfl rfl)
theorem dX6_meet_92 : decode cX6_meet 92 = .ok (.iastore, 1) := dk_79 (dk_at dksX6_meet_3 21 rfl rfl)
theorem dX6_meet_93 : decode cX6_meet 93 = .ok (.aload_n 0, 1) := dk_42 (dk_at dksX6_meet_3 22 rfl rfl)
theorem dX6_meet_94 : decode cX6_meet 94 = .ok (.getfield 25, 3) := dk_180 0 25 (dk_at dksX6_meet_4 0 rfl rfl)
theorem dX6_meet_97 : decode cX6_meet 97 = .ok (.iconst 1, 1) := dk_4 (dk_at dksX6_meet_4 3 rfl rfl)
theorem dX6_meet_98 : decode cX6_meet 98 = .ok (.dup2, 1) := dk_92 (dk_at dksX6_meet_4 4 rfl rfl)
theorem dX6_meet_99 : decode cX6_meet 99 = .ok (.iaload, 1) := dk_46 (dk_at dksX6_meet_4 5 rfl rfl)
theorem dX6_meet_100 : decode cX6_meet 100 = .ok (.iconst 1, 1) := dk_4 (dk_at dksX6_meet_4 6 rfl rfl)
theorem dX6_meet_101 : decode cX6_meet 101 = .ok (.iadd, 1) := dk_96 (dk_at dksX6_meet_4 7 rfl rfl)
theorem dX6_meet_102 : decode cX6_meet 102 = .ok (.iastore, 1) := dk_79 (dk_at dksX6_meet_4 8 rfl rfl)
theorem dX6_meet_103 : decode cX6_meet 103 = .ok (.aload_n 0, 1) := dk_42 (dk_at dksX6_meet_4 9 rfl rfl)
theorem dX6_meet_104 : decode cX6_meet 104 = .ok (.getfield 25, 3) := dk_180 0 25 (dk_at dksX6_meet_4 10 rfl rfl)
theorem dX6_meet_107 : decode cX6_meet 107 = .ok (.iconst 1, 1) := dk_4 (dk_at dksX6_meet_4 13 rfl rfl)
theorem dX6_meet_108 : decode cX6_meet 108 = .ok (.iaload, 1) := dk_46 (dk_at dksX6_meet_4 14 rfl rfl)
theorem dX6_meet_109 : decode cX6_meet 109 = .ok (.ireturn, 1) := dk_172 (dk_at dksX6_meet_4 15 rfl rfl)
abbrev cX6_isPerson : ByteArray := prog_21_method_33_code
def yX6_isPerson : MethodName := ⟨RX6, "isPerson", "(I)Z"⟩
def dkwX6_isPerson_0 : List UInt8 := [27, 3, 42, 180, 0, 25, 3, 46, 4, 100, 184, 0, 68, 172]
abbrev dktX6_isPerson_0 : List UInt8 := dkwX6_isPerson_0 ++ []
theorem dksX6_isPerson_0 : cX6_isPerson.data.toList.drop 0 = dktX6_isPerson_0 := by decide +kernel
theorem dX6_isPerson_0 : decode cX6_isPerson 0 = .ok (.iload_n 1, 1) := dk_27 (dk_at dksX6_isPerson_0 0 rfl rfl)
theorem dX6_isPerson_1 : decode cX6_isPerson 1 = .ok (.iconst 0, 1) := dk_3 (dk_at dksX6_isPerson_0 1 rfl rfl)
theorem dX6_isPerson_2 : decode cX6_isPerson 2 = .ok (.aload_n 0, 1) := dk_42 (dk_at dksX6_isPerson_0 2 rfl rfl)
theorem dX6_isPerson_3 : decode cX6_isPerson 3 = .ok (.getfield 25, 3) := dk_180 0 25 (dk_at dksX6_isPerson_0 3 rfl rfl)
theorem dX6_isPerson_6 : decode cX6_isPerson 6 = .ok (.iconst 0, 1) := dk_3 (dk_at dksX6_isPerson_0 6 rfl rfl)
theorem dX6_isPerson_7 : decode cX6_isPerson 7 = .ok (.iaload, 1) := dk_46 (dk_at dksX6_isPerson_0 7 rfl rfl)
theorem dX6_isPerson_8 : decode cX6_isPerson 8 = .ok (.iconst 1, 1) := dk_4 (dk_at dksX6_isPerson_0 8 rfl rfl)
theorem dX6_isPerson_9 : decode cX6_isPerson 9 = .ok (.isub, 1) := dk_100 (dk_at dksX6_isPerson_0 9 rfl rfl)
theorem dX6_isPerson_10 : decode cX6_isPerson 10 = .ok (.invokestatic 68, 3) := dk_184 0 68 (dk_at dksX6_isPerson_0 10 rfl rfl)
theorem dX6_isPerson_13 : decode cX6_isPerson 13 = .ok (.ireturn, 1) := dk_172 (dk_at dksX6_isPerson_0 13 rfl rfl)
abbrev cX6_notes : ByteArray := prog_21_method_41_code
def yX6_notes : MethodName := ⟨RX6, "notes", "()V"⟩
def dkwX6_notes_3 : List UInt8 := [180, 0, 160, 4, 96, 181, 0, 160, 177]
abbrev dktX6_notes_3 : List UInt8 := dkwX6_notes_3 ++ []
def dkwX6_notes_2 : List UInt8 := [181, 0, 160, 42, 180, 0, 25, 3, 42, 180, 0, 34, 16, 52, 42, 180, 0, 160, 104, 184, 0, 156, 42, 89]
abbrev dktX6_notes_2 : List UInt8 := dkwX6_notes_2 ++ dktX6_notes_3
def dkwX6_notes_1 : List UInt8 := [180, 0, 34, 27, 16, 52, 96, 46, 79, 132, 1, 1, 167, 255, 231, 42, 89, 180, 0, 160, 4, 100]
abbrev dktX6_notes_1 : List UInt8 := dkwX6_notes_1 ++ dktX6_notes_2
def dkwX6_notes_0 : List UInt8 := [42, 180, 0, 160, 16, 16, 160, 0, 43, 3, 60, 27, 17, 3, 12, 162, 0, 24, 42, 180, 0, 34, 27, 42]
abbrev dktX6_notes_0 : List UInt8 := dkwX6_notes_0 ++ dktX6_notes_1
theorem dksX6_notes_0 : cX6_notes.data.toList.drop 0 = dktX6_notes_0 := by decide +kernel
theorem dksX6_notes_1 : cX6_notes.data.toList.drop 24 = dktX6_notes_1 := dk_seg dksX6_notes_0 24 rfl rfl
theorem dksX6_notes_2 : cX6_notes.data.toList.drop 46 = dktX6_notes_2 := dk_seg dksX6_notes_1 22 rfl rfl
theorem dksX6_notes_3 : cX6_notes.data.toList.drop 70 = dktX6_notes_3 := dk_seg dksX6_notes_2 24 rfl rfl
theorem dX6_notes_0 : decode cX6_notes 0 = .ok (.aload_n 0, 1) := dk_42 (dk_at dksX6_notes_0 0 rfl rfl)
theorem dX6_notes_1 : decode cX6_notes 1 = .ok (.getfield 160, 3) := dk_180 0 160 (dk_at dksX6_notes_0 1 rfl rfl)
theorem dX6_notes_4 : decode cX6_notes 4 = .ok (.bipush 16, 2) := dk_16 16 (dk_at dksX6_notes_0 4 rfl rfl)
theorem dX6_notes_6 : decode cX6_notes 6 = .ok (.if_icmp .ne 43, 3) := dk_160 0 43 (dk_at dksX6_notes_0 6 rfl rfl)
theorem dX6_notes_9 : decode cX6_notes 9 = .ok (.iconst 0, 1) := dk_3 (dk_at dksX6_notes_0 9 rfl rfl)
theorem dX6_notes_10 : decode cX6_notes 10 = .ok (.istore_n 1, 1) := dk_60 (dk_at dksX6_notes_0 10 rfl rfl)
theorem dX6_notes_11 : decode cX6_notes 11 = .ok (.iload_n 1, 1) := dk_27 (dk_at dksX6_notes_0 11 rfl rfl)
theorem dX6_notes_12 : decode cX6_notes 12 = .ok (.sipush 780, 3) := dk_17 3 12 (dk_at dksX6_notes_0 12 rfl rfl)
theorem dX6_notes_15 : decode cX6_notes 15 = .ok (.if_icmp .ge 24, 3) := dk_162 0 24 (dk_at dksX6_notes_0 15 rfl rfl)
theorem dX6_notes_18 : decode cX6_notes 18 = .ok (.aload_n 0, 1) := dk_42 (dk_at dksX6_notes_0 18 rfl rfl)
theorem dX6_notes_19 : decode cX6_notes 19 = .ok (.getfield 34, 3) := dk_180 0 34 (dk_at dksX6_notes_0 19 rfl rfl)
theorem dX6_notes_22 : decode cX6_notes 22 = .ok (.iload_n 1, 1) := dk_27 (dk_at dksX6_notes_0 22 rfl rfl)
theorem dX6_notes_23 : decode cX6_notes 23 = .ok (.aload_n 0, 1) := dk_42 (dk_at dksX6_notes_0 23 rfl rfl)
theorem dX6_notes_24 : decode cX6_notes 24 = .ok (.getfield 34, 3) := dk_180 0 34 (dk_at dksX6_notes_1 0 rfl rfl)
theorem dX6_notes_27 : decode cX6_notes 27 = .ok (.iload_n 1, 1) := dk_27 (dk_at dksX6_notes_1 3 rfl rfl)
theorem dX6_notes_28 : decode cX6_notes 28 = .ok (.bipush 52, 2) := dk_16 52 (dk_at dksX6_notes_1 4 rfl rfl)
theorem dX6_notes_30 : decode cX6_notes 30 = .ok (.iadd, 1) := dk_96 (dk_at dksX6_notes_1 6 rfl rfl)
theorem dX6_notes_31 : decode cX6_notes 31 = .ok (.iaload, 1) := dk_46 (dk_at dksX6_notes_1 7 rfl rfl)
theorem dX6_notes_32 : decode cX6_notes 32 = .ok (.iastore, 1) := dk_79 (dk_at dksX6_notes_1 8 rfl rfl)
theorem dX6_notes_33 : decode cX6_notes 33 = .ok (.iinc 1 1, 3) := dk_132 1 1 (dk_at dksX6_notes_1 9 rfl rfl)
theorem dX6_notes_36 : decode cX6_notes 36 = .ok (.goto (-25), 3) := dk_167 255 231 (dk_at dksX6_notes_1 12 rfl rfl)
theorem dX6_notes_39 : decode cX6_notes 39 = .ok (.aload_n 0, 1) := dk_42 (dk_at dksX6_notes_1 15 rfl rfl)
theorem dX6_notes_40 : decode cX6_notes 40 = .ok (.dup, 1) := dk_89 (dk_at dksX6_notes_1 16 rfl rfl)
theorem dX6_notes_41 : decode cX6_notes 41 = .ok (.getfield 160, 3) := dk_180 0 160 (dk_at dksX6_notes_1 17 rfl rfl)
theorem dX6_notes_44 : decode cX6_notes 44 = .ok (.iconst 1, 1) := dk_4 (dk_at dksX6_notes_1 20 rfl rfl)
theorem dX6_notes_45 : decode cX6_notes 45 = .ok (.isub, 1) := dk_100 (dk_at dksX6_notes_1 21 rfl rfl)
theorem dX6_notes_46 : decode cX6_notes 46 = .ok (.putfield 160, 3) := dk_181 0 160 (dk_at dksX6_notes_2 0 rfl rfl)
theorem dX6_notes_49 : decode cX6_notes 49 = .ok (.aload_n 0, 1) := dk_42 (dk_at dksX6_notes_2 3 rfl rfl)
theorem dX6_notes_50 : decode cX6_notes 50 = .ok (.getfield 25, 3) := dk_180 0 25 (dk_at dksX6_notes_2 4 rfl rfl)
theorem dX6_notes_53 : decode cX6_notes 53 = .ok (.iconst 0, 1) := dk_3 (dk_at dksX6_notes_2 7 rfl rfl)
theorem dX6_notes_54 : decode cX6_notes 54 = .ok (.aload_n 0, 1) := dk_42 (dk_at dksX6_notes_2 8 rfl rfl)
theorem dX6_notes_55 : decode cX6_notes 55 = .ok (.getfield 34, 3) := dk_180 0 34 (dk_at dksX6_notes_2 9 rfl rfl)
theorem dX6_notes_58 : decode cX6_notes 58 = .ok (.bipush 52, 2) := dk_16 52 (dk_at dksX6_notes_2 12 rfl rfl)
theorem dX6_notes_60 : decode cX6_notes 60 = .ok (.aload_n 0, 1) := dk_42 (dk_at dksX6_notes_2 14 rfl rfl)
theorem dX6_notes_61 : decode cX6_notes 61 = .ok (.getfield 160, 3) := dk_180 0 160 (dk_at dksX6_notes_2 15 rfl rfl)
theorem dX6_notes_64 : decode cX6_notes 64 = .ok (.imul, 1) := dk_104 (dk_at dksX6_notes_2 18 rfl rfl)
theorem dX6_notes_65 : decode cX6_notes 65 = .ok (.invokestatic 156, 3) := dk_184 0 156 (dk_at dksX6_notes_2 19 rfl rfl)
theorem dX6_notes_68 : decode cX6_notes 68 = .ok (.aload_n 0, 1) := dk_42 (dk_at dksX6_notes_2 22 rfl rfl)
theorem dX6_notes_69 : decode cX6_notes 69 = .ok (.dup, 1) := dk_89 (dk_at dksX6_notes_2 23 rfl rfl)
theorem dX6_notes_70 : decode cX6_notes 70 = .ok (.getfield 160, 3) := dk_180 0 160 (dk_at dksX6_notes_3 0 rfl rfl)
theorem dX6_notes_73 : decode cX6_notes 73 = .ok (.iconst 1, 1) := dk_4 (dk_at dksX6_notes_3 3 rfl rfl)
theorem dX6_notes_74 : decode cX6_notes 74 = .ok (.iadd, 1) := dk_96 (dk_at dksX6_notes_3 4 rfl rfl)
theorem dX6_notes_75 : decode cX6_notes 75 = .ok (.putfield 160, 3) := dk_181 0 160 (dk_at dksX6_notes_3 5 rfl rfl)
theorem dX6_notes_78 : decode cX6_notes 78 = .ok (.return_, 1) := dk_177 (dk_at dksX6_notes_3 8 rfl rfl)
abbrev cX6_part : ByteArray := prog_21_method_44_code
def yX6_part : MethodName := ⟨RX6, "part", "(I)I"⟩
def dkwX6_part_2 : List UInt8 := [167, 255, 231, 42, 180, 0, 25, 4, 92, 46, 4, 100, 79, 42, 180, 0, 25, 4, 46, 172]
abbrev dktX6_part_2 : List UInt8 := dkwX6_part_2 ++ []
def dkwX6_part_1 : List UInt8 := [96, 16, 52, 162, 0, 23, 42, 180, 0, 25, 28, 42, 180, 0, 25, 28, 6, 96, 46, 79, 132, 2, 1]
abbrev dktX6_part_1 : List UInt8 := dkwX6_part_1 ++ dktX6_part_2
def dkwX6_part_0 : List UInt8 := [42, 27, 182, 0, 189, 154, 0, 6, 18, 76, 172, 42, 182, 0, 183, 16, 22, 6, 27, 104, 96, 61, 28, 6]
abbrev dktX6_part_0 : List UInt8 := dkwX6_part_0 ++ dktX6_part_1
theorem dksX6_part_0 : cX6_part.data.toList.drop 0 = dktX6_part_0 := by decide +kernel
theorem dksX6_part_1 : cX6_part.data.toList.drop 24 = dktX6_part_1 := dk_seg dksX6_part_0 24 rfl rfl
theorem dksX6_part_2 : cX6_part.data.toList.drop 47 = dktX6_part_2 := dk_seg dksX6_part_1 23 rfl rfl
theorem dX6_part_0 : decode cX6_part 0 = .ok (.aload_n 0, 1) := dk_42 (dk_at dksX6_part_0 0 rfl rfl)
theorem dX6_part_1 : decode cX6_part 1 = .ok (.iload_n 1, 1) := dk_27 (dk_at dksX6_part_0 1 rfl rfl)
theorem dX6_part_2 : decode cX6_part 2 = .ok (.invokevirtual 189, 3) := dk_182 0 189 (dk_at dksX6_part_0 2 rfl rfl)
theorem dX6_part_5 : decode cX6_part 5 = .ok (.ifCond .ne 6, 3) := dk_154 0 6 (dk_at dksX6_part_0 5 rfl rfl)
theorem dX6_part_8 : decode cX6_part 8 = .ok (.ldc 76, 2) := dk_18 76 (dk_at dksX6_part_0 8 rfl rfl)
theorem dX6_part_10 : decode cX6_part 10 = .ok (.ireturn, 1) := dk_172 (dk_at dksX6_part_0 10 rfl rfl)
theorem dX6_part_11 : decode cX6_part 11 = .ok (.aload_n 0, 1) := dk_42 (dk_at dksX6_part_0 11 rfl rfl)
theorem dX6_part_12 : decode cX6_part 12 = .ok (.invokevirtual 183, 3) := dk_182 0 183 (dk_at dksX6_part_0 12 rfl rfl)
theorem dX6_part_15 : decode cX6_part 15 = .ok (.bipush 22, 2) := dk_16 22 (dk_at dksX6_part_0 15 rfl rfl)
theorem dX6_part_17 : decode cX6_part 17 = .ok (.iconst 3, 1) := dk_6 (dk_at dksX6_part_0 17 rfl rfl)
theorem dX6_part_18 : decode cX6_part 18 = .ok (.iload_n 1, 1) := dk_27 (dk_at dksX6_part_0 18 rfl rfl)
theorem dX6_part_19 : decode cX6_part 19 = .ok (.imul, 1) := dk_104 (dk_at dksX6_part_0 19 rfl rfl)
theorem dX6_part_20 : decode cX6_part 20 = .ok (.iadd, 1) := dk_96 (dk_at dksX6_part_0 20 rfl rfl)
theorem dX6_part_21 : decode cX6_part 21 = .ok (.istore_n 2, 1) := dk_61 (dk_at dksX6_part_0 21 rfl rfl)
theorem dX6_part_22 : decode cX6_part 22 = .ok (.iload_n 2, 1) := dk_28 (dk_at dksX6_part_0 22 rfl rfl)
theorem dX6_part_23 : decode cX6_part 23 = .ok (.iconst 3, 1) := dk_6 (dk_at dksX6_part_0 23 rfl rfl)
theorem dX6_part_24 : decode cX6_part 24 = .ok (.iadd, 1) := dk_96 (dk_at dksX6_part_1 0 rfl rfl)
theorem dX6_part_25 : decode cX6_part 25 = .ok (.bipush 52, 2) := dk_16 52 (dk_at dksX6_part_1 1 rfl rfl)
theorem dX6_part_27 : decode cX6_part 27 = .ok (.if_icmp .ge 23, 3) := dk_162 0 23 (dk_at dksX6_part_1 3 rfl rfl)
theorem dX6_part_30 : decode cX6_part 30 = .ok (.aload_n 0, 1) := dk_42 (dk_at dksX6_part_1 6 rfl rfl)
theorem dX6_part_31 : decode cX6_part 31 = .ok (.getfield 25, 3) := dk_180 0 25 (dk_at dksX6_part_1 7 rfl rfl)
theorem dX6_part_34 : decode cX6_part 34 = .ok (.iload_n 2, 1) := dk_28 (dk_at dksX6_part_1 10 rfl rfl)
theorem dX6_part_35 : decode cX6_part 35 = .ok (.aload_n 0, 1) := dk_42 (dk_at dksX6_part_1 11 rfl rfl)
theorem dX6_part_36 : decode cX6_part 36 = .ok (.getfield 25, 3) := dk_180 0 25 (dk_at dksX6_part_1 12 rfl rfl)
theorem dX6_part_39 : decode cX6_part 39 = .ok (.iload_n 2, 1) := dk_28 (dk_at dksX6_part_1 15 rfl rfl)
theorem dX6_part_40 : decode cX6_part 40 = .ok (.iconst 3, 1) := dk_6 (dk_at dksX6_part_1 16 rfl rfl)
theorem dX6_part_41 : decode cX6_part 41 = .ok (.iadd, 1) := dk_96 (dk_at dksX6_part_1 17 rfl rfl)
theorem dX6_part_42 : decode cX6_part 42 = .ok (.iaload, 1) := dk_46 (dk_at dksX6_part_1 18 rfl rfl)
theorem dX6_part_43 : decode cX6_part 43 = .ok (.iastore, 1) := dk_79 (dk_at dksX6_part_1 19 rfl rfl)
theorem dX6_part_44 : decode cX6_part 44 = .ok (.iinc 2 1, 3) := dk_132 2 1 (dk_at dksX6_part_1 20 rfl rfl)
theorem dX6_part_47 : decode cX6_part 47 = .ok (.goto (-25), 3) := dk_167 255 231 (dk_at dksX6_part_2 0 rfl rfl)
theorem dX6_part_50 : decode cX6_part 50 = .ok (.aload_n 0, 1) := dk_42 (dk_at dksX6_part_2 3 rfl rfl)
theorem dX6_part_51 : decode cX6_part 51 = .ok (.getfield 25, 3) := dk_180 0 25 (dk_at dksX6_part_2 4 rfl rfl)
theorem dX6_part_54 : decode cX6_part 54 = .ok (.iconst 1, 1) := dk_4 (dk_at dksX6_part_2 7 rfl rfl)
theorem dX6_part_55 : decode cX6_part 55 = .ok (.dup2, 1) := dk_92 (dk_at dksX6_part_2 8 rfl rfl)
theorem dX6_part_56 : decode cX6_part 56 = .ok (.iaload, 1) := dk_46 (dk_at dksX6_part_2 9 rfl rfl)
theorem dX6_part_57 : decode cX6_part 57 = .ok (.iconst 1, 1) := dk_4 (dk_at dksX6_part_2 10 rfl rfl)
theorem dX6_part_58 : decode cX6_part 58 = .ok (.isub, 1) := dk_100 (dk_at dksX6_part_2 11 rfl rfl)
theorem dX6_part_59 : decode cX6_part 59 = .ok (.iastore, 1) := dk_79 (dk_at dksX6_part_2 12 rfl rfl)
theorem dX6_part_60 : decode cX6_part 60 = .ok (.aload_n 0, 1) := dk_42 (dk_at dksX6_part_2 13 rfl rfl)
theorem dX6_part_61 : decode cX6_part 61 = .ok (.getfield 25, 3) := dk_180 0 25 (dk_at dksX6_part_2 14 rfl rfl)
theorem dX6_part_64 : decode cX6_part 64 = .ok (.iconst 1, 1) := dk_4 (dk_at dksX6_part_2 17 rfl rfl)
theorem dX6_part_65 : decode cX6_part 65 = .ok (.iaload, 1) := dk_46 (dk_at dksX6_part_2 18 rfl rfl)
theorem dX6_part_66 : decode cX6_part 66 = .ok (.ireturn, 1) := dk_172 (dk_at dksX6_part_2 19 rfl rfl)
abbrev cX6_isContact : ByteArray := prog_21_method_34_code
def yX6_isContact : MethodName := ⟨RX6, "isContact", "(I)Z"⟩
def dkwX6_isContact_0 : List UInt8 := [27, 3, 42, 180, 0, 25, 4, 46, 4, 100, 184, 0, 68, 172]
abbrev dktX6_isContact_0 : List UInt8 := dkwX6_isContact_0 ++ []
theorem dksX6_isContact_0 : cX6_isContact.data.toList.drop 0 = dktX6_isContact_0 := by decide +kernel
theorem dX6_isContact_0 : decode cX6_isContact 0 = .ok (.iload_n 1, 1) := dk_27 (dk_at dksX6_isContact_0 0 rfl rfl)
theorem dX6_isContact_1 : decode cX6_isContact 1 = .ok (.iconst 0, 1) := dk_3 (dk_at dksX6_isContact_0 1 rfl rfl)
theorem dX6_isContact_2 : decode cX6_isContact 2 = .ok (.aload_n 0, 1) := dk_42 (dk_at dksX6_isContact_0 2 rfl rfl)
theorem dX6_isContact_3 : decode cX6_isContact 3 = .ok (.getfield 25, 3) := dk_180 0 25 (dk_at dksX6_isContact_0 3 rfl rfl)
theorem dX6_isContact_6 : decode cX6_isContact 6 = .ok (.iconst 1, 1) := dk_4 (dk_at dksX6_isContact_0 6 rfl rfl)
theorem dX6_isContact_7 : decode cX6_isContact 7 = .ok (.iaload, 1) := dk_46 (dk_at dksX6_isContact_0 7 rfl rfl)
theorem dX6_isContact_8 : decode cX6_isContact 8 = .ok (.iconst 1, 1) := dk_4 (dk_at dksX6_isContact_0 8 rfl rfl)
theorem dX6_isContact_9 : decode cX6_isContact 9 = .ok (.isub, 1) := dk_100 (dk_at dksX6_isContact_0 9 rfl rfl)
theorem dX6_isContact_10 : decode cX6_isContact 10 = .ok (.invokestatic 68, 3) := dk_184 0 68 (dk_at dksX6_isContact_0 10 rfl rfl)
theorem dX6_isContact_13 : decode cX6_isContact 13 = .ok (.ireturn, 1) := dk_172 (dk_at dksX6_isContact_0 13 rfl rfl)
abbrev cX6_date : ByteArray := prog_21_method_45_code
def yX6_date : MethodName := ⟨RX6, "date", "(II)I"⟩
def dkwX6_date_2 : List UInt8 := [182, 0, 193, 172]
abbrev dktX6_date_2 : List UInt8 := dkwX6_date_2 ++ []
def dkwX6_date_1 : List UInt8 := [27, 104, 96, 5, 96, 62, 42, 180, 0, 25, 29, 46, 28, 160, 0, 8, 18, 192, 167, 0, 9, 42, 29, 28]
abbrev dktX6_date_1 : List UInt8 := dkwX6_date_1 ++ dktX6_date_2
def dkwX6_date_0 : List UInt8 := [42, 27, 182, 0, 189, 153, 0, 13, 28, 3, 16, 30, 184, 0, 68, 154, 0, 6, 18, 76, 172, 16, 22, 6]
abbrev dktX6_date_0 : List UInt8 := dkwX6_date_0 ++ dktX6_date_1
theorem dksX6_date_0 : cX6_date.data.toList.drop 0 = dktX6_date_0 := by decide +kernel
theorem dksX6_date_1 : cX6_date.data.toList.drop 24 = dktX6_date_1 := dk_seg dksX6_date_0 24 rfl rfl
theorem dksX6_date_2 : cX6_date.data.toList.drop 48 = dktX6_date_2 := dk_seg dksX6_date_1 24 rfl rfl
theorem dX6_date_0 : decode cX6_date 0 = .ok (.aload_n 0, 1) := dk_42 (dk_at dksX6_date_0 0 rfl rfl)
theorem dX6_date_1 : decode cX6_date 1 = .ok (.iload_n 1, 1) := dk_27 (dk_at dksX6_date_0 1 rfl rfl)
theorem dX6_date_2 : decode cX6_date 2 = .ok (.invokevirtual 189, 3) := dk_182 0 189 (dk_at dksX6_date_0 2 rfl rfl)
theorem dX6_date_5 : decode cX6_date 5 = .ok (.ifCond .eq 13, 3) := dk_153 0 13 (dk_at dksX6_date_0 5 rfl rfl)
theorem dX6_date_8 : decode cX6_date 8 = .ok (.iload_n 2, 1) := dk_28 (dk_at dksX6_date_0 8 rfl rfl)
theorem dX6_date_9 : decode cX6_date 9 = .ok (.iconst 0, 1) := dk_3 (dk_at dksX6_date_0 9 rfl rfl)
theorem dX6_date_10 : decode cX6_date 10 = .ok (.bipush 30, 2) := dk_16 30 (dk_at dksX6_date_0 10 rfl rfl)
theorem dX6_date_12 : decode cX6_date 12 = .ok (.invokestatic 68, 3) := dk_184 0 68 (dk_at dksX6_date_0 12 rfl rfl)
theorem dX6_date_15 : decode cX6_date 15 = .ok (.ifCond .ne 6, 3) := dk_154 0 6 (dk_at dksX6_date_0 15 rfl rfl)
theorem dX6_date_18 : decode cX6_date 18 = .ok (.ldc 76, 2) := dk_18 76 (dk_at dksX6_date_0 18 rfl rfl)
theorem dX6_date_20 : decode cX6_date 20 = .ok (.ireturn, 1) := dk_172 (dk_at dksX6_date_0 20 rfl rfl)
theorem dX6_date_21 : decode cX6_date 21 = .ok (.bipush 22, 2) := dk_16 22 (dk_at dksX6_date_0 21 rfl rfl)
theorem dX6_date_23 : decode cX6_date 23 = .ok (.iconst 3, 1) := dk_6 (dk_at dksX6_date_0 23 rfl rfl)
theorem dX6_date_24 : decode cX6_date 24 = .ok (.iload_n 1, 1) := dk_27 (dk_at dksX6_date_1 0 rfl rfl)
theorem dX6_date_25 : decode cX6_date 25 = .ok (.imul, 1) := dk_104 (dk_at dksX6_date_1 1 rfl rfl)
theorem dX6_date_26 : decode cX6_date 26 = .ok (.iadd, 1) := dk_96 (dk_at dksX6_date_1 2 rfl rfl)
theorem dX6_date_27 : decode cX6_date 27 = .ok (.iconst 2, 1) := dk_5 (dk_at dksX6_date_1 3 rfl rfl)
theorem dX6_date_28 : decode cX6_date 28 = .ok (.iadd, 1) := dk_96 (dk_at dksX6_date_1 4 rfl rfl)
theorem dX6_date_29 : decode cX6_date 29 = .ok (.istore_n 3, 1) := dk_62 (dk_at dksX6_date_1 5 rfl rfl)
theorem dX6_date_30 : decode cX6_date 30 = .ok (.aload_n 0, 1) := dk_42 (dk_at dksX6_date_1 6 rfl rfl)
theorem dX6_date_31 : decode cX6_date 31 = .ok (.getfield 25, 3) := dk_180 0 25 (dk_at dksX6_date_1 7 rfl rfl)
theorem dX6_date_34 : decode cX6_date 34 = .ok (.iload_n 3, 1) := dk_29 (dk_at dksX6_date_1 10 rfl rfl)
theorem dX6_date_35 : decode cX6_date 35 = .ok (.iaload, 1) := dk_46 (dk_at dksX6_date_1 11 rfl rfl)
theorem dX6_date_36 : decode cX6_date 36 = .ok (.iload_n 2, 1) := dk_28 (dk_at dksX6_date_1 12 rfl rfl)
theorem dX6_date_37 : decode cX6_date 37 = .ok (.if_icmp .ne 8, 3) := dk_160 0 8 (dk_at dksX6_date_1 13 rfl rfl)
theorem dX6_date_40 : decode cX6_date 40 = .ok (.ldc 192, 2) := dk_18 192 (dk_at dksX6_date_1 16 rfl rfl)
theorem dX6_date_42 : decode cX6_date 42 = .ok (.goto 9, 3) := dk_167 0 9 (dk_at dksX6_date_1 18 rfl rfl)
theorem dX6_date_45 : decode cX6_date 45 = .ok (.aload_n 0, 1) := dk_42 (dk_at dksX6_date_1 21 rfl rfl)
theorem dX6_date_46 : decode cX6_date 46 = .ok (.iload_n 3, 1) := dk_29 (dk_at dksX6_date_1 22 rfl rfl)
theorem dX6_date_47 : decode cX6_date 47 = .ok (.iload_n 2, 1) := dk_28 (dk_at dksX6_date_1 23 rfl rfl)
theorem dX6_date_48 : decode cX6_date 48 = .ok (.invokevirtual 193, 3) := dk_182 0 193 (dk_at dksX6_date_2 0 rfl rfl)
theorem dX6_date_51 : decode cX6_date 51 = .ok (.ireturn, 1) := dk_172 (dk_at dksX6_date_2 3 rfl rfl)
abbrev cX6_becomes : ByteArray := prog_21_method_42_code
def yX6_becomes : MethodName := ⟨RX6, "becomes", "(II)I"⟩
def dkwX6_becomes_0 : List UInt8 := [42, 182, 0, 183, 42, 180, 0, 25, 27, 46, 62, 42, 180, 0, 25, 27, 28, 79, 29, 172]
abbrev dktX6_becomes_0 : List UInt8 := dkwX6_becomes_0 ++ []
theorem dksX6_becomes_0 : cX6_becomes.data.toList.drop 0 = dktX6_becomes_0 := by decide +kernel
theorem dX6_becomes_0 : decode cX6_becomes 0 = .ok (.aload_n 0, 1) := dk_42 (dk_at dksX6_becomes_0 0 rfl rfl)
theorem dX6_becomes_1 : decode cX6_becomes 1 = .ok (.invokevirtual 183, 3) := dk_182 0 183 (dk_at dksX6_becomes_0 1 rfl rfl)
theorem dX6_becomes_4 : decode cX6_becomes 4 = .ok (.aload_n 0, 1) := dk_42 (dk_at dksX6_becomes_0 4 rfl rfl)
theorem dX6_becomes_5 : decode cX6_becomes 5 = .ok (.getfield 25, 3) := dk_180 0 25 (dk_at dksX6_becomes_0 5 rfl rfl)
theorem dX6_becomes_8 : decode cX6_becomes 8 = .ok (.iload_n 1, 1) := dk_27 (dk_at dksX6_becomes_0 8 rfl rfl)
theorem dX6_becomes_9 : decode cX6_becomes 9 = .ok (.iaload, 1) := dk_46 (dk_at dksX6_becomes_0 9 rfl rfl)
theorem dX6_becomes_10 : decode cX6_becomes 10 = .ok (.istore_n 3, 1) := dk_62 (dk_at dksX6_becomes_0 10 rfl rfl)
theorem dX6_becomes_11 : decode cX6_becomes 11 = .ok (.aload_n 0, 1) := dk_42 (dk_at dksX6_becomes_0 11 rfl rfl)
theorem dX6_becomes_12 : decode cX6_becomes 12 = .ok (.getfield 25, 3) := dk_180 0 25 (dk_at dksX6_becomes_0 12 rfl rfl)
theorem dX6_becomes_15 : decode cX6_becomes 15 = .ok (.iload_n 1, 1) := dk_27 (dk_at dksX6_becomes_0 15 rfl rfl)
theorem dX6_becomes_16 : decode cX6_becomes 16 = .ok (.iload_n 2, 1) := dk_28 (dk_at dksX6_becomes_0 16 rfl rfl)
theorem dX6_becomes_17 : decode cX6_becomes 17 = .ok (.iastore, 1) := dk_79 (dk_at dksX6_becomes_0 17 rfl rfl)
theorem dX6_becomes_18 : decode cX6_becomes 18 = .ok (.iload_n 3, 1) := dk_29 (dk_at dksX6_becomes_0 18 rfl rfl)
theorem dX6_becomes_19 : decode cX6_becomes 19 = .ok (.ireturn, 1) := dk_172 (dk_at dksX6_becomes_0 19 rfl rfl)
abbrev cX6_ill : ByteArray := prog_21_method_46_code
def yX6_ill : MethodName := ⟨RX6, "ill", "(II)I"⟩
def dkwX6_ill_2 : List UInt8 := [182, 0, 193, 172]
abbrev dktX6_ill_2 : List UInt8 := dkwX6_ill_2 ++ []
def dkwX6_ill_1 : List UInt8 := [104, 96, 4, 96, 62, 42, 180, 0, 25, 29, 46, 28, 160, 0, 8, 18, 192, 167, 0, 9, 42, 29, 28]
abbrev dktX6_ill_1 : List UInt8 := dkwX6_ill_1 ++ dktX6_ill_2
def dkwX6_ill_0 : List UInt8 := [42, 27, 182, 0, 186, 153, 0, 13, 28, 2, 16, 30, 184, 0, 68, 154, 0, 6, 18, 76, 172, 7, 5, 27]
abbrev dktX6_ill_0 : List UInt8 := dkwX6_ill_0 ++ dktX6_ill_1
theorem dksX6_ill_0 : cX6_ill.data.toList.drop 0 = dktX6_ill_0 := by decide +kernel
theorem dksX6_ill_1 : cX6_ill.data.toList.drop 24 = dktX6_ill_1 := dk_seg dksX6_ill_0 24 rfl rfl
theorem dksX6_ill_2 : cX6_ill.data.toList.drop 47 = dktX6_ill_2 := dk_seg dksX6_ill_1 23 rfl rfl
theorem dX6_ill_0 : decode cX6_ill 0 = .ok (.aload_n 0, 1) := dk_42 (dk_at dksX6_ill_0 0 rfl rfl)
theorem dX6_ill_1 : decode cX6_ill 1 = .ok (.iload_n 1, 1) := dk_27 (dk_at dksX6_ill_0 1 rfl rfl)
theorem dX6_ill_2 : decode cX6_ill 2 = .ok (.invokevirtual 186, 3) := dk_182 0 186 (dk_at dksX6_ill_0 2 rfl rfl)
theorem dX6_ill_5 : decode cX6_ill 5 = .ok (.ifCond .eq 13, 3) := dk_153 0 13 (dk_at dksX6_ill_0 5 rfl rfl)
theorem dX6_ill_8 : decode cX6_ill 8 = .ok (.iload_n 2, 1) := dk_28 (dk_at dksX6_ill_0 8 rfl rfl)
theorem dX6_ill_9 : decode cX6_ill 9 = .ok (.iconst (-1), 1) := dk_2 (dk_at dksX6_ill_0 9 rfl rfl)
theorem dX6_ill_10 : decode cX6_ill 10 = .ok (.bipush 30, 2) := dk_16 30 (dk_at dksX6_ill_0 10 rfl rfl)
theorem dX6_ill_12 : decode cX6_ill 12 = .ok (.invokestatic 68, 3) := dk_184 0 68 (dk_at dksX6_ill_0 12 rfl rfl)
theorem dX6_ill_15 : decode cX6_ill 15 = .ok (.ifCond .ne 6, 3) := dk_154 0 6 (dk_at dksX6_ill_0 15 rfl rfl)
theorem dX6_ill_18 : decode cX6_ill 18 = .ok (.ldc 76, 2) := dk_18 76 (dk_at dksX6_ill_0 18 rfl rfl)
theorem dX6_ill_20 : decode cX6_ill 20 = .ok (.ireturn, 1) := dk_172 (dk_at dksX6_ill_0 20 rfl rfl)
theorem dX6_ill_21 : decode cX6_ill 21 = .ok (.iconst 4, 1) := dk_7 (dk_at dksX6_ill_0 21 rfl rfl)
theorem dX6_ill_22 : decode cX6_ill 22 = .ok (.iconst 2, 1) := dk_5 (dk_at dksX6_ill_0 22 rfl rfl)
theorem dX6_ill_23 : decode cX6_ill 23 = .ok (.iload_n 1, 1) := dk_27 (dk_at dksX6_ill_0 23 rfl rfl)
theorem dX6_ill_24 : decode cX6_ill 24 = .ok (.imul, 1) := dk_104 (dk_at dksX6_ill_1 0 rfl rfl)
theorem dX6_ill_25 : decode cX6_ill 25 = .ok (.iadd, 1) := dk_96 (dk_at dksX6_ill_1 1 rfl rfl)
theorem dX6_ill_26 : decode cX6_ill 26 = .ok (.iconst 1, 1) := dk_4 (dk_at dksX6_ill_1 2 rfl rfl)
theorem dX6_ill_27 : decode cX6_ill 27 = .ok (.iadd, 1) := dk_96 (dk_at dksX6_ill_1 3 rfl rfl)
theorem dX6_ill_28 : decode cX6_ill 28 = .ok (.istore_n 3, 1) := dk_62 (dk_at dksX6_ill_1 4 rfl rfl)
theorem dX6_ill_29 : decode cX6_ill 29 = .ok (.aload_n 0, 1) := dk_42 (dk_at dksX6_ill_1 5 rfl rfl)
theorem dX6_ill_30 : decode cX6_ill 30 = .ok (.getfield 25, 3) := dk_180 0 25 (dk_at dksX6_ill_1 6 rfl rfl)
theorem dX6_ill_33 : decode cX6_ill 33 = .ok (.iload_n 3, 1) := dk_29 (dk_at dksX6_ill_1 9 rfl rfl)
theorem dX6_ill_34 : decode cX6_ill 34 = .ok (.iaload, 1) := dk_46 (dk_at dksX6_ill_1 10 rfl rfl)
theorem dX6_ill_35 : decode cX6_ill 35 = .ok (.iload_n 2, 1) := dk_28 (dk_at dksX6_ill_1 11 rfl rfl)
theorem dX6_ill_36 : decode cX6_ill 36 = .ok (.if_icmp .ne 8, 3) := dk_160 0 8 (dk_at dksX6_ill_1 12 rfl rfl)
theorem dX6_ill_39 : decode cX6_ill 39 = .ok (.ldc 192, 2) := dk_18 192 (dk_at dksX6_ill_1 15 rfl rfl)
theorem dX6_ill_41 : decode cX6_ill 41 = .ok (.goto 9, 3) := dk_167 0 9 (dk_at dksX6_ill_1 17 rfl rfl)
theorem dX6_ill_44 : decode cX6_ill 44 = .ok (.aload_n 0, 1) := dk_42 (dk_at dksX6_ill_1 20 rfl rfl)
theorem dX6_ill_45 : decode cX6_ill 45 = .ok (.iload_n 3, 1) := dk_29 (dk_at dksX6_ill_1 21 rfl rfl)
theorem dX6_ill_46 : decode cX6_ill 46 = .ok (.iload_n 2, 1) := dk_28 (dk_at dksX6_ill_1 22 rfl rfl)
theorem dX6_ill_47 : decode cX6_ill 47 = .ok (.invokevirtual 193, 3) := dk_182 0 193 (dk_at dksX6_ill_2 0 rfl rfl)
theorem dX6_ill_50 : decode cX6_ill 50 = .ok (.ireturn, 1) := dk_172 (dk_at dksX6_ill_2 3 rfl rfl)
abbrev cX6_window : ByteArray := prog_21_method_47_code
def yX6_window : MethodName := ⟨RX6, "window", "(II)I"⟩
def dkwX6_window_2 : List UInt8 := [46, 28, 160, 0, 6, 18, 192, 172, 42, 6, 28, 182, 0, 193, 62, 42, 180, 0, 25, 5, 27, 79, 29, 172]
abbrev dktX6_window_2 : List UInt8 := dkwX6_window_2 ++ []
def dkwX6_window_1 : List UInt8 := [184, 0, 68, 154, 0, 6, 18, 76, 172, 42, 180, 0, 25, 5, 46, 27, 160, 0, 16, 42, 180, 0, 25, 6]
abbrev dktX6_window_1 : List UInt8 := dkwX6_window_1 ++ dktX6_window_2
def dkwX6_window_0 : List UInt8 := [42, 182, 0, 196, 154, 0, 6, 18, 192, 172, 27, 4, 16, 9, 184, 0, 68, 153, 0, 13, 28, 27, 16, 20]
abbrev dktX6_window_0 : List UInt8 := dkwX6_window_0 ++ dktX6_window_1
theorem dksX6_window_0 : cX6_window.data.toList.drop 0 = dktX6_window_0 := by decide +kernel
theorem dksX6_window_1 : cX6_window.data.toList.drop 24 = dktX6_window_1 := dk_seg dksX6_window_0 24 rfl rfl
theorem dksX6_window_2 : cX6_window.data.toList.drop 48 = dktX6_window_2 := dk_seg dksX6_window_1 24 rfl rfl
theorem dX6_window_0 : decode cX6_window 0 = .ok (.aload_n 0, 1) := dk_42 (dk_at dksX6_window_0 0 rfl rfl)
theorem dX6_window_1 : decode cX6_window 1 = .ok (.invokevirtual 196, 3) := dk_182 0 196 (dk_at dksX6_window_0 1 rfl rfl)
theorem dX6_window_4 : decode cX6_window 4 = .ok (.ifCond .ne 6, 3) := dk_154 0 6 (dk_at dksX6_window_0 4 rfl rfl)
theorem dX6_window_7 : decode cX6_window 7 = .ok (.ldc 192, 2) := dk_18 192 (dk_at dksX6_window_0 7 rfl rfl)
theorem dX6_window_9 : decode cX6_window 9 = .ok (.ireturn, 1) := dk_172 (dk_at dksX6_window_0 9 rfl rfl)
theorem dX6_window_10 : decode cX6_window 10 = .ok (.iload_n 1, 1) := dk_27 (dk_at dksX6_window_0 10 rfl rfl)
theorem dX6_window_11 : decode cX6_window 11 = .ok (.iconst 1, 1) := dk_4 (dk_at dksX6_window_0 11 rfl rfl)
theorem dX6_window_12 : decode cX6_window 12 = .ok (.bipush 9, 2) := dk_16 9 (dk_at dksX6_window_0 12 rfl rfl)
theorem dX6_window_14 : decode cX6_window 14 = .ok (.invokestatic 68, 3) := dk_184 0 68 (dk_at dksX6_window_0 14 rfl rfl)
theorem dX6_window_17 : decode cX6_window 17 = .ok (.ifCond .eq 13, 3) := dk_153 0 13 (dk_at dksX6_window_0 17 rfl rfl)
theorem dX6_window_20 : decode cX6_window 20 = .ok (.iload_n 2, 1) := dk_28 (dk_at dksX6_window_0 20 rfl rfl)
theorem dX6_window_21 : decode cX6_window 21 = .ok (.iload_n 1, 1) := dk_27 (dk_at dksX6_window_0 21 rfl rfl)
theorem dX6_window_22 : decode cX6_window 22 = .ok (.bipush 20, 2) := dk_16 20 (dk_at dksX6_window_0 22 rfl rfl)
theorem dX6_window_24 : decode cX6_window 24 = .ok (.invokestatic 68, 3) := dk_184 0 68 (dk_at dksX6_window_1 0 rfl rfl)
theorem dX6_window_27 : decode cX6_window 27 = .ok (.ifCond .ne 6, 3) := dk_154 0 6 (dk_at dksX6_window_1 3 rfl rfl)
theorem dX6_window_30 : decode cX6_window 30 = .ok (.ldc 76, 2) := dk_18 76 (dk_at dksX6_window_1 6 rfl rfl)
theorem dX6_window_32 : decode cX6_window 32 = .ok (.ireturn, 1) := dk_172 (dk_at dksX6_window_1 8 rfl rfl)
theorem dX6_window_33 : decode cX6_window 33 = .ok (.aload_n 0, 1) := dk_42 (dk_at dksX6_window_1 9 rfl rfl)
theorem dX6_window_34 : decode cX6_window 34 = .ok (.getfield 25, 3) := dk_180 0 25 (dk_at dksX6_window_1 10 rfl rfl)
theorem dX6_window_37 : decode cX6_window 37 = .ok (.iconst 2, 1) := dk_5 (dk_at dksX6_window_1 13 rfl rfl)
theorem dX6_window_38 : decode cX6_window 38 = .ok (.iaload, 1) := dk_46 (dk_at dksX6_window_1 14 rfl rfl)
theorem dX6_window_39 : decode cX6_window 39 = .ok (.iload_n 1, 1) := dk_27 (dk_at dksX6_window_1 15 rfl rfl)
theorem dX6_window_40 : decode cX6_window 40 = .ok (.if_icmp .ne 16, 3) := dk_160 0 16 (dk_at dksX6_window_1 16 rfl rfl)
theorem dX6_window_43 : decode cX6_window 43 = .ok (.aload_n 0, 1) := dk_42 (dk_at dksX6_window_1 19 rfl rfl)
theorem dX6_window_44 : decode cX6_window 44 = .ok (.getfield 25, 3) := dk_180 0 25 (dk_at dksX6_window_1 20 rfl rfl)
theorem dX6_window_47 : decode cX6_window 47 = .ok (.iconst 3, 1) := dk_6 (dk_at dksX6_window_1 23 rfl rfl)
theorem dX6_window_48 : decode cX6_window 48 = .ok (.iaload, 1) := dk_46 (dk_at dksX6_window_2 0 rfl rfl)
theorem dX6_window_49 : decode cX6_window 49 = .ok (.iload_n 2, 1) := dk_28 (dk_at dksX6_window_2 1 rfl rfl)
theorem dX6_window_50 : decode cX6_window 50 = .ok (.if_icmp .ne 6, 3) := dk_160 0 6 (dk_at dksX6_window_2 2 rfl rfl)
theorem dX6_window_53 : decode cX6_window 53 = .ok (.ldc 192, 2) := dk_18 192 (dk_at dksX6_window_2 5 rfl rfl)
theorem dX6_window_55 : decode cX6_window 55 = .ok (.ireturn, 1) := dk_172 (dk_at dksX6_window_2 7 rfl rfl)
theorem dX6_window_56 : decode cX6_window 56 = .ok (.aload_n 0, 1) := dk_42 (dk_at dksX6_window_2 8 rfl rfl)
theorem dX6_window_57 : decode cX6_window 57 = .ok (.iconst 3, 1) := dk_6 (dk_at dksX6_window_2 9 rfl rfl)
theorem dX6_window_58 : decode cX6_window 58 = .ok (.iload_n 2, 1) := dk_28 (dk_at dksX6_window_2 10 rfl rfl)
theorem dX6_window_59 : decode cX6_window 59 = .ok (.invokevirtual 193, 3) := dk_182 0 193 (dk_at dksX6_window_2 11 rfl rfl)
theorem dX6_window_62 : decode cX6_window 62 = .ok (.istore_n 3, 1) := dk_62 (dk_at dksX6_window_2 14 rfl rfl)
theorem dX6_window_63 : decode cX6_window 63 = .ok (.aload_n 0, 1) := dk_42 (dk_at dksX6_window_2 15 rfl rfl)
theorem dX6_window_64 : decode cX6_window 64 = .ok (.getfield 25, 3) := dk_180 0 25 (dk_at dksX6_window_2 16 rfl rfl)
theorem dX6_window_67 : decode cX6_window 67 = .ok (.iconst 2, 1) := dk_5 (dk_at dksX6_window_2 19 rfl rfl)
theorem dX6_window_68 : decode cX6_window 68 = .ok (.iload_n 1, 1) := dk_27 (dk_at dksX6_window_2 20 rfl rfl)
theorem dX6_window_69 : decode cX6_window 69 = .ok (.iastore, 1) := dk_79 (dk_at dksX6_window_2 21 rfl rfl)
theorem dX6_window_70 : decode cX6_window 70 = .ok (.iload_n 3, 1) := dk_29 (dk_at dksX6_window_2 22 rfl rfl)
theorem dX6_window_71 : decode cX6_window 71 = .ok (.ireturn, 1) := dk_172 (dk_at dksX6_window_2 23 rfl rfl)
abbrev cX6_isNet : ByteArray := prog_21_method_32_code
def yX6_isNet : MethodName := ⟨RX6, "isNet", "()Z"⟩
def dkwX6_isNet_0 : List UInt8 := [42, 180, 0, 25, 3, 46, 158, 0, 7, 4, 167, 0, 4, 3, 172]
abbrev dktX6_isNet_0 : List UInt8 := dkwX6_isNet_0 ++ []
theorem dksX6_isNet_0 : cX6_isNet.data.toList.drop 0 = dktX6_isNet_0 := by decide +kernel
theorem dX6_isNet_0 : decode cX6_isNet 0 = .ok (.aload_n 0, 1) := dk_42 (dk_at dksX6_isNet_0 0 rfl rfl)
theorem dX6_isNet_1 : decode cX6_isNet 1 = .ok (.getfield 25, 3) := dk_180 0 25 (dk_at dksX6_isNet_0 1 rfl rfl)
theorem dX6_isNet_4 : decode cX6_isNet 4 = .ok (.iconst 0, 1) := dk_3 (dk_at dksX6_isNet_0 4 rfl rfl)
theorem dX6_isNet_5 : decode cX6_isNet 5 = .ok (.iaload, 1) := dk_46 (dk_at dksX6_isNet_0 5 rfl rfl)
theorem dX6_isNet_6 : decode cX6_isNet 6 = .ok (.ifCond .le 7, 3) := dk_158 0 7 (dk_at dksX6_isNet_0 6 rfl rfl)
theorem dX6_isNet_9 : decode cX6_isNet 9 = .ok (.iconst 1, 1) := dk_4 (dk_at dksX6_isNet_0 9 rfl rfl)
theorem dX6_isNet_10 : decode cX6_isNet 10 = .ok (.goto 4, 3) := dk_167 0 4 (dk_at dksX6_isNet_0 10 rfl rfl)
theorem dX6_isNet_13 : decode cX6_isNet 13 = .ok (.iconst 0, 1) := dk_3 (dk_at dksX6_isNet_0 13 rfl rfl)
theorem dX6_isNet_14 : decode cX6_isNet 14 = .ok (.ireturn, 1) := dk_172 (dk_at dksX6_isNet_0 14 rfl rfl)
abbrev cX6_become : ByteArray := prog_21_method_48_code
def yX6_become : MethodName := ⟨RX6, "become", "(II)I"⟩
def dkwX6_become_2 : List UInt8 := [182, 0, 193, 172]
abbrev dktX6_become_2 : List UInt8 := dkwX6_become_2 ++ []
def dkwX6_become_1 : List UInt8 := [7, 5, 27, 104, 96, 46, 28, 160, 0, 8, 18, 192, 167, 0, 13, 42, 7, 5, 27, 104, 96, 28]
abbrev dktX6_become_1 : List UInt8 := dkwX6_become_1 ++ dktX6_become_2
def dkwX6_become_0 : List UInt8 := [42, 27, 182, 0, 186, 153, 0, 12, 28, 4, 8, 184, 0, 68, 154, 0, 6, 18, 76, 172, 42, 180, 0, 25]
abbrev dktX6_become_0 : List UInt8 := dkwX6_become_0 ++ dktX6_become_1
theorem dksX6_become_0 : cX6_become.data.toList.drop 0 = dktX6_become_0 := by decide +kernel
theorem dksX6_become_1 : cX6_become.data.toList.drop 24 = dktX6_become_1 := dk_seg dksX6_become_0 24 rfl rfl
theorem dksX6_become_2 : cX6_become.data.toList.drop 46 = dktX6_become_2 := dk_seg dksX6_become_1 22 rfl rfl
theorem dX6_become_0 : decode cX6_become 0 = .ok (.aload_n 0, 1) := dk_42 (dk_at dksX6_become_0 0 rfl rfl)
theorem dX6_become_1 : decode cX6_become 1 = .ok (.iload_n 1, 1) := dk_27 (dk_at dksX6_become_0 1 rfl rfl)
theorem dX6_become_2 : decode cX6_become 2 = .ok (.invokevirtual 186, 3) := dk_182 0 186 (dk_at dksX6_become_0 2 rfl rfl)
theorem dX6_become_5 : decode cX6_become 5 = .ok (.ifCond .eq 12, 3) := dk_153 0 12 (dk_at dksX6_become_0 5 rfl rfl)
theorem dX6_become_8 : decode cX6_become 8 = .ok (.iload_n 2, 1) := dk_28 (dk_at dksX6_become_0 8 rfl rfl)
theorem dX6_become_9 : decode cX6_become 9 = .ok (.iconst 1, 1) := dk_4 (dk_at dksX6_become_0 9 rfl rfl)
theorem dX6_become_10 : decode cX6_become 10 = .ok (.iconst 5, 1) := dk_8 (dk_at dksX6_become_0 10 rfl rfl)
theorem dX6_become_11 : decode cX6_become 11 = .ok (.invokestatic 68, 3) := dk_184 0 68 (dk_at dksX6_become_0 11 rfl rfl)
theorem dX6_become_14 : decode cX6_become 14 = .ok (.ifCond .ne 6, 3) := dk_154 0 6 (dk_at dksX6_become_0 14 rfl rfl)
theorem dX6_become_17 : decode cX6_become 17 = .ok (.ldc 76, 2) := dk_18 76 (dk_at dksX6_become_0 17 rfl rfl)
theorem dX6_become_19 : decode cX6_become 19 = .ok (.ireturn, 1) := dk_172 (dk_at dksX6_become_0 19 rfl rfl)
theorem dX6_become_20 : decode cX6_become 20 = .ok (.aload_n 0, 1) := dk_42 (dk_at dksX6_become_0 20 rfl rfl)
theorem dX6_become_21 : decode cX6_become 21 = .ok (.getfield 25, 3) := dk_180 0 25 (dk_at dksX6_become_0 21 rfl rfl)
theorem dX6_become_24 : decode cX6_become 24 = .ok (.iconst 4, 1) := dk_7 (dk_at dksX6_become_1 0 rfl rfl)
theorem dX6_become_25 : decode cX6_become 25 = .ok (.iconst 2, 1) := dk_5 (dk_at dksX6_become_1 1 rfl rfl)
theorem dX6_become_26 : decode cX6_become 26 = .ok (.iload_n 1, 1) := dk_27 (dk_at dksX6_become_1 2 rfl rfl)
theorem dX6_become_27 : decode cX6_become 27 = .ok (.imul, 1) := dk_104 (dk_at dksX6_become_1 3 rfl rfl)
theorem dX6_become_28 : decode cX6_become 28 = .ok (.iadd, 1) := dk_96 (dk_at dksX6_become_1 4 rfl rfl)
theorem dX6_become_29 : decode cX6_become 29 = .ok (.iaload, 1) := dk_46 (dk_at dksX6_become_1 5 rfl rfl)
theorem dX6_become_30 : decode cX6_become 30 = .ok (.iload_n 2, 1) := dk_28 (dk_at dksX6_become_1 6 rfl rfl)
theorem dX6_become_31 : decode cX6_become 31 = .ok (.if_icmp .ne 8, 3) := dk_160 0 8 (dk_at dksX6_become_1 7 rfl rfl)
theorem dX6_become_34 : decode cX6_become 34 = .ok (.ldc 192, 2) := dk_18 192 (dk_at dksX6_become_1 10 rfl rfl)
theorem dX6_become_36 : decode cX6_become 36 = .ok (.goto 13, 3) := dk_167 0 13 (dk_at dksX6_become_1 12 rfl rfl)
theorem dX6_become_39 : decode cX6_become 39 = .ok (.aload_n 0, 1) := dk_42 (dk_at dksX6_become_1 15 rfl rfl)
theorem dX6_become_40 : decode cX6_become 40 = .ok (.iconst 4, 1) := dk_7 (dk_at dksX6_become_1 16 rfl rfl)
theorem dX6_become_41 : decode cX6_become 41 = .ok (.iconst 2, 1) := dk_5 (dk_at dksX6_become_1 17 rfl rfl)
theorem dX6_become_42 : decode cX6_become 42 = .ok (.iload_n 1, 1) := dk_27 (dk_at dksX6_become_1 18 rfl rfl)
theorem dX6_become_43 : decode cX6_become 43 = .ok (.imul, 1) := dk_104 (dk_at dksX6_become_1 19 rfl rfl)
theorem dX6_become_44 : decode cX6_become 44 = .ok (.iadd, 1) := dk_96 (dk_at dksX6_become_1 20 rfl rfl)
theorem dX6_become_45 : decode cX6_become 45 = .ok (.iload_n 2, 1) := dk_28 (dk_at dksX6_become_1 21 rfl rfl)
theorem dX6_become_46 : decode cX6_become 46 = .ok (.invokevirtual 193, 3) := dk_182 0 193 (dk_at dksX6_become_2 0 rfl rfl)
theorem dX6_become_49 : decode cX6_become 49 = .ok (.ireturn, 1) := dk_172 (dk_at dksX6_become_2 3 rfl rfl)
abbrev cX6_undo : ByteArray := prog_21_method_49_code
def yX6_undo : MethodName := ⟨RX6, "undo", "()I"⟩
def dkwX6_undo_1 : List UInt8 := [16, 52, 42, 180, 0, 160, 104, 42, 180, 0, 25, 3, 184, 0, 156, 42, 180, 0, 160, 172]
abbrev dktX6_undo_1 : List UInt8 := dkwX6_undo_1 ++ []
def dkwX6_undo_0 : List UInt8 := [42, 180, 0, 160, 154, 0, 6, 18, 192, 172, 42, 89, 180, 0, 160, 4, 100, 181, 0, 160, 42, 180, 0, 34]
abbrev dktX6_undo_0 : List UInt8 := dkwX6_undo_0 ++ dktX6_undo_1
theorem dksX6_undo_0 : cX6_undo.data.toList.drop 0 = dktX6_undo_0 := by decide +kernel
theorem dksX6_undo_1 : cX6_undo.data.toList.drop 24 = dktX6_undo_1 := dk_seg dksX6_undo_0 24 rfl rfl
theorem dX6_undo_0 : decode cX6_undo 0 = .ok (.aload_n 0, 1) := dk_42 (dk_at dksX6_undo_0 0 rfl rfl)
theorem dX6_undo_1 : decode cX6_undo 1 = .ok (.getfield 160, 3) := dk_180 0 160 (dk_at dksX6_undo_0 1 rfl rfl)
theorem dX6_undo_4 : decode cX6_undo 4 = .ok (.ifCond .ne 6, 3) := dk_154 0 6 (dk_at dksX6_undo_0 4 rfl rfl)
theorem dX6_undo_7 : decode cX6_undo 7 = .ok (.ldc 192, 2) := dk_18 192 (dk_at dksX6_undo_0 7 rfl rfl)
theorem dX6_undo_9 : decode cX6_undo 9 = .ok (.ireturn, 1) := dk_172 (dk_at dksX6_undo_0 9 rfl rfl)
theorem dX6_undo_10 : decode cX6_undo 10 = .ok (.aload_n 0, 1) := dk_42 (dk_at dksX6_undo_0 10 rfl rfl)
theorem dX6_undo_11 : decode cX6_undo 11 = .ok (.dup, 1) := dk_89 (dk_at dksX6_undo_0 11 rfl rfl)
theorem dX6_undo_12 : decode cX6_undo 12 = .ok (.getfield 160, 3) := dk_180 0 160 (dk_at dksX6_undo_0 12 rfl rfl)
theorem dX6_undo_15 : decode cX6_undo 15 = .ok (.iconst 1, 1) := dk_4 (dk_at dksX6_undo_0 15 rfl rfl)
theorem dX6_undo_16 : decode cX6_undo 16 = .ok (.isub, 1) := dk_100 (dk_at dksX6_undo_0 16 rfl rfl)
theorem dX6_undo_17 : decode cX6_undo 17 = .ok (.putfield 160, 3) := dk_181 0 160 (dk_at dksX6_undo_0 17 rfl rfl)
theorem dX6_undo_20 : decode cX6_undo 20 = .ok (.aload_n 0, 1) := dk_42 (dk_at dksX6_undo_0 20 rfl rfl)
theorem dX6_undo_21 : decode cX6_undo 21 = .ok (.getfield 34, 3) := dk_180 0 34 (dk_at dksX6_undo_0 21 rfl rfl)
theorem dX6_undo_24 : decode cX6_undo 24 = .ok (.bipush 52, 2) := dk_16 52 (dk_at dksX6_undo_1 0 rfl rfl)
theorem dX6_undo_26 : decode cX6_undo 26 = .ok (.aload_n 0, 1) := dk_42 (dk_at dksX6_undo_1 2 rfl rfl)
theorem dX6_undo_27 : decode cX6_undo 27 = .ok (.getfield 160, 3) := dk_180 0 160 (dk_at dksX6_undo_1 3 rfl rfl)
theorem dX6_undo_30 : decode cX6_undo 30 = .ok (.imul, 1) := dk_104 (dk_at dksX6_undo_1 6 rfl rfl)
theorem dX6_undo_31 : decode cX6_undo 31 = .ok (.aload_n 0, 1) := dk_42 (dk_at dksX6_undo_1 7 rfl rfl)
theorem dX6_undo_32 : decode cX6_undo 32 = .ok (.getfield 25, 3) := dk_180 0 25 (dk_at dksX6_undo_1 8 rfl rfl)
theorem dX6_undo_35 : decode cX6_undo 35 = .ok (.iconst 0, 1) := dk_3 (dk_at dksX6_undo_1 11 rfl rfl)
theorem dX6_undo_36 : decode cX6_undo 36 = .ok (.invokestatic 156, 3) := dk_184 0 156 (dk_at dksX6_undo_1 12 rfl rfl)
theorem dX6_undo_39 : decode cX6_undo 39 = .ok (.aload_n 0, 1) := dk_42 (dk_at dksX6_undo_1 15 rfl rfl)
theorem dX6_undo_40 : decode cX6_undo 40 = .ok (.getfield 160, 3) := dk_180 0 160 (dk_at dksX6_undo_1 16 rfl rfl)
theorem dX6_undo_43 : decode cX6_undo 43 = .ok (.ireturn, 1) := dk_172 (dk_at dksX6_undo_1 19 rfl rfl)
abbrev cX6_person : ByteArray := prog_21_method_50_code
def yX6_person : MethodName := ⟨RX6, "person", "(II)I"⟩
def dkwX6_person_3 : List UInt8 := [42, 180, 0, 25, 27, 182, 0, 199, 172, 18, 76, 172]
abbrev dktX6_person_3 : List UInt8 := dkwX6_person_3 ++ []
def dkwX6_person_2 : List UInt8 := [42, 180, 0, 25, 27, 28, 184, 0, 163, 172, 42, 180, 0, 25, 7, 5, 27, 104, 96, 4, 96, 46, 172, 42]
abbrev dktX6_person_2 : List UInt8 := dkwX6_person_2 ++ dktX6_person_3
def dkwX6_person_1 : List UInt8 := [170, 0, 0, 0, 0, 0, 0, 65, 0, 0, 0, 0, 0, 0, 0, 3, 0, 0, 0, 32, 0, 0, 0, 32, 0, 0, 0, 42, 0, 0, 0, 55]
abbrev dktX6_person_1 : List UInt8 := dkwX6_person_1 ++ dktX6_person_2
def dkwX6_person_0 : List UInt8 := [42, 27, 182, 0, 186, 154, 0, 6, 18, 76, 172, 28]
abbrev dktX6_person_0 : List UInt8 := dkwX6_person_0 ++ dktX6_person_1
theorem dksX6_person_0 : cX6_person.data.toList.drop 0 = dktX6_person_0 := by decide +kernel
theorem dksX6_person_1 : cX6_person.data.toList.drop 12 = dktX6_person_1 := dk_seg dksX6_person_0 12 rfl rfl
theorem dksX6_person_2 : cX6_person.data.toList.drop 44 = dktX6_person_2 := dk_seg dksX6_person_1 32 rfl rfl
theorem dksX6_person_3 : cX6_person.data.toList.drop 68 = dktX6_person_3 := dk_seg dksX6_person_2 24 rfl rfl
theorem dX6_person_0 : decode cX6_person 0 = .ok (.aload_n 0, 1) := dk_42 (dk_at dksX6_person_0 0 rfl rfl)
theorem dX6_person_1 : decode cX6_person 1 = .ok (.iload_n 1, 1) := dk_27 (dk_at dksX6_person_0 1 rfl rfl)
theorem dX6_person_2 : decode cX6_person 2 = .ok (.invokevirtual 186, 3) := dk_182 0 186 (dk_at dksX6_person_0 2 rfl rfl)
theorem dX6_person_5 : decode cX6_person 5 = .ok (.ifCond .ne 6, 3) := dk_154 0 6 (dk_at dksX6_person_0 5 rfl rfl)
theorem dX6_person_8 : decode cX6_person 8 = .ok (.ldc 76, 2) := dk_18 76 (dk_at dksX6_person_0 8 rfl rfl)
theorem dX6_person_10 : decode cX6_person 10 = .ok (.ireturn, 1) := dk_172 (dk_at dksX6_person_0 10 rfl rfl)
theorem dX6_person_11 : decode cX6_person 11 = .ok (.iload_n 2, 1) := dk_28 (dk_at dksX6_person_0 11 rfl rfl)
theorem dX6_person_12 : decode cX6_person 12 = .ok (.tableswitch 65 0 3 #[32, 32, 42, 55], 32) := by decide +kernel
theorem dX6_person_44 : decode cX6_person 44 = .ok (.aload_n 0, 1) := dk_42 (dk_at dksX6_person_2 0 rfl rfl)
theorem dX6_person_45 : decode cX6_person 45 = .ok (.getfield 25, 3) := dk_180 0 25 (dk_at dksX6_person_2 1 rfl rfl)
theorem dX6_person_48 : decode cX6_person 48 = .ok (.iload_n 1, 1) := dk_27 (dk_at dksX6_person_2 4 rfl rfl)
theorem dX6_person_49 : decode cX6_person 49 = .ok (.iload_n 2, 1) := dk_28 (dk_at dksX6_person_2 5 rfl rfl)
theorem dX6_person_50 : decode cX6_person 50 = .ok (.invokestatic 163, 3) := dk_184 0 163 (dk_at dksX6_person_2 6 rfl rfl)
theorem dX6_person_53 : decode cX6_person 53 = .ok (.ireturn, 1) := dk_172 (dk_at dksX6_person_2 9 rfl rfl)
theorem dX6_person_54 : decode cX6_person 54 = .ok (.aload_n 0, 1) := dk_42 (dk_at dksX6_person_2 10 rfl rfl)
theorem dX6_person_55 : decode cX6_person 55 = .ok (.getfield 25, 3) := dk_180 0 25 (dk_at dksX6_person_2 11 rfl rfl)
theorem dX6_person_58 : decode cX6_person 58 = .ok (.iconst 4, 1) := dk_7 (dk_at dksX6_person_2 14 rfl rfl)
theorem dX6_person_59 : decode cX6_person 59 = .ok (.iconst 2, 1) := dk_5 (dk_at dksX6_person_2 15 rfl rfl)
theorem dX6_person_60 : decode cX6_person 60 = .ok (.iload_n 1, 1) := dk_27 (dk_at dksX6_person_2 16 rfl rfl)
theorem dX6_person_61 : decode cX6_person 61 = .ok (.imul, 1) := dk_104 (dk_at dksX6_person_2 17 rfl rfl)
theorem dX6_person_62 : decode cX6_person 62 = .ok (.iadd, 1) := dk_96 (dk_at dksX6_person_2 18 rfl rfl)
theorem dX6_person_63 : decode cX6_person 63 = .ok (.iconst 1, 1) := dk_4 (dk_at dksX6_person_2 19 rfl rfl)
theorem dX6_person_64 : decode cX6_person 64 = .ok (.iadd, 1) := dk_96 (dk_at dksX6_person_2 20 rfl rfl)
theorem dX6_person_65 : decode cX6_person 65 = .ok (.iaload, 1) := dk_46 (dk_at dksX6_person_2 21 rfl rfl)
theorem dX6_person_66 : decode cX6_person 66 = .ok (.ireturn, 1) := dk_172 (dk_at dksX6_person_2 22 rfl rfl)
theorem dX6_person_67 : decode cX6_person 67 = .ok (.aload_n 0, 1) := dk_42 (dk_at dksX6_person_2 23 rfl rfl)
theorem dX6_person_68 : decode cX6_person 68 = .ok (.aload_n 0, 1) := dk_42 (dk_at dksX6_person_3 0 rfl rfl)
theorem dX6_person_69 : decode cX6_person 69 = .ok (.getfield 25, 3) := dk_180 0 25 (dk_at dksX6_person_3 1 rfl rfl)
theorem dX6_person_72 : decode cX6_person 72 = .ok (.iload_n 1, 1) := dk_27 (dk_at dksX6_person_3 4 rfl rfl)
theorem dX6_person_73 : decode cX6_person 73 = .ok (.invokevirtual 199, 3) := dk_182 0 199 (dk_at dksX6_person_3 5 rfl rfl)
theorem dX6_person_76 : decode cX6_person 76 = .ok (.ireturn, 1) := dk_172 (dk_at dksX6_person_3 8 rfl rfl)
theorem dX6_person_77 : decode cX6_person 77 = .ok (.ldc 76, 2) := dk_18 76 (dk_at dksX6_person_3 9 rfl rfl)
theorem dX6_person_79 : decode cX6_person 79 = .ok (.ireturn, 1) := dk_172 (dk_at dksX6_person_3 11 rfl rfl)
abbrev cX6_windowOf : ByteArray := prog_21_method_35_code
def yX6_windowOf : MethodName := ⟨RX6, "windowOf", "([III)I"⟩
def dkwX6_windowOf_3 : List UInt8 := [46, 172]
abbrev dktX6_windowOf_3 : List UInt8 := dkwX6_windowOf_3 ++ []
def dkwX6_windowOf_2 : List UInt8 := [29, 6, 160, 0, 20, 42, 6, 46, 42, 5, 46, 164, 0, 11, 42, 6, 46, 4, 100, 167, 0, 6, 42, 6]
abbrev dktX6_windowOf_2 : List UInt8 := dkwX6_windowOf_2 ++ dktX6_windowOf_3
def dkwX6_windowOf_1 : List UInt8 := [5, 160, 0, 7, 4, 167, 0, 4, 3, 96, 172, 29, 5, 160, 0, 11, 42, 6, 46, 4, 96, 167, 0, 28]
abbrev dktX6_windowOf_1 : List UInt8 := dkwX6_windowOf_1 ++ dktX6_windowOf_2
def dkwX6_windowOf_0 : List UInt8 := [42, 7, 5, 27, 104, 96, 46, 62, 29, 7, 161, 0, 6, 18, 62, 172, 28, 154, 0, 18, 42, 5, 46, 29]
abbrev dktX6_windowOf_0 : List UInt8 := dkwX6_windowOf_0 ++ dktX6_windowOf_1
theorem dksX6_windowOf_0 : cX6_windowOf.data.toList.drop 0 = dktX6_windowOf_0 := by decide +kernel
theorem dksX6_windowOf_1 : cX6_windowOf.data.toList.drop 24 = dktX6_windowOf_1 := dk_seg dksX6_windowOf_0 24 rfl rfl
theorem dksX6_windowOf_2 : cX6_windowOf.data.toList.drop 48 = dktX6_windowOf_2 := dk_seg dksX6_windowOf_1 24 rfl rfl
theorem dksX6_windowOf_3 : cX6_windowOf.data.toList.drop 72 = dktX6_windowOf_3 := dk_seg dksX6_windowOf_2 24 rfl rfl
theorem dX6_windowOf_0 : decode cX6_windowOf 0 = .ok (.aload_n 0, 1) := dk_42 (dk_at dksX6_windowOf_0 0 rfl rfl)
theorem dX6_windowOf_1 : decode cX6_windowOf 1 = .ok (.iconst 4, 1) := dk_7 (dk_at dksX6_windowOf_0 1 rfl rfl)
theorem dX6_windowOf_2 : decode cX6_windowOf 2 = .ok (.iconst 2, 1) := dk_5 (dk_at dksX6_windowOf_0 2 rfl rfl)
theorem dX6_windowOf_3 : decode cX6_windowOf 3 = .ok (.iload_n 1, 1) := dk_27 (dk_at dksX6_windowOf_0 3 rfl rfl)
theorem dX6_windowOf_4 : decode cX6_windowOf 4 = .ok (.imul, 1) := dk_104 (dk_at dksX6_windowOf_0 4 rfl rfl)
theorem dX6_windowOf_5 : decode cX6_windowOf 5 = .ok (.iadd, 1) := dk_96 (dk_at dksX6_windowOf_0 5 rfl rfl)
theorem dX6_windowOf_6 : decode cX6_windowOf 6 = .ok (.iaload, 1) := dk_46 (dk_at dksX6_windowOf_0 6 rfl rfl)
theorem dX6_windowOf_7 : decode cX6_windowOf 7 = .ok (.istore_n 3, 1) := dk_62 (dk_at dksX6_windowOf_0 7 rfl rfl)
theorem dX6_windowOf_8 : decode cX6_windowOf 8 = .ok (.iload_n 3, 1) := dk_29 (dk_at dksX6_windowOf_0 8 rfl rfl)
theorem dX6_windowOf_9 : decode cX6_windowOf 9 = .ok (.iconst 4, 1) := dk_7 (dk_at dksX6_windowOf_0 9 rfl rfl)
theorem dX6_windowOf_10 : decode cX6_windowOf 10 = .ok (.if_icmp .lt 6, 3) := dk_161 0 6 (dk_at dksX6_windowOf_0 10 rfl rfl)
theorem dX6_windowOf_13 : decode cX6_windowOf 13 = .ok (.ldc 62, 2) := dk_18 62 (dk_at dksX6_windowOf_0 13 rfl rfl)
theorem dX6_windowOf_15 : decode cX6_windowOf 15 = .ok (.ireturn, 1) := dk_172 (dk_at dksX6_windowOf_0 15 rfl rfl)
theorem dX6_windowOf_16 : decode cX6_windowOf 16 = .ok (.iload_n 2, 1) := dk_28 (dk_at dksX6_windowOf_0 16 rfl rfl)
theorem dX6_windowOf_17 : decode cX6_windowOf 17 = .ok (.ifCond .ne 18, 3) := dk_154 0 18 (dk_at dksX6_windowOf_0 17 rfl rfl)
theorem dX6_windowOf_20 : decode cX6_windowOf 20 = .ok (.aload_n 0, 1) := dk_42 (dk_at dksX6_windowOf_0 20 rfl rfl)
theorem dX6_windowOf_21 : decode cX6_windowOf 21 = .ok (.iconst 2, 1) := dk_5 (dk_at dksX6_windowOf_0 21 rfl rfl)
theorem dX6_windowOf_22 : decode cX6_windowOf 22 = .ok (.iaload, 1) := dk_46 (dk_at dksX6_windowOf_0 22 rfl rfl)
theorem dX6_windowOf_23 : decode cX6_windowOf 23 = .ok (.iload_n 3, 1) := dk_29 (dk_at dksX6_windowOf_0 23 rfl rfl)
theorem dX6_windowOf_24 : decode cX6_windowOf 24 = .ok (.iconst 2, 1) := dk_5 (dk_at dksX6_windowOf_1 0 rfl rfl)
theorem dX6_windowOf_25 : decode cX6_windowOf 25 = .ok (.if_icmp .ne 7, 3) := dk_160 0 7 (dk_at dksX6_windowOf_1 1 rfl rfl)
theorem dX6_windowOf_28 : decode cX6_windowOf 28 = .ok (.iconst 1, 1) := dk_4 (dk_at dksX6_windowOf_1 4 rfl rfl)
theorem dX6_windowOf_29 : decode cX6_windowOf 29 = .ok (.goto 4, 3) := dk_167 0 4 (dk_at dksX6_windowOf_1 5 rfl rfl)
theorem dX6_windowOf_32 : decode cX6_windowOf 32 = .ok (.iconst 0, 1) := dk_3 (dk_at dksX6_windowOf_1 8 rfl rfl)
theorem dX6_windowOf_33 : decode cX6_windowOf 33 = .ok (.iadd, 1) := dk_96 (dk_at dksX6_windowOf_1 9 rfl rfl)
theorem dX6_windowOf_34 : decode cX6_windowOf 34 = .ok (.ireturn, 1) := dk_172 (dk_at dksX6_windowOf_1 10 rfl rfl)
theorem dX6_windowOf_35 : decode cX6_windowOf 35 = .ok (.iload_n 3, 1) := dk_29 (dk_at dksX6_windowOf_1 11 rfl rfl)
theorem dX6_windowOf_36 : decode cX6_windowOf 36 = .ok (.iconst 2, 1) := dk_5 (dk_at dksX6_windowOf_1 12 rfl rfl)
theorem dX6_windowOf_37 : decode cX6_windowOf 37 = .ok (.if_icmp .ne 11, 3) := dk_160 0 11 (dk_at dksX6_windowOf_1 13 rfl rfl)
theorem dX6_windowOf_40 : decode cX6_windowOf 40 = .ok (.aload_n 0, 1) := dk_42 (dk_at dksX6_windowOf_1 16 rfl rfl)
theorem dX6_windowOf_41 : decode cX6_windowOf 41 = .ok (.iconst 3, 1) := dk_6 (dk_at dksX6_windowOf_1 17 rfl rfl)
theorem dX6_windowOf_42 : decode cX6_windowOf 42 = .ok (.iaload, 1) := dk_46 (dk_at dksX6_windowOf_1 18 rfl rfl)
theorem dX6_windowOf_43 : decode cX6_windowOf 43 = .ok (.iconst 1, 1) := dk_4 (dk_at dksX6_windowOf_1 19 rfl rfl)
theorem dX6_windowOf_44 : decode cX6_windowOf 44 = .ok (.iadd, 1) := dk_96 (dk_at dksX6_windowOf_1 20 rfl rfl)
theorem dX6_windowOf_45 : decode cX6_windowOf 45 = .ok (.goto 28, 3) := dk_167 0 28 (dk_at dksX6_windowOf_1 21 rfl rfl)
theorem dX6_windowOf_48 : decode cX6_windowOf 48 = .ok (.iload_n 3, 1) := dk_29 (dk_at dksX6_windowOf_2 0 rfl rfl)
theorem dX6_windowOf_49 : decode cX6_windowOf 49 = .ok (.iconst 3, 1) := dk_6 (dk_at dksX6_windowOf_2 1 rfl rfl)
theorem dX6_windowOf_50 : decode cX6_windowOf 50 = .ok (.if_icmp .ne 20, 3) := dk_160 0 20 (dk_at dksX6_windowOf_2 2 rfl rfl)
theorem dX6_windowOf_53 : decode cX6_windowOf 53 = .ok (.aload_n 0, 1) := dk_42 (dk_at dksX6_windowOf_2 5 rfl rfl)
theorem dX6_windowOf_54 : decode cX6_windowOf 54 = .ok (.iconst 3, 1) := dk_6 (dk_at dksX6_windowOf_2 6 rfl rfl)
theorem dX6_windowOf_55 : decode cX6_windowOf 55 = .ok (.iaload, 1) := dk_46 (dk_at dksX6_windowOf_2 7 rfl rfl)
theorem dX6_windowOf_56 : decode cX6_windowOf 56 = .ok (.aload_n 0, 1) := dk_42 (dk_at dksX6_windowOf_2 8 rfl rfl)
theorem dX6_windowOf_57 : decode cX6_windowOf 57 = .ok (.iconst 2, 1) := dk_5 (dk_at dksX6_windowOf_2 9 rfl rfl)
theorem dX6_windowOf_58 : decode cX6_windowOf 58 = .ok (.iaload, 1) := dk_46 (dk_at dksX6_windowOf_2 10 rfl rfl)
theorem dX6_windowOf_59 : decode cX6_windowOf 59 = .ok (.if_icmp .le 11, 3) := dk_164 0 11 (dk_at dksX6_windowOf_2 11 rfl rfl)
theorem dX6_windowOf_62 : decode cX6_windowOf 62 = .ok (.aload_n 0, 1) := dk_42 (dk_at dksX6_windowOf_2 14 rfl rfl)
theorem dX6_windowOf_63 : decode cX6_windowOf 63 = .ok (.iconst 3, 1) := dk_6 (dk_at dksX6_windowOf_2 15 rfl rfl)
theorem dX6_windowOf_64 : decode cX6_windowOf 64 = .ok (.iaload, 1) := dk_46 (dk_at dksX6_windowOf_2 16 rfl rfl)
theorem dX6_windowOf_65 : decode cX6_windowOf 65 = .ok (.iconst 1, 1) := dk_4 (dk_at dksX6_windowOf_2 17 rfl rfl)
theorem dX6_windowOf_66 : decode cX6_windowOf 66 = .ok (.isub, 1) := dk_100 (dk_at dksX6_windowOf_2 18 rfl rfl)
theorem dX6_windowOf_67 : decode cX6_windowOf 67 = .ok (.goto 6, 3) := dk_167 0 6 (dk_at dksX6_windowOf_2 19 rfl rfl)
theorem dX6_windowOf_70 : decode cX6_windowOf 70 = .ok (.aload_n 0, 1) := dk_42 (dk_at dksX6_windowOf_2 22 rfl rfl)
theorem dX6_windowOf_71 : decode cX6_windowOf 71 = .ok (.iconst 3, 1) := dk_6 (dk_at dksX6_windowOf_2 23 rfl rfl)
theorem dX6_windowOf_72 : decode cX6_windowOf 72 = .ok (.iaload, 1) := dk_46 (dk_at dksX6_windowOf_3 0 rfl rfl)
theorem dX6_windowOf_73 : decode cX6_windowOf 73 = .ok (.ireturn, 1) := dk_172 (dk_at dksX6_windowOf_3 1 rfl rfl)
abbrev cX6_contactsOf : ByteArray := prog_21_method_40_code
def yX6_contactsOf : MethodName := ⟨RX6, "contactsOf", "([II)I"⟩
def dkwX6_contactsOf_2 : List UInt8 := [167, 0, 4, 3, 128, 62, 132, 4, 1, 167, 255, 206, 29, 172]
abbrev dktX6_contactsOf_2 : List UInt8 := dkwX6_contactsOf_2 ++ []
def dkwX6_contactsOf_1 : List UInt8 := [159, 0, 18, 43, 16, 22, 6, 21, 4, 104, 96, 4, 96, 46, 28, 160, 0, 10, 4, 21, 4, 120]
abbrev dktX6_contactsOf_1 : List UInt8 := dkwX6_contactsOf_1 ++ dktX6_contactsOf_2
def dkwX6_contactsOf_0 : List UInt8 := [3, 62, 3, 54, 4, 21, 4, 43, 4, 46, 162, 0, 48, 29, 43, 16, 22, 6, 21, 4, 104, 96, 46, 28]
abbrev dktX6_contactsOf_0 : List UInt8 := dkwX6_contactsOf_0 ++ dktX6_contactsOf_1
theorem dksX6_contactsOf_0 : cX6_contactsOf.data.toList.drop 0 = dktX6_contactsOf_0 := by decide +kernel
theorem dksX6_contactsOf_1 : cX6_contactsOf.data.toList.drop 24 = dktX6_contactsOf_1 := dk_seg dksX6_contactsOf_0 24 rfl rfl
theorem dksX6_contactsOf_2 : cX6_contactsOf.data.toList.drop 46 = dktX6_contactsOf_2 := dk_seg dksX6_contactsOf_1 22 rfl rfl
theorem dX6_contactsOf_0 : decode cX6_contactsOf 0 = .ok (.iconst 0, 1) := dk_3 (dk_at dksX6_contactsOf_0 0 rfl rfl)
theorem dX6_contactsOf_1 : decode cX6_contactsOf 1 = .ok (.istore_n 3, 1) := dk_62 (dk_at dksX6_contactsOf_0 1 rfl rfl)
theorem dX6_contactsOf_2 : decode cX6_contactsOf 2 = .ok (.iconst 0, 1) := dk_3 (dk_at dksX6_contactsOf_0 2 rfl rfl)
theorem dX6_contactsOf_3 : decode cX6_contactsOf 3 = .ok (.istore 4, 2) := dk_54 4 (dk_at dksX6_contactsOf_0 3 rfl rfl)
theorem dX6_contactsOf_5 : decode cX6_contactsOf 5 = .ok (.iload 4, 2) := dk_21 4 (dk_at dksX6_contactsOf_0 5 rfl rfl)
theorem dX6_contactsOf_7 : decode cX6_contactsOf 7 = .ok (.aload_n 1, 1) := dk_43 (dk_at dksX6_contactsOf_0 7 rfl rfl)
theorem dX6_contactsOf_8 : decode cX6_contactsOf 8 = .ok (.iconst 1, 1) := dk_4 (dk_at dksX6_contactsOf_0 8 rfl rfl)
theorem dX6_contactsOf_9 : decode cX6_contactsOf 9 = .ok (.iaload, 1) := dk_46 (dk_at dksX6_contactsOf_0 9 rfl rfl)
theorem dX6_contactsOf_10 : decode cX6_contactsOf 10 = .ok (.if_icmp .ge 48, 3) := dk_162 0 48 (dk_at dksX6_contactsOf_0 10 rfl rfl)
theorem dX6_contactsOf_13 : decode cX6_contactsOf 13 = .ok (.iload_n 3, 1) := dk_29 (dk_at dksX6_contactsOf_0 13 rfl rfl)
theorem dX6_contactsOf_14 : decode cX6_contactsOf 14 = .ok (.aload_n 1, 1) := dk_43 (dk_at dksX6_contactsOf_0 14 rfl rfl)
theorem dX6_contactsOf_15 : decode cX6_contactsOf 15 = .ok (.bipush 22, 2) := dk_16 22 (dk_at dksX6_contactsOf_0 15 rfl rfl)
theorem dX6_contactsOf_17 : decode cX6_contactsOf 17 = .ok (.iconst 3, 1) := dk_6 (dk_at dksX6_contactsOf_0 17 rfl rfl)
theorem dX6_contactsOf_18 : decode cX6_contactsOf 18 = .ok (.iload 4, 2) := dk_21 4 (dk_at dksX6_contactsOf_0 18 rfl rfl)
theorem dX6_contactsOf_20 : decode cX6_contactsOf 20 = .ok (.imul, 1) := dk_104 (dk_at dksX6_contactsOf_0 20 rfl rfl)
theorem dX6_contactsOf_21 : decode cX6_contactsOf 21 = .ok (.iadd, 1) := dk_96 (dk_at dksX6_contactsOf_0 21 rfl rfl)
theorem dX6_contactsOf_22 : decode cX6_contactsOf 22 = .ok (.iaload, 1) := dk_46 (dk_at dksX6_contactsOf_0 22 rfl rfl)
theorem dX6_contactsOf_23 : decode cX6_contactsOf 23 = .ok (.iload_n 2, 1) := dk_28 (dk_at dksX6_contactsOf_0 23 rfl rfl)
theorem dX6_contactsOf_24 : decode cX6_contactsOf 24 = .ok (.if_icmp .eq 18, 3) := dk_159 0 18 (dk_at dksX6_contactsOf_1 0 rfl rfl)
theorem dX6_contactsOf_27 : decode cX6_contactsOf 27 = .ok (.aload_n 1, 1) := dk_43 (dk_at dksX6_contactsOf_1 3 rfl rfl)
theorem dX6_contactsOf_28 : decode cX6_contactsOf 28 = .ok (.bipush 22, 2) := dk_16 22 (dk_at dksX6_contactsOf_1 4 rfl rfl)
theorem dX6_contactsOf_30 : decode cX6_contactsOf 30 = .ok (.iconst 3, 1) := dk_6 (dk_at dksX6_contactsOf_1 6 rfl rfl)
theorem dX6_contactsOf_31 : decode cX6_contactsOf 31 = .ok (.iload 4, 2) := dk_21 4 (dk_at dksX6_contactsOf_1 7 rfl rfl)
theorem dX6_contactsOf_33 : decode cX6_contactsOf 33 = .ok (.imul, 1) := dk_104 (dk_at dksX6_contactsOf_1 9 rfl rfl)
theorem dX6_contactsOf_34 : decode cX6_contactsOf 34 = .ok (.iadd, 1) := dk_96 (dk_at dksX6_contactsOf_1 10 rfl rfl)
theorem dX6_contactsOf_35 : decode cX6_contactsOf 35 = .ok (.iconst 1, 1) := dk_4 (dk_at dksX6_contactsOf_1 11 rfl rfl)
theorem dX6_contactsOf_36 : decode cX6_contactsOf 36 = .ok (.iadd, 1) := dk_96 (dk_at dksX6_contactsOf_1 12 rfl rfl)
theorem dX6_contactsOf_37 : decode cX6_contactsOf 37 = .ok (.iaload, 1) := dk_46 (dk_at dksX6_contactsOf_1 13 rfl rfl)
theorem dX6_contactsOf_38 : decode cX6_contactsOf 38 = .ok (.iload_n 2, 1) := dk_28 (dk_at dksX6_contactsOf_1 14 rfl rfl)
theorem dX6_contactsOf_39 : decode cX6_contactsOf 39 = .ok (.if_icmp .ne 10, 3) := dk_160 0 10 (dk_at dksX6_contactsOf_1 15 rfl rfl)
theorem dX6_contactsOf_42 : decode cX6_contactsOf 42 = .ok (.iconst 1, 1) := dk_4 (dk_at dksX6_contactsOf_1 18 rfl rfl)
theorem dX6_contactsOf_43 : decode cX6_contactsOf 43 = .ok (.iload 4, 2) := dk_21 4 (dk_at dksX6_contactsOf_1 19 rfl rfl)
theorem dX6_contactsOf_45 : decode cX6_contactsOf 45 = .ok (.ishl, 1) := dk_120 (dk_at dksX6_contactsOf_1 21 rfl rfl)
theorem dX6_contactsOf_46 : decode cX6_contactsOf 46 = .ok (.goto 4, 3) := dk_167 0 4 (dk_at dksX6_contactsOf_2 0 rfl rfl)
theorem dX6_contactsOf_49 : decode cX6_contactsOf 49 = .ok (.iconst 0, 1) := dk_3 (dk_at dksX6_contactsOf_2 3 rfl rfl)
theorem dX6_contactsOf_50 : decode cX6_contactsOf 50 = .ok (.ior, 1) := dk_128 (dk_at dksX6_contactsOf_2 4 rfl rfl)
theorem dX6_contactsOf_51 : decode cX6_contactsOf 51 = .ok (.istore_n 3, 1) := dk_62 (dk_at dksX6_contactsOf_2 5 rfl rfl)
theorem dX6_contactsOf_52 : decode cX6_contactsOf 52 = .ok (.iinc 4 1, 3) := dk_132 4 1 (dk_at dksX6_contactsOf_2 6 rfl rfl)
theorem dX6_contactsOf_55 : decode cX6_contactsOf 55 = .ok (.goto (-50), 3) := dk_167 255 206 (dk_at dksX6_contactsOf_2 9 rfl rfl)
theorem dX6_contactsOf_58 : decode cX6_contactsOf 58 = .ok (.iload_n 3, 1) := dk_29 (dk_at dksX6_contactsOf_2 12 rfl rfl)
theorem dX6_contactsOf_59 : decode cX6_contactsOf 59 = .ok (.ireturn, 1) := dk_172 (dk_at dksX6_contactsOf_2 13 rfl rfl)
abbrev cX6_contact : ByteArray := prog_21_method_51_code
def yX6_contact : MethodName := ⟨RX6, "contact", "(II)I"⟩
def dkwX6_contact_1 : List UInt8 := [27, 104, 96, 28, 96, 46, 167, 0, 5, 18, 76, 172]
abbrev dktX6_contact_1 : List UInt8 := dkwX6_contact_1 ++ []
def dkwX6_contact_0 : List UInt8 := [42, 27, 182, 0, 189, 153, 0, 28, 28, 3, 5, 184, 0, 68, 153, 0, 19, 42, 180, 0, 25, 16, 22, 6]
abbrev dktX6_contact_0 : List UInt8 := dkwX6_contact_0 ++ dktX6_contact_1
theorem dksX6_contact_0 : cX6_contact.data.toList.drop 0 = dktX6_contact_0 := by decide +kernel
theorem dksX6_contact_1 : cX6_contact.data.toList.drop 24 = dktX6_contact_1 := dk_seg dksX6_contact_0 24 rfl rfl
theorem dX6_contact_0 : decode cX6_contact 0 = .ok (.aload_n 0, 1) := dk_42 (dk_at dksX6_contact_0 0 rfl rfl)
theorem dX6_contact_1 : decode cX6_contact 1 = .ok (.iload_n 1, 1) := dk_27 (dk_at dksX6_contact_0 1 rfl rfl)
theorem dX6_contact_2 : decode cX6_contact 2 = .ok (.invokevirtual 189, 3) := dk_182 0 189 (dk_at dksX6_contact_0 2 rfl rfl)
theorem dX6_contact_5 : decode cX6_contact 5 = .ok (.ifCond .eq 28, 3) := dk_153 0 28 (dk_at dksX6_contact_0 5 rfl rfl)
theorem dX6_contact_8 : decode cX6_contact 8 = .ok (.iload_n 2, 1) := dk_28 (dk_at dksX6_contact_0 8 rfl rfl)
theorem dX6_contact_9 : decode cX6_contact 9 = .ok (.iconst 0, 1) := dk_3 (dk_at dksX6_contact_0 9 rfl rfl)
theorem dX6_contact_10 : decode cX6_contact 10 = .ok (.iconst 2, 1) := dk_5 (dk_at dksX6_contact_0 10 rfl rfl)
theorem dX6_contact_11 : decode cX6_contact 11 = .ok (.invokestatic 68, 3) := dk_184 0 68 (dk_at dksX6_contact_0 11 rfl rfl)
theorem dX6_contact_14 : decode cX6_contact 14 = .ok (.ifCond .eq 19, 3) := dk_153 0 19 (dk_at dksX6_contact_0 14 rfl rfl)
theorem dX6_contact_17 : decode cX6_contact 17 = .ok (.aload_n 0, 1) := dk_42 (dk_at dksX6_contact_0 17 rfl rfl)
theorem dX6_contact_18 : decode cX6_contact 18 = .ok (.getfield 25, 3) := dk_180 0 25 (dk_at dksX6_contact_0 18 rfl rfl)
theorem dX6_contact_21 : decode cX6_contact 21 = .ok (.bipush 22, 2) := dk_16 22 (dk_at dksX6_contact_0 21 rfl rfl)
theorem dX6_contact_23 : decode cX6_contact 23 = .ok (.iconst 3, 1) := dk_6 (dk_at dksX6_contact_0 23 rfl rfl)
theorem dX6_contact_24 : decode cX6_contact 24 = .ok (.iload_n 1, 1) := dk_27 (dk_at dksX6_contact_1 0 rfl rfl)
theorem dX6_contact_25 : decode cX6_contact 25 = .ok (.imul, 1) := dk_104 (dk_at dksX6_contact_1 1 rfl rfl)
theorem dX6_contact_26 : decode cX6_contact 26 = .ok (.iadd, 1) := dk_96 (dk_at dksX6_contact_1 2 rfl rfl)
theorem dX6_contact_27 : decode cX6_contact 27 = .ok (.iload_n 2, 1) := dk_28 (dk_at dksX6_contact_1 3 rfl rfl)
theorem dX6_contact_28 : decode cX6_contact 28 = .ok (.iadd, 1) := dk_96 (dk_at dksX6_contact_1 4 rfl rfl)
theorem dX6_contact_29 : decode cX6_contact 29 = .ok (.iaload, 1) := dk_46 (dk_at dksX6_contact_1 5 rfl rfl)
theorem dX6_contact_30 : decode cX6_contact 30 = .ok (.goto 5, 3) := dk_167 0 5 (dk_at dksX6_contact_1 6 rfl rfl)
theorem dX6_contact_33 : decode cX6_contact 33 = .ok (.ldc 76, 2) := dk_18 76 (dk_at dksX6_contact_1 9 rfl rfl)
theorem dX6_contact_35 : decode cX6_contact 35 = .ok (.ireturn, 1) := dk_172 (dk_at dksX6_contact_1 11 rfl rfl)
abbrev cX6_days : ByteArray := prog_21_method_53_code
def yX6_days : MethodName := ⟨RX6, "days", "(III)I"⟩
def dkwX6_days_1 : List UInt8 := [180, 0, 25, 27, 28, 3, 182, 0, 206, 42, 180, 0, 44, 29, 46, 172]
abbrev dktX6_days_1 : List UInt8 := dkwX6_days_1 ++ []
def dkwX6_days_0 : List UInt8 := [42, 27, 28, 182, 0, 203, 153, 0, 11, 42, 29, 182, 0, 186, 154, 0, 6, 18, 76, 172, 42, 42]
abbrev dktX6_days_0 : List UInt8 := dkwX6_days_0 ++ dktX6_days_1
theorem dksX6_days_0 : cX6_days.data.toList.drop 0 = dktX6_days_0 := by decide +kernel
theorem dksX6_days_1 : cX6_days.data.toList.drop 22 = dktX6_days_1 := dk_seg dksX6_days_0 22 rfl rfl
theorem dX6_days_0 : decode cX6_days 0 = .ok (.aload_n 0, 1) := dk_42 (dk_at dksX6_days_0 0 rfl rfl)
theorem dX6_days_1 : decode cX6_days 1 = .ok (.iload_n 1, 1) := dk_27 (dk_at dksX6_days_0 1 rfl rfl)
theorem dX6_days_2 : decode cX6_days 2 = .ok (.iload_n 2, 1) := dk_28 (dk_at dksX6_days_0 2 rfl rfl)
theorem dX6_days_3 : decode cX6_days 3 = .ok (.invokevirtual 203, 3) := dk_182 0 203 (dk_at dksX6_days_0 3 rfl rfl)
theorem dX6_days_6 : decode cX6_days 6 = .ok (.ifCond .eq 11, 3) := dk_153 0 11 (dk_at dksX6_days_0 6 rfl rfl)
theorem dX6_days_9 : decode cX6_days 9 = .ok (.aload_n 0, 1) := dk_42 (dk_at dksX6_days_0 9 rfl rfl)
theorem dX6_days_10 : decode cX6_days 10 = .ok (.iload_n 3, 1) := dk_29 (dk_at dksX6_days_0 10 rfl rfl)
theorem dX6_days_11 : decode cX6_days 11 = .ok (.invokevirtual 186, 3) := dk_182 0 186 (dk_at dksX6_days_0 11 rfl rfl)
theorem dX6_days_14 : decode cX6_days 14 = .ok (.ifCond .ne 6, 3) := dk_154 0 6 (dk_at dksX6_days_0 14 rfl rfl)
theorem dX6_days_17 : decode cX6_days 17 = .ok (.ldc 76, 2) := dk_18 76 (dk_at dksX6_days_0 17 rfl rfl)
theorem dX6_days_19 : decode cX6_days 19 = .ok (.ireturn, 1) := dk_172 (dk_at dksX6_days_0 19 rfl rfl)
theorem dX6_days_20 : decode cX6_days 20 = .ok (.aload_n 0, 1) := dk_42 (dk_at dksX6_days_0 20 rfl rfl)
theorem dX6_days_21 : decode cX6_days 21 = .ok (.aload_n 0, 1) := dk_42 (dk_at dksX6_days_0 21 rfl rfl)
theorem dX6_days_22 : decode cX6_days 22 = .ok (.getfield 25, 3) := dk_180 0 25 (dk_at dksX6_days_1 0 rfl rfl)
theorem dX6_days_25 : decode cX6_days 25 = .ok (.iload_n 1, 1) := dk_27 (dk_at dksX6_days_1 3 rfl rfl)
theorem dX6_days_26 : decode cX6_days 26 = .ok (.iload_n 2, 1) := dk_28 (dk_at dksX6_days_1 4 rfl rfl)
theorem dX6_days_27 : decode cX6_days 27 = .ok (.iconst 0, 1) := dk_3 (dk_at dksX6_days_1 5 rfl rfl)
theorem dX6_days_28 : decode cX6_days 28 = .ok (.invokevirtual 206, 3) := dk_182 0 206 (dk_at dksX6_days_1 6 rfl rfl)
theorem dX6_days_31 : decode cX6_days 31 = .ok (.aload_n 0, 1) := dk_42 (dk_at dksX6_days_1 9 rfl rfl)
theorem dX6_days_32 : decode cX6_days 32 = .ok (.getfield 44, 3) := dk_180 0 44 (dk_at dksX6_days_1 10 rfl rfl)
theorem dX6_days_35 : decode cX6_days 35 = .ok (.iload_n 3, 1) := dk_29 (dk_at dksX6_days_1 13 rfl rfl)
theorem dX6_days_36 : decode cX6_days 36 = .ok (.iaload, 1) := dk_46 (dk_at dksX6_days_1 14 rfl rfl)
theorem dX6_days_37 : decode cX6_days 37 = .ok (.ireturn, 1) := dk_172 (dk_at dksX6_days_1 15 rfl rfl)
abbrev cX6_isFrom : ByteArray := prog_21_method_52_code
def yX6_isFrom : MethodName := ⟨RX6, "isFrom", "(II)Z"⟩
def dkwX6_isFrom_0 : List UInt8 := [42, 27, 182, 0, 186, 153, 0, 17, 28, 3, 16, 30, 184, 0, 68, 153, 0, 7, 4, 167, 0, 4, 3, 172]
abbrev dktX6_isFrom_0 : List UInt8 := dkwX6_isFrom_0 ++ []
theorem dksX6_isFrom_0 : cX6_isFrom.data.toList.drop 0 = dktX6_isFrom_0 := by decide +kernel
theorem dX6_isFrom_0 : decode cX6_isFrom 0 = .ok (.aload_n 0, 1) := dk_42 (dk_at dksX6_isFrom_0 0 rfl rfl)
theorem dX6_isFrom_1 : decode cX6_isFrom 1 = .ok (.iload_n 1, 1) := dk_27 (dk_at dksX6_isFrom_0 1 rfl rfl)
theorem dX6_isFrom_2 : decode cX6_isFrom 2 = .ok (.invokevirtual 186, 3) := dk_182 0 186 (dk_at dksX6_isFrom_0 2 rfl rfl)
theorem dX6_isFrom_5 : decode cX6_isFrom 5 = .ok (.ifCond .eq 17, 3) := dk_153 0 17 (dk_at dksX6_isFrom_0 5 rfl rfl)
theorem dX6_isFrom_8 : decode cX6_isFrom 8 = .ok (.iload_n 2, 1) := dk_28 (dk_at dksX6_isFrom_0 8 rfl rfl)
theorem dX6_isFrom_9 : decode cX6_isFrom 9 = .ok (.iconst 0, 1) := dk_3 (dk_at dksX6_isFrom_0 9 rfl rfl)
theorem dX6_isFrom_10 : decode cX6_isFrom 10 = .ok (.bipush 30, 2) := dk_16 30 (dk_at dksX6_isFrom_0 10 rfl rfl)
theorem dX6_isFrom_12 : decode cX6_isFrom 12 = .ok (.invokestatic 68, 3) := dk_184 0 68 (dk_at dksX6_isFrom_0 12 rfl rfl)
theorem dX6_isFrom_15 : decode cX6_isFrom 15 = .ok (.ifCond .eq 7, 3) := dk_153 0 7 (dk_at dksX6_isFrom_0 15 rfl rfl)
theorem dX6_isFrom_18 : decode cX6_isFrom 18 = .ok (.iconst 1, 1) := dk_4 (dk_at dksX6_isFrom_0 18 rfl rfl)
theorem dX6_isFrom_19 : decode cX6_isFrom 19 = .ok (.goto 4, 3) := dk_167 0 4 (dk_at dksX6_isFrom_0 19 rfl rfl)
theorem dX6_isFrom_22 : decode cX6_isFrom 22 = .ok (.iconst 0, 1) := dk_3 (dk_at dksX6_isFrom_0 22 rfl rfl)
theorem dX6_isFrom_23 : decode cX6_isFrom 23 = .ok (.ireturn, 1) := dk_172 (dk_at dksX6_isFrom_0 23 rfl rfl)
abbrev cX6_walks : ByteArray := prog_21_method_39_code
def yX6_walks : MethodName := ⟨RX6, "walks", "([IIII)V"⟩
def dkwX6_walks_6 : List UInt8 := [167, 255, 165, 177]
abbrev dktX6_walks_6 : List UInt8 := dkwX6_walks_6 ++ []
def dkwX6_walks_5 : List UInt8 := [21, 7, 4, 96, 46, 43, 21, 7, 46, 21, 5, 182, 0, 179, 132, 6, 1, 167, 255, 181, 132, 5, 1]
abbrev dktX6_walks_5 : List UInt8 := dkwX6_walks_5 ++ dktX6_walks_6
def dkwX6_walks_4 : List UInt8 := [154, 0, 37, 42, 43, 43, 21, 7, 46, 43, 21, 7, 4, 96, 46, 21, 5, 182, 0, 179, 42, 43, 43]
abbrev dktX6_walks_4 : List UInt8 := dkwX6_walks_4 ++ dktX6_walks_5
def dkwX6_walks_3 : List UInt8 := [21, 6, 104, 96, 54, 7, 43, 21, 7, 5, 96, 46, 21, 5, 160, 0, 47, 21, 4, 21, 6, 184, 0, 167]
abbrev dktX6_walks_3 : List UInt8 := dkwX6_walks_3 ++ dktX6_walks_4
def dkwX6_walks_2 : List UInt8 := [54, 5, 21, 5, 16, 31, 162, 0, 90, 3, 54, 6, 21, 6, 43, 4, 46, 162, 0, 73, 16, 22, 6]
abbrev dktX6_walks_2 : List UInt8 := dkwX6_walks_2 ++ dktX6_walks_3
def dkwX6_walks_1 : List UInt8 := [120, 167, 0, 4, 3, 79, 42, 180, 0, 47, 21, 5, 3, 79, 132, 5, 1, 167, 255, 218, 29, 4, 96]
abbrev dktX6_walks_1 : List UInt8 := dkwX6_walks_1 ++ dktX6_walks_2
def dkwX6_walks_0 : List UInt8 := [3, 54, 5, 21, 5, 16, 9, 162, 0, 37, 42, 180, 0, 44, 21, 5, 21, 5, 28, 160, 0, 9, 4, 29]
abbrev dktX6_walks_0 : List UInt8 := dkwX6_walks_0 ++ dktX6_walks_1
theorem dksX6_walks_0 : cX6_walks.data.toList.drop 0 = dktX6_walks_0 := by decide +kernel
theorem dksX6_walks_1 : cX6_walks.data.toList.drop 24 = dktX6_walks_1 := dk_seg dksX6_walks_0 24 rfl rfl
theorem dksX6_walks_2 : cX6_walks.data.toList.drop 47 = dktX6_walks_2 := dk_seg dksX6_walks_1 23 rfl rfl
theorem dksX6_walks_3 : cX6_walks.data.toList.drop 70 = dktX6_walks_3 := dk_seg dksX6_walks_2 23 rfl rfl
theorem dksX6_walks_4 : cX6_walks.data.toList.drop 94 = dktX6_walks_4 := dk_seg dksX6_walks_3 24 rfl rfl
theorem dksX6_walks_5 : cX6_walks.data.toList.drop 117 = dktX6_walks_5 := dk_seg dksX6_walks_4 23 rfl rfl
theorem dksX6_walks_6 : cX6_walks.data.toList.drop 140 = dktX6_walks_6 := dk_seg dksX6_walks_5 23 rfl rfl
theorem dX6_walks_0 : decode cX6_walks 0 = .ok (.iconst 0, 1) := dk_3 (dk_at dksX6_walks_0 0 rfl rfl)
theorem dX6_walks_1 : decode cX6_walks 1 = .ok (.istore 5, 2) := dk_54 5 (dk_at dksX6_walks_0 1 rfl rfl)
theorem dX6_walks_3 : decode cX6_walks 3 = .ok (.iload 5, 2) := dk_21 5 (dk_at dksX6_walks_0 3 rfl rfl)
theorem dX6_walks_5 : decode cX6_walks 5 = .ok (.bipush 9, 2) := dk_16 9 (dk_at dksX6_walks_0 5 rfl rfl)
theorem dX6_walks_7 : decode cX6_walks 7 = .ok (.if_icmp .ge 37, 3) := dk_162 0 37 (dk_at dksX6_walks_0 7 rfl rfl)
theorem dX6_walks_10 : decode cX6_walks 10 = .ok (.aload_n 0, 1) := dk_42 (dk_at dksX6_walks_0 10 rfl rfl)
theorem dX6_walks_11 : decode cX6_walks 11 = .ok (.getfield 44, 3) := dk_180 0 44 (dk_at dksX6_walks_0 11 rfl rfl)
theorem dX6_walks_14 : decode cX6_walks 14 = .ok (.iload 5, 2) := dk_21 5 (dk_at dksX6_walks_0 14 rfl rfl)
theorem dX6_walks_16 : decode cX6_walks 16 = .ok (.iload 5, 2) := dk_21 5 (dk_at dksX6_walks_0 16 rfl rfl)
theorem dX6_walks_18 : decode cX6_walks 18 = .ok (.iload_n 2, 1) := dk_28 (dk_at dksX6_walks_0 18 rfl rfl)
theorem dX6_walks_19 : decode cX6_walks 19 = .ok (.if_icmp .ne 9, 3) := dk_160 0 9 (dk_at dksX6_walks_0 19 rfl rfl)
theorem dX6_walks_22 : decode cX6_walks 22 = .ok (.iconst 1, 1) := dk_4 (dk_at dksX6_walks_0 22 rfl rfl)
theorem dX6_walks_23 : decode cX6_walks 23 = .ok (.iload_n 3, 1) := dk_29 (dk_at dksX6_walks_0 23 rfl rfl)
theorem dX6_walks_24 : decode cX6_walks 24 = .ok (.ishl, 1) := dk_120 (dk_at dksX6_walks_1 0 rfl rfl)
theorem dX6_walks_25 : decode cX6_walks 25 = .ok (.goto 4, 3) := dk_167 0 4 (dk_at dksX6_walks_1 1 rfl rfl)
theorem dX6_walks_28 : decode cX6_walks 28 = .ok (.iconst 0, 1) := dk_3 (dk_at dksX6_walks_1 4 rfl rfl)
theorem dX6_walks_29 : decode cX6_walks 29 = .ok (.iastore, 1) := dk_79 (dk_at dksX6_walks_1 5 rfl rfl)
theorem dX6_walks_30 : decode cX6_walks 30 = .ok (.aload_n 0, 1) := dk_42 (dk_at dksX6_walks_1 6 rfl rfl)
theorem dX6_walks_31 : decode cX6_walks 31 = .ok (.getfield 47, 3) := dk_180 0 47 (dk_at dksX6_walks_1 7 rfl rfl)
theorem dX6_walks_34 : decode cX6_walks 34 = .ok (.iload 5, 2) := dk_21 5 (dk_at dksX6_walks_1 10 rfl rfl)
theorem dX6_walks_36 : decode cX6_walks 36 = .ok (.iconst 0, 1) := dk_3 (dk_at dksX6_walks_1 12 rfl rfl)
theorem dX6_walks_37 : decode cX6_walks 37 = .ok (.iastore, 1) := dk_79 (dk_at dksX6_walks_1 13 rfl rfl)
theorem dX6_walks_38 : decode cX6_walks 38 = .ok (.iinc 5 1, 3) := dk_132 5 1 (dk_at dksX6_walks_1 14 rfl rfl)
theorem dX6_walks_41 : decode cX6_walks 41 = .ok (.goto (-38), 3) := dk_167 255 218 (dk_at dksX6_walks_1 17 rfl rfl)
theorem dX6_walks_44 : decode cX6_walks 44 = .ok (.iload_n 3, 1) := dk_29 (dk_at dksX6_walks_1 20 rfl rfl)
theorem dX6_walks_45 : decode cX6_walks 45 = .ok (.iconst 1, 1) := dk_4 (dk_at dksX6_walks_1 21 rfl rfl)
theorem dX6_walks_46 : decode cX6_walks 46 = .ok (.iadd, 1) := dk_96 (dk_at dksX6_walks_1 22 rfl rfl)
theorem dX6_walks_47 : decode cX6_walks 47 = .ok (.istore 5, 2) := dk_54 5 (dk_at dksX6_walks_2 0 rfl rfl)
theorem dX6_walks_49 : decode cX6_walks 49 = .ok (.iload 5, 2) := dk_21 5 (dk_at dksX6_walks_2 2 rfl rfl)
theorem dX6_walks_51 : decode cX6_walks 51 = .ok (.bipush 31, 2) := dk_16 31 (dk_at dksX6_walks_2 4 rfl rfl)
theorem dX6_walks_53 : decode cX6_walks 53 = .ok (.if_icmp .ge 90, 3) := dk_162 0 90 (dk_at dksX6_walks_2 6 rfl rfl)
theorem dX6_walks_56 : decode cX6_walks 56 = .ok (.iconst 0, 1) := dk_3 (dk_at dksX6_walks_2 9 rfl rfl)
theorem dX6_walks_57 : decode cX6_walks 57 = .ok (.istore 6, 2) := dk_54 6 (dk_at dksX6_walks_2 10 rfl rfl)
theorem dX6_walks_59 : decode cX6_walks 59 = .ok (.iload 6, 2) := dk_21 6 (dk_at dksX6_walks_2 12 rfl rfl)
theorem dX6_walks_61 : decode cX6_walks 61 = .ok (.aload_n 1, 1) := dk_43 (dk_at dksX6_walks_2 14 rfl rfl)
theorem dX6_walks_62 : decode cX6_walks 62 = .ok (.iconst 1, 1) := dk_4 (dk_at dksX6_walks_2 15 rfl rfl)
theorem dX6_walks_63 : decode cX6_walks 63 = .ok (.iaload, 1) := dk_46 (dk_at dksX6_walks_2 16 rfl rfl)
theorem dX6_walks_64 : decode cX6_walks 64 = .ok (.if_icmp .ge 73, 3) := dk_162 0 73 (dk_at dksX6_walks_2 17 rfl rfl)
theorem dX6_walks_67 : decode cX6_walks 67 = .ok (.bipush 22, 2) := dk_16 22 (dk_at dksX6_walks_2 20 rfl rfl)
theorem dX6_walks_69 : decode cX6_walks 69 = .ok (.iconst 3, 1) := dk_6 (dk_at dksX6_walks_2 22 rfl rfl)
theorem dX6_walks_70 : decode cX6_walks 70 = .ok (.iload 6, 2) := dk_21 6 (dk_at dksX6_walks_3 0 rfl rfl)
theorem dX6_walks_72 : decode cX6_walks 72 = .ok (.imul, 1) := dk_104 (dk_at dksX6_walks_3 2 rfl rfl)
theorem dX6_walks_73 : decode cX6_walks 73 = .ok (.iadd, 1) := dk_96 (dk_at dksX6_walks_3 3 rfl rfl)
theorem dX6_walks_74 : decode cX6_walks 74 = .ok (.istore 7, 2) := dk_54 7 (dk_at dksX6_walks_3 4 rfl rfl)
theorem dX6_walks_76 : decode cX6_walks 76 = .ok (.aload_n 1, 1) := dk_43 (dk_at dksX6_walks_3 6 rfl rfl)
theorem dX6_walks_77 : decode cX6_walks 77 = .ok (.iload 7, 2) := dk_21 7 (dk_at dksX6_walks_3 7 rfl rfl)
theorem dX6_walks_79 : decode cX6_walks 79 = .ok (.iconst 2, 1) := dk_5 (dk_at dksX6_walks_3 9 rfl rfl)
theorem dX6_walks_80 : decode cX6_walks 80 = .ok (.iadd, 1) := dk_96 (dk_at dksX6_walks_3 10 rfl rfl)
theorem dX6_walks_81 : decode cX6_walks 81 = .ok (.iaload, 1) := dk_46 (dk_at dksX6_walks_3 11 rfl rfl)
theorem dX6_walks_82 : decode cX6_walks 82 = .ok (.iload 5, 2) := dk_21 5 (dk_at dksX6_walks_3 12 rfl rfl)
theorem dX6_walks_84 : decode cX6_walks 84 = .ok (.if_icmp .ne 47, 3) := dk_160 0 47 (dk_at dksX6_walks_3 14 rfl rfl)
theorem dX6_walks_87 : decode cX6_walks 87 = .ok (.iload 4, 2) := dk_21 4 (dk_at dksX6_walks_3 17 rfl rfl)
theorem dX6_walks_89 : decode cX6_walks 89 = .ok (.iload 6, 2) := dk_21 6 (dk_at dksX6_walks_3 19 rfl rfl)
theorem dX6_walks_91 : decode cX6_walks 91 = .ok (.invokestatic 167, 3) := dk_184 0 167 (dk_at dksX6_walks_3 21 rfl rfl)
theorem dX6_walks_94 : decode cX6_walks 94 = .ok (.ifCond .ne 37, 3) := dk_154 0 37 (dk_at dksX6_walks_4 0 rfl rfl)
theorem dX6_walks_97 : decode cX6_walks 97 = .ok (.aload_n 0, 1) := dk_42 (dk_at dksX6_walks_4 3 rfl rfl)
theorem dX6_walks_98 : decode cX6_walks 98 = .ok (.aload_n 1, 1) := dk_43 (dk_at dksX6_walks_4 4 rfl rfl)
theorem dX6_walks_99 : decode cX6_walks 99 = .ok (.aload_n 1, 1) := dk_43 (dk_at dksX6_walks_4 5 rfl rfl)
theorem dX6_walks_100 : decode cX6_walks 100 = .ok (.iload 7, 2) := dk_21 7 (dk_at dksX6_walks_4 6 rfl rfl)
theorem dX6_walks_102 : decode cX6_walks 102 = .ok (.iaload, 1) := dk_46 (dk_at dksX6_walks_4 8 rfl rfl)
theorem dX6_walks_103 : decode cX6_walks 103 = .ok (.aload_n 1, 1) := dk_43 (dk_at dksX6_walks_4 9 rfl rfl)
theorem dX6_walks_104 : decode cX6_walks 104 = .ok (.iload 7, 2) := dk_21 7 (dk_at dksX6_walks_4 10 rfl rfl)
theorem dX6_walks_106 : decode cX6_walks 106 = .ok (.iconst 1, 1) := dk_4 (dk_at dksX6_walks_4 12 rfl rfl)
theorem dX6_walks_107 : decode cX6_walks 107 = .ok (.iadd, 1) := dk_96 (dk_at dksX6_walks_4 13 rfl rfl)
theorem dX6_walks_108 : decode cX6_walks 108 = .ok (.iaload, 1) := dk_46 (dk_at dksX6_walks_4 14 rfl rfl)
theorem dX6_walks_109 : decode cX6_walks 109 = .ok (.iload 5, 2) := dk_21 5 (dk_at dksX6_walks_4 15 rfl rfl)
theorem dX6_walks_111 : decode cX6_walks 111 = .ok (.invokevirtual 179, 3) := dk_182 0 179 (dk_at dksX6_walks_4 17 rfl rfl)
theorem dX6_walks_114 : decode cX6_walks 114 = .ok (.aload_n 0, 1) := dk_42 (dk_at dksX6_walks_4 20 rfl rfl)
theorem dX6_walks_115 : decode cX6_walks 115 = .ok (.aload_n 1, 1) := dk_43 (dk_at dksX6_walks_4 21 rfl rfl)
theorem dX6_walks_116 : decode cX6_walks 116 = .ok (.aload_n 1, 1) := dk_43 (dk_at dksX6_walks_4 22 rfl rfl)
theorem dX6_walks_117 : decode cX6_walks 117 = .ok (.iload 7, 2) := dk_21 7 (dk_at dksX6_walks_5 0 rfl rfl)
theorem dX6_walks_119 : decode cX6_walks 119 = .ok (.iconst 1, 1) := dk_4 (dk_at dksX6_walks_5 2 rfl rfl)
theorem dX6_walks_120 : decode cX6_walks 120 = .ok (.iadd, 1) := dk_96 (dk_at dksX6_walks_5 3 rfl rfl)
theorem dX6_walks_121 : decode cX6_walks 121 = .ok (.iaload, 1) := dk_46 (dk_at dksX6_walks_5 4 rfl rfl)
theorem dX6_walks_122 : decode cX6_walks 122 = .ok (.aload_n 1, 1) := dk_43 (dk_at dksX6_walks_5 5 rfl rfl)
theorem dX6_walks_123 : decode cX6_walks 123 = .ok (.iload 7, 2) := dk_21 7 (dk_at dksX6_walks_5 6 rfl rfl)
theorem dX6_walks_125 : decode cX6_walks 125 = .ok (.iaload, 1) := dk_46 (dk_at dksX6_walks_5 8 rfl rfl)
theorem dX6_walks_126 : decode cX6_walks 126 = .ok (.iload 5, 2) := dk_21 5 (dk_at dksX6_walks_5 9 rfl rfl)
theorem dX6_walks_128 : decode cX6_walks 128 = .ok (.invokevirtual 179, 3) := dk_182 0 179 (dk_at dksX6_walks_5 11 rfl rfl)
theorem dX6_walks_131 : decode cX6_walks 131 = .ok (.iinc 6 1, 3) := dk_132 6 1 (dk_at dksX6_walks_5 14 rfl rfl)
theorem dX6_walks_134 : decode cX6_walks 134 = .ok (.goto (-75), 3) := dk_167 255 181 (dk_at dksX6_walks_5 17 rfl rfl)
theorem dX6_walks_137 : decode cX6_walks 137 = .ok (.iinc 5 1, 3) := dk_132 5 1 (dk_at dksX6_walks_5 20 rfl rfl)
theorem dX6_walks_140 : decode cX6_walks 140 = .ok (.goto (-91), 3) := dk_167 255 165 (dk_at dksX6_walks_6 0 rfl rfl)
theorem dX6_walks_143 : decode cX6_walks 143 = .ok (.return_, 1) := dk_177 (dk_at dksX6_walks_6 3 rfl rfl)
abbrev cX6_has : ByteArray := prog_21_method_4_code
def yX6_has : MethodName := ⟨RX6, "has", "(II)Z"⟩
def dkwX6_has_0 : List UInt8 := [26, 27, 122, 4, 126, 4, 160, 0, 7, 4, 167, 0, 4, 3, 172]
abbrev dktX6_has_0 : List UInt8 := dkwX6_has_0 ++ []
theorem dksX6_has_0 : cX6_has.data.toList.drop 0 = dktX6_has_0 := by decide +kernel
theorem dX6_has_0 : decode cX6_has 0 = .ok (.iload_n 0, 1) := dk_26 (dk_at dksX6_has_0 0 rfl rfl)
theorem dX6_has_1 : decode cX6_has 1 = .ok (.iload_n 1, 1) := dk_27 (dk_at dksX6_has_0 1 rfl rfl)
theorem dX6_has_2 : decode cX6_has 2 = .ok (.ishr, 1) := dk_122 (dk_at dksX6_has_0 2 rfl rfl)
theorem dX6_has_3 : decode cX6_has 3 = .ok (.iconst 1, 1) := dk_4 (dk_at dksX6_has_0 3 rfl rfl)
theorem dX6_has_4 : decode cX6_has 4 = .ok (.iand, 1) := dk_126 (dk_at dksX6_has_0 4 rfl rfl)
theorem dX6_has_5 : decode cX6_has 5 = .ok (.iconst 1, 1) := dk_4 (dk_at dksX6_has_0 5 rfl rfl)
theorem dX6_has_6 : decode cX6_has 6 = .ok (.if_icmp .ne 7, 3) := dk_160 0 7 (dk_at dksX6_has_0 6 rfl rfl)
theorem dX6_has_9 : decode cX6_has 9 = .ok (.iconst 1, 1) := dk_4 (dk_at dksX6_has_0 9 rfl rfl)
theorem dX6_has_10 : decode cX6_has 10 = .ok (.goto 4, 3) := dk_167 0 4 (dk_at dksX6_has_0 10 rfl rfl)
theorem dX6_has_13 : decode cX6_has 13 = .ok (.iconst 0, 1) := dk_3 (dk_at dksX6_has_0 13 rfl rfl)
theorem dX6_has_14 : decode cX6_has 14 = .ok (.ireturn, 1) := dk_172 (dk_at dksX6_has_0 14 rfl rfl)
abbrev cX6_gives : ByteArray := prog_21_method_38_code
def yX6_gives : MethodName := ⟨RX6, "gives", "([IIII)V"⟩
def dkwX6_gives_2 : List UInt8 := [177]
abbrev dktX6_gives_2 : List UInt8 := dkwX6_gives_2 ++ []
def dkwX6_gives_1 : List UInt8 := [180, 0, 44, 29, 92, 46, 4, 21, 4, 120, 128, 79, 42, 180, 0, 47, 29, 92, 46, 4, 28, 120, 128, 79]
abbrev dktX6_gives_1 : List UInt8 := dkwX6_gives_1 ++ dktX6_gives_2
def dkwX6_gives_0 : List UInt8 := [43, 7, 5, 29, 104, 96, 46, 8, 159, 0, 39, 42, 43, 28, 21, 4, 182, 0, 175, 153, 0, 28, 42]
abbrev dktX6_gives_0 : List UInt8 := dkwX6_gives_0 ++ dktX6_gives_1
theorem dksX6_gives_0 : cX6_gives.data.toList.drop 0 = dktX6_gives_0 := by decide +kernel
theorem dksX6_gives_1 : cX6_gives.data.toList.drop 23 = dktX6_gives_1 := dk_seg dksX6_gives_0 23 rfl rfl
theorem dksX6_gives_2 : cX6_gives.data.toList.drop 47 = dktX6_gives_2 := dk_seg dksX6_gives_1 24 rfl rfl
theorem dX6_gives_0 : decode cX6_gives 0 = .ok (.aload_n 1, 1) := dk_43 (dk_at dksX6_gives_0 0 rfl rfl)
theorem dX6_gives_1 : decode cX6_gives 1 = .ok (.iconst 4, 1) := dk_7 (dk_at dksX6_gives_0 1 rfl rfl)
theorem dX6_gives_2 : decode cX6_gives 2 = .ok (.iconst 2, 1) := dk_5 (dk_at dksX6_gives_0 2 rfl rfl)
theorem dX6_gives_3 : decode cX6_gives 3 = .ok (.iload_n 3, 1) := dk_29 (dk_at dksX6_gives_0 3 rfl rfl)
theorem dX6_gives_4 : decode cX6_gives 4 = .ok (.imul, 1) := dk_104 (dk_at dksX6_gives_0 4 rfl rfl)
theorem dX6_gives_5 : decode cX6_gives 5 = .ok (.iadd, 1) := dk_96 (dk_at dksX6_gives_0 5 rfl rfl)
theorem dX6_gives_6 : decode cX6_gives 6 = .ok (.iaload, 1) := dk_46 (dk_at dksX6_gives_0 6 rfl rfl)
theorem dX6_gives_7 : decode cX6_gives 7 = .ok (.iconst 5, 1) := dk_8 (dk_at dksX6_gives_0 7 rfl rfl)
theorem dX6_gives_8 : decode cX6_gives 8 = .ok (.if_icmp .eq 39, 3) := dk_159 0 39 (dk_at dksX6_gives_0 8 rfl rfl)
theorem dX6_gives_11 : decode cX6_gives 11 = .ok (.aload_n 0, 1) := dk_42 (dk_at dksX6_gives_0 11 rfl rfl)
theorem dX6_gives_12 : decode cX6_gives 12 = .ok (.aload_n 1, 1) := dk_43 (dk_at dksX6_gives_0 12 rfl rfl)
theorem dX6_gives_13 : decode cX6_gives 13 = .ok (.iload_n 2, 1) := dk_28 (dk_at dksX6_gives_0 13 rfl rfl)
theorem dX6_gives_14 : decode cX6_gives 14 = .ok (.iload 4, 2) := dk_21 4 (dk_at dksX6_gives_0 14 rfl rfl)
theorem dX6_gives_16 : decode cX6_gives 16 = .ok (.invokevirtual 175, 3) := dk_182 0 175 (dk_at dksX6_gives_0 16 rfl rfl)
theorem dX6_gives_19 : decode cX6_gives 19 = .ok (.ifCond .eq 28, 3) := dk_153 0 28 (dk_at dksX6_gives_0 19 rfl rfl)
theorem dX6_gives_22 : decode cX6_gives 22 = .ok (.aload_n 0, 1) := dk_42 (dk_at dksX6_gives_0 22 rfl rfl)
theorem dX6_gives_23 : decode cX6_gives 23 = .ok (.getfield 44, 3) := dk_180 0 44 (dk_at dksX6_gives_1 0 rfl rfl)
theorem dX6_gives_26 : decode cX6_gives 26 = .ok (.iload_n 3, 1) := dk_29 (dk_at dksX6_gives_1 3 rfl rfl)
theorem dX6_gives_27 : decode cX6_gives 27 = .ok (.dup2, 1) := dk_92 (dk_at dksX6_gives_1 4 rfl rfl)
theorem dX6_gives_28 : decode cX6_gives 28 = .ok (.iaload, 1) := dk_46 (dk_at dksX6_gives_1 5 rfl rfl)
theorem dX6_gives_29 : decode cX6_gives 29 = .ok (.iconst 1, 1) := dk_4 (dk_at dksX6_gives_1 6 rfl rfl)
theorem dX6_gives_30 : decode cX6_gives 30 = .ok (.iload 4, 2) := dk_21 4 (dk_at dksX6_gives_1 7 rfl rfl)
theorem dX6_gives_32 : decode cX6_gives 32 = .ok (.ishl, 1) := dk_120 (dk_at dksX6_gives_1 9 rfl rfl)
theorem dX6_gives_33 : decode cX6_gives 33 = .ok (.ior, 1) := dk_128 (dk_at dksX6_gives_1 10 rfl rfl)
theorem dX6_gives_34 : decode cX6_gives 34 = .ok (.iastore, 1) := dk_79 (dk_at dksX6_gives_1 11 rfl rfl)
theorem dX6_gives_35 : decode cX6_gives 35 = .ok (.aload_n 0, 1) := dk_42 (dk_at dksX6_gives_1 12 rfl rfl)
theorem dX6_gives_36 : decode cX6_gives 36 = .ok (.getfield 47, 3) := dk_180 0 47 (dk_at dksX6_gives_1 13 rfl rfl)
theorem dX6_gives_39 : decode cX6_gives 39 = .ok (.iload_n 3, 1) := dk_29 (dk_at dksX6_gives_1 16 rfl rfl)
theorem dX6_gives_40 : decode cX6_gives 40 = .ok (.dup2, 1) := dk_92 (dk_at dksX6_gives_1 17 rfl rfl)
theorem dX6_gives_41 : decode cX6_gives 41 = .ok (.iaload, 1) := dk_46 (dk_at dksX6_gives_1 18 rfl rfl)
theorem dX6_gives_42 : decode cX6_gives 42 = .ok (.iconst 1, 1) := dk_4 (dk_at dksX6_gives_1 19 rfl rfl)
theorem dX6_gives_43 : decode cX6_gives 43 = .ok (.iload_n 2, 1) := dk_28 (dk_at dksX6_gives_1 20 rfl rfl)
theorem dX6_gives_44 : decode cX6_gives 44 = .ok (.ishl, 1) := dk_120 (dk_at dksX6_gives_1 21 rfl rfl)
theorem dX6_gives_45 : decode cX6_gives 45 = .ok (.ior, 1) := dk_128 (dk_at dksX6_gives_1 22 rfl rfl)
theorem dX6_gives_46 : decode cX6_gives 46 = .ok (.iastore, 1) := dk_79 (dk_at dksX6_gives_1 23 rfl rfl)
theorem dX6_gives_47 : decode cX6_gives 47 = .ok (.return_, 1) := dk_177 (dk_at dksX6_gives_2 0 rfl rfl)
abbrev cX6_passes : ByteArray := prog_21_method_37_code
def yX6_passes : MethodName := ⟨RX6, "passes", "([III)Z"⟩
def dkwX6_passes_2 : List UInt8 := [54, 4, 132, 5, 1, 167, 255, 210, 21, 4, 172]
abbrev dktX6_passes_2 : List UInt8 := dkwX6_passes_2 ++ []
def dkwX6_passes_1 : List UInt8 := [21, 5, 184, 0, 167, 153, 0, 18, 43, 28, 21, 5, 29, 184, 0, 171, 153, 0, 7, 4, 167, 0, 4, 3]
abbrev dktX6_passes_1 : List UInt8 := dkwX6_passes_1 ++ dktX6_passes_2
def dkwX6_passes_0 : List UInt8 := [3, 54, 4, 3, 54, 5, 21, 5, 29, 162, 0, 46, 21, 4, 154, 0, 28, 42, 180, 0, 44, 28, 46]
abbrev dktX6_passes_0 : List UInt8 := dkwX6_passes_0 ++ dktX6_passes_1
theorem dksX6_passes_0 : cX6_passes.data.toList.drop 0 = dktX6_passes_0 := by decide +kernel
theorem dksX6_passes_1 : cX6_passes.data.toList.drop 23 = dktX6_passes_1 := dk_seg dksX6_passes_0 23 rfl rfl
theorem dksX6_passes_2 : cX6_passes.data.toList.drop 47 = dktX6_passes_2 := dk_seg dksX6_passes_1 24 rfl rfl
theorem dX6_passes_0 : decode cX6_passes 0 = .ok (.iconst 0, 1) := dk_3 (dk_at dksX6_passes_0 0 rfl rfl)
theorem dX6_passes_1 : decode cX6_passes 1 = .ok (.istore 4, 2) := dk_54 4 (dk_at dksX6_passes_0 1 rfl rfl)
theorem dX6_passes_3 : decode cX6_passes 3 = .ok (.iconst 0, 1) := dk_3 (dk_at dksX6_passes_0 3 rfl rfl)
theorem dX6_passes_4 : decode cX6_passes 4 = .ok (.istore 5, 2) := dk_54 5 (dk_at dksX6_passes_0 4 rfl rfl)
theorem dX6_passes_6 : decode cX6_passes 6 = .ok (.iload 5, 2) := dk_21 5 (dk_at dksX6_passes_0 6 rfl rfl)
theorem dX6_passes_8 : decode cX6_passes 8 = .ok (.iload_n 3, 1) := dk_29 (dk_at dksX6_passes_0 8 rfl rfl)
theorem dX6_passes_9 : decode cX6_passes 9 = .ok (.if_icmp .ge 46, 3) := dk_162 0 46 (dk_at dksX6_passes_0 9 rfl rfl)
theorem dX6_passes_12 : decode cX6_passes 12 = .ok (.iload 4, 2) := dk_21 4 (dk_at dksX6_passes_0 12 rfl rfl)
theorem dX6_passes_14 : decode cX6_passes 14 = .ok (.ifCond .ne 28, 3) := dk_154 0 28 (dk_at dksX6_passes_0 14 rfl rfl)
theorem dX6_passes_17 : decode cX6_passes 17 = .ok (.aload_n 0, 1) := dk_42 (dk_at dksX6_passes_0 17 rfl rfl)
theorem dX6_passes_18 : decode cX6_passes 18 = .ok (.getfield 44, 3) := dk_180 0 44 (dk_at dksX6_passes_0 18 rfl rfl)
theorem dX6_passes_21 : decode cX6_passes 21 = .ok (.iload_n 2, 1) := dk_28 (dk_at dksX6_passes_0 21 rfl rfl)
theorem dX6_passes_22 : decode cX6_passes 22 = .ok (.iaload, 1) := dk_46 (dk_at dksX6_passes_0 22 rfl rfl)
theorem dX6_passes_23 : decode cX6_passes 23 = .ok (.iload 5, 2) := dk_21 5 (dk_at dksX6_passes_1 0 rfl rfl)
theorem dX6_passes_25 : decode cX6_passes 25 = .ok (.invokestatic 167, 3) := dk_184 0 167 (dk_at dksX6_passes_1 2 rfl rfl)
theorem dX6_passes_28 : decode cX6_passes 28 = .ok (.ifCond .eq 18, 3) := dk_153 0 18 (dk_at dksX6_passes_1 5 rfl rfl)
theorem dX6_passes_31 : decode cX6_passes 31 = .ok (.aload_n 1, 1) := dk_43 (dk_at dksX6_passes_1 8 rfl rfl)
theorem dX6_passes_32 : decode cX6_passes 32 = .ok (.iload_n 2, 1) := dk_28 (dk_at dksX6_passes_1 9 rfl rfl)
theorem dX6_passes_33 : decode cX6_passes 33 = .ok (.iload 5, 2) := dk_21 5 (dk_at dksX6_passes_1 10 rfl rfl)
theorem dX6_passes_35 : decode cX6_passes 35 = .ok (.iload_n 3, 1) := dk_29 (dk_at dksX6_passes_1 12 rfl rfl)
theorem dX6_passes_36 : decode cX6_passes 36 = .ok (.invokestatic 171, 3) := dk_184 0 171 (dk_at dksX6_passes_1 13 rfl rfl)
theorem dX6_passes_39 : decode cX6_passes 39 = .ok (.ifCond .eq 7, 3) := dk_153 0 7 (dk_at dksX6_passes_1 16 rfl rfl)
theorem dX6_passes_42 : decode cX6_passes 42 = .ok (.iconst 1, 1) := dk_4 (dk_at dksX6_passes_1 19 rfl rfl)
theorem dX6_passes_43 : decode cX6_passes 43 = .ok (.goto 4, 3) := dk_167 0 4 (dk_at dksX6_passes_1 20 rfl rfl)
theorem dX6_passes_46 : decode cX6_passes 46 = .ok (.iconst 0, 1) := dk_3 (dk_at dksX6_passes_1 23 rfl rfl)
theorem dX6_passes_47 : decode cX6_passes 47 = .ok (.istore 4, 2) := dk_54 4 (dk_at dksX6_passes_2 0 rfl rfl)
theorem dX6_passes_49 : decode cX6_passes 49 = .ok (.iinc 5 1, 3) := dk_132 5 1 (dk_at dksX6_passes_2 2 rfl rfl)
theorem dX6_passes_52 : decode cX6_passes 52 = .ok (.goto (-46), 3) := dk_167 255 210 (dk_at dksX6_passes_2 5 rfl rfl)
theorem dX6_passes_55 : decode cX6_passes 55 = .ok (.iload 4, 2) := dk_21 4 (dk_at dksX6_passes_2 8 rfl rfl)
theorem dX6_passes_57 : decode cX6_passes 57 = .ok (.ireturn, 1) := dk_172 (dk_at dksX6_passes_2 10 rfl rfl)
abbrev cX6_mayPass : ByteArray := prog_21_method_36_code
def yX6_mayPass : MethodName := ⟨RX6, "mayPass", "([IIII)Z"⟩
def dkwX6_mayPass_1 : List UInt8 := [28, 100, 42, 27, 4, 184, 0, 163, 163, 0, 7, 4, 167, 0, 4, 3, 172]
abbrev dktX6_mayPass_1 : List UInt8 := dkwX6_mayPass_1 ++ []
def dkwX6_mayPass_0 : List UInt8 := [42, 27, 3, 184, 0, 163, 54, 4, 21, 4, 18, 62, 159, 0, 27, 29, 28, 100, 21, 4, 161, 0, 19, 29]
abbrev dktX6_mayPass_0 : List UInt8 := dkwX6_mayPass_0 ++ dktX6_mayPass_1
theorem dksX6_mayPass_0 : cX6_mayPass.data.toList.drop 0 = dktX6_mayPass_0 := by decide +kernel
theorem dksX6_mayPass_1 : cX6_mayPass.data.toList.drop 24 = dktX6_mayPass_1 := dk_seg dksX6_mayPass_0 24 rfl rfl
theorem dX6_mayPass_0 : decode cX6_mayPass 0 = .ok (.aload_n 0, 1) := dk_42 (dk_at dksX6_mayPass_0 0 rfl rfl)
theorem dX6_mayPass_1 : decode cX6_mayPass 1 = .ok (.iload_n 1, 1) := dk_27 (dk_at dksX6_mayPass_0 1 rfl rfl)
theorem dX6_mayPass_2 : decode cX6_mayPass 2 = .ok (.iconst 0, 1) := dk_3 (dk_at dksX6_mayPass_0 2 rfl rfl)
theorem dX6_mayPass_3 : decode cX6_mayPass 3 = .ok (.invokestatic 163, 3) := dk_184 0 163 (dk_at dksX6_mayPass_0 3 rfl rfl)
theorem dX6_mayPass_6 : decode cX6_mayPass 6 = .ok (.istore 4, 2) := dk_54 4 (dk_at dksX6_mayPass_0 6 rfl rfl)
theorem dX6_mayPass_8 : decode cX6_mayPass 8 = .ok (.iload 4, 2) := dk_21 4 (dk_at dksX6_mayPass_0 8 rfl rfl)
theorem dX6_mayPass_10 : decode cX6_mayPass 10 = .ok (.ldc 62, 2) := dk_18 62 (dk_at dksX6_mayPass_0 10 rfl rfl)
theorem dX6_mayPass_12 : decode cX6_mayPass 12 = .ok (.if_icmp .eq 27, 3) := dk_159 0 27 (dk_at dksX6_mayPass_0 12 rfl rfl)
theorem dX6_mayPass_15 : decode cX6_mayPass 15 = .ok (.iload_n 3, 1) := dk_29 (dk_at dksX6_mayPass_0 15 rfl rfl)
theorem dX6_mayPass_16 : decode cX6_mayPass 16 = .ok (.iload_n 2, 1) := dk_28 (dk_at dksX6_mayPass_0 16 rfl rfl)
theorem dX6_mayPass_17 : decode cX6_mayPass 17 = .ok (.isub, 1) := dk_100 (dk_at dksX6_mayPass_0 17 rfl rfl)
theorem dX6_mayPass_18 : decode cX6_mayPass 18 = .ok (.iload 4, 2) := dk_21 4 (dk_at dksX6_mayPass_0 18 rfl rfl)
theorem dX6_mayPass_20 : decode cX6_mayPass 20 = .ok (.if_icmp .lt 19, 3) := dk_161 0 19 (dk_at dksX6_mayPass_0 20 rfl rfl)
theorem dX6_mayPass_23 : decode cX6_mayPass 23 = .ok (.iload_n 3, 1) := dk_29 (dk_at dksX6_mayPass_0 23 rfl rfl)
theorem dX6_mayPass_24 : decode cX6_mayPass 24 = .ok (.iload_n 2, 1) := dk_28 (dk_at dksX6_mayPass_1 0 rfl rfl)
theorem dX6_mayPass_25 : decode cX6_mayPass 25 = .ok (.isub, 1) := dk_100 (dk_at dksX6_mayPass_1 1 rfl rfl)
theorem dX6_mayPass_26 : decode cX6_mayPass 26 = .ok (.aload_n 0, 1) := dk_42 (dk_at dksX6_mayPass_1 2 rfl rfl)
theorem dX6_mayPass_27 : decode cX6_mayPass 27 = .ok (.iload_n 1, 1) := dk_27 (dk_at dksX6_mayPass_1 3 rfl rfl)
theorem dX6_mayPass_28 : decode cX6_mayPass 28 = .ok (.iconst 1, 1) := dk_4 (dk_at dksX6_mayPass_1 4 rfl rfl)
theorem dX6_mayPass_29 : decode cX6_mayPass 29 = .ok (.invokestatic 163, 3) := dk_184 0 163 (dk_at dksX6_mayPass_1 5 rfl rfl)
theorem dX6_mayPass_32 : decode cX6_mayPass 32 = .ok (.if_icmp .gt 7, 3) := dk_163 0 7 (dk_at dksX6_mayPass_1 8 rfl rfl)
theorem dX6_mayPass_35 : decode cX6_mayPass 35 = .ok (.iconst 1, 1) := dk_4 (dk_at dksX6_mayPass_1 11 rfl rfl)
theorem dX6_mayPass_36 : decode cX6_mayPass 36 = .ok (.goto 4, 3) := dk_167 0 4 (dk_at dksX6_mayPass_1 12 rfl rfl)
theorem dX6_mayPass_39 : decode cX6_mayPass 39 = .ok (.iconst 0, 1) := dk_3 (dk_at dksX6_mayPass_1 15 rfl rfl)
theorem dX6_mayPass_40 : decode cX6_mayPass 40 = .ok (.ireturn, 1) := dk_172 (dk_at dksX6_mayPass_1 16 rfl rfl)
abbrev cX6_givers : ByteArray := prog_21_method_54_code
def yX6_givers : MethodName := ⟨RX6, "givers", "(III)I"⟩
def dkwX6_givers_1 : List UInt8 := [180, 0, 25, 27, 28, 3, 182, 0, 206, 42, 180, 0, 47, 29, 46, 172]
abbrev dktX6_givers_1 : List UInt8 := dkwX6_givers_1 ++ []
def dkwX6_givers_0 : List UInt8 := [42, 27, 28, 182, 0, 203, 153, 0, 11, 42, 29, 182, 0, 186, 154, 0, 6, 18, 76, 172, 42, 42]
abbrev dktX6_givers_0 : List UInt8 := dkwX6_givers_0 ++ dktX6_givers_1
theorem dksX6_givers_0 : cX6_givers.data.toList.drop 0 = dktX6_givers_0 := by decide +kernel
theorem dksX6_givers_1 : cX6_givers.data.toList.drop 22 = dktX6_givers_1 := dk_seg dksX6_givers_0 22 rfl rfl
theorem dX6_givers_0 : decode cX6_givers 0 = .ok (.aload_n 0, 1) := dk_42 (dk_at dksX6_givers_0 0 rfl rfl)
theorem dX6_givers_1 : decode cX6_givers 1 = .ok (.iload_n 1, 1) := dk_27 (dk_at dksX6_givers_0 1 rfl rfl)
theorem dX6_givers_2 : decode cX6_givers 2 = .ok (.iload_n 2, 1) := dk_28 (dk_at dksX6_givers_0 2 rfl rfl)
theorem dX6_givers_3 : decode cX6_givers 3 = .ok (.invokevirtual 203, 3) := dk_182 0 203 (dk_at dksX6_givers_0 3 rfl rfl)
theorem dX6_givers_6 : decode cX6_givers 6 = .ok (.ifCond .eq 11, 3) := dk_153 0 11 (dk_at dksX6_givers_0 6 rfl rfl)
theorem dX6_givers_9 : decode cX6_givers 9 = .ok (.aload_n 0, 1) := dk_42 (dk_at dksX6_givers_0 9 rfl rfl)
theorem dX6_givers_10 : decode cX6_givers 10 = .ok (.iload_n 3, 1) := dk_29 (dk_at dksX6_givers_0 10 rfl rfl)
theorem dX6_givers_11 : decode cX6_givers 11 = .ok (.invokevirtual 186, 3) := dk_182 0 186 (dk_at dksX6_givers_0 11 rfl rfl)
theorem dX6_givers_14 : decode cX6_givers 14 = .ok (.ifCond .ne 6, 3) := dk_154 0 6 (dk_at dksX6_givers_0 14 rfl rfl)
theorem dX6_givers_17 : decode cX6_givers 17 = .ok (.ldc 76, 2) := dk_18 76 (dk_at dksX6_givers_0 17 rfl rfl)
theorem dX6_givers_19 : decode cX6_givers 19 = .ok (.ireturn, 1) := dk_172 (dk_at dksX6_givers_0 19 rfl rfl)
theorem dX6_givers_20 : decode cX6_givers 20 = .ok (.aload_n 0, 1) := dk_42 (dk_at dksX6_givers_0 20 rfl rfl)
theorem dX6_givers_21 : decode cX6_givers 21 = .ok (.aload_n 0, 1) := dk_42 (dk_at dksX6_givers_0 21 rfl rfl)
theorem dX6_givers_22 : decode cX6_givers 22 = .ok (.getfield 25, 3) := dk_180 0 25 (dk_at dksX6_givers_1 0 rfl rfl)
theorem dX6_givers_25 : decode cX6_givers 25 = .ok (.iload_n 1, 1) := dk_27 (dk_at dksX6_givers_1 3 rfl rfl)
theorem dX6_givers_26 : decode cX6_givers 26 = .ok (.iload_n 2, 1) := dk_28 (dk_at dksX6_givers_1 4 rfl rfl)
theorem dX6_givers_27 : decode cX6_givers 27 = .ok (.iconst 0, 1) := dk_3 (dk_at dksX6_givers_1 5 rfl rfl)
theorem dX6_givers_28 : decode cX6_givers 28 = .ok (.invokevirtual 206, 3) := dk_182 0 206 (dk_at dksX6_givers_1 6 rfl rfl)
theorem dX6_givers_31 : decode cX6_givers 31 = .ok (.aload_n 0, 1) := dk_42 (dk_at dksX6_givers_1 9 rfl rfl)
theorem dX6_givers_32 : decode cX6_givers 32 = .ok (.getfield 47, 3) := dk_180 0 47 (dk_at dksX6_givers_1 10 rfl rfl)
theorem dX6_givers_35 : decode cX6_givers 35 = .ok (.iload_n 3, 1) := dk_29 (dk_at dksX6_givers_1 13 rfl rfl)
theorem dX6_givers_36 : decode cX6_givers 36 = .ok (.iaload, 1) := dk_46 (dk_at dksX6_givers_1 14 rfl rfl)
theorem dX6_givers_37 : decode cX6_givers 37 = .ok (.ireturn, 1) := dk_172 (dk_at dksX6_givers_1 15 rfl rfl)
abbrev cX6_chain : ByteArray := prog_21_method_59_code
def yX6_chain : MethodName := ⟨RX6, "chain", "(IIII)I"⟩
def dkwX6_chain_3 : List UInt8 := [167, 0, 5, 18, 62, 172]
abbrev dktX6_chain_3 : List UInt8 := dkwX6_chain_3 ++ []
def dkwX6_chain_2 : List UInt8 := [180, 0, 220, 167, 0, 26, 21, 4, 42, 180, 0, 220, 162, 0, 15, 42, 180, 0, 53, 21, 4, 46, 5, 108]
abbrev dktX6_chain_2 : List UInt8 := dkwX6_chain_2 ++ dktX6_chain_3
def dkwX6_chain_1 : List UInt8 := [18, 76, 172, 42, 27, 28, 29, 182, 0, 223, 154, 0, 6, 18, 62, 172, 21, 4, 2, 160, 0, 10, 42]
abbrev dktX6_chain_1 : List UInt8 := dkwX6_chain_1 ++ dktX6_chain_2
def dkwX6_chain_0 : List UInt8 := [42, 27, 28, 182, 0, 203, 153, 0, 17, 42, 29, 182, 0, 186, 153, 0, 9, 21, 4, 2, 162, 0, 6]
abbrev dktX6_chain_0 : List UInt8 := dkwX6_chain_0 ++ dktX6_chain_1
theorem dksX6_chain_0 : cX6_chain.data.toList.drop 0 = dktX6_chain_0 := by decide +kernel
theorem dksX6_chain_1 : cX6_chain.data.toList.drop 23 = dktX6_chain_1 := dk_seg dksX6_chain_0 23 rfl rfl
theorem dksX6_chain_2 : cX6_chain.data.toList.drop 46 = dktX6_chain_2 := dk_seg dksX6_chain_1 23 rfl rfl
theorem dksX6_chain_3 : cX6_chain.data.toList.drop 70 = dktX6_chain_3 := dk_seg dksX6_chain_2 24 rfl rfl
theorem dX6_chain_0 : decode cX6_chain 0 = .ok (.aload_n 0, 1) := dk_42 (dk_at dksX6_chain_0 0 rfl rfl)
theorem dX6_chain_1 : decode cX6_chain 1 = .ok (.iload_n 1, 1) := dk_27 (dk_at dksX6_chain_0 1 rfl rfl)
theorem dX6_chain_2 : decode cX6_chain 2 = .ok (.iload_n 2, 1) := dk_28 (dk_at dksX6_chain_0 2 rfl rfl)
theorem dX6_chain_3 : decode cX6_chain 3 = .ok (.invokevirtual 203, 3) := dk_182 0 203 (dk_at dksX6_chain_0 3 rfl rfl)
theorem dX6_chain_6 : decode cX6_chain 6 = .ok (.ifCond .eq 17, 3) := dk_153 0 17 (dk_at dksX6_chain_0 6 rfl rfl)
theorem dX6_chain_9 : decode cX6_chain 9 = .ok (.aload_n 0, 1) := dk_42 (dk_at dksX6_chain_0 9 rfl rfl)
theorem dX6_chain_10 : decode cX6_chain 10 = .ok (.iload_n 3, 1) := dk_29 (dk_at dksX6_chain_0 10 rfl rfl)
theorem dX6_chain_11 : decode cX6_chain 11 = .ok (.invokevirtual 186, 3) := dk_182 0 186 (dk_at dksX6_chain_0 11 rfl rfl)
theorem dX6_chain_14 : decode cX6_chain 14 = .ok (.ifCond .eq 9, 3) := dk_153 0 9 (dk_at dksX6_chain_0 14 rfl rfl)
theorem dX6_chain_17 : decode cX6_chain 17 = .ok (.iload 4, 2) := dk_21 4 (dk_at dksX6_chain_0 17 rfl rfl)
theorem dX6_chain_19 : decode cX6_chain 19 = .ok (.iconst (-1), 1) := dk_2 (dk_at dksX6_chain_0 19 rfl rfl)
theorem dX6_chain_20 : decode cX6_chain 20 = .ok (.if_icmp .ge 6, 3) := dk_162 0 6 (dk_at dksX6_chain_0 20 rfl rfl)
theorem dX6_chain_23 : decode cX6_chain 23 = .ok (.ldc 76, 2) := dk_18 76 (dk_at dksX6_chain_1 0 rfl rfl)
theorem dX6_chain_25 : decode cX6_chain 25 = .ok (.ireturn, 1) := dk_172 (dk_at dksX6_chain_1 2 rfl rfl)
theorem dX6_chain_26 : decode cX6_chain 26 = .ok (.aload_n 0, 1) := dk_42 (dk_at dksX6_chain_1 3 rfl rfl)
theorem dX6_chain_27 : decode cX6_chain 27 = .ok (.iload_n 1, 1) := dk_27 (dk_at dksX6_chain_1 4 rfl rfl)
theorem dX6_chain_28 : decode cX6_chain 28 = .ok (.iload_n 2, 1) := dk_28 (dk_at dksX6_chain_1 5 rfl rfl)
theorem dX6_chain_29 : decode cX6_chain 29 = .ok (.iload_n 3, 1) := dk_29 (dk_at dksX6_chain_1 6 rfl rfl)
theorem dX6_chain_30 : decode cX6_chain 30 = .ok (.invokevirtual 223, 3) := dk_182 0 223 (dk_at dksX6_chain_1 7 rfl rfl)
theorem dX6_chain_33 : decode cX6_chain 33 = .ok (.ifCond .ne 6, 3) := dk_154 0 6 (dk_at dksX6_chain_1 10 rfl rfl)
theorem dX6_chain_36 : decode cX6_chain 36 = .ok (.ldc 62, 2) := dk_18 62 (dk_at dksX6_chain_1 13 rfl rfl)
theorem dX6_chain_38 : decode cX6_chain 38 = .ok (.ireturn, 1) := dk_172 (dk_at dksX6_chain_1 15 rfl rfl)
theorem dX6_chain_39 : decode cX6_chain 39 = .ok (.iload 4, 2) := dk_21 4 (dk_at dksX6_chain_1 16 rfl rfl)
theorem dX6_chain_41 : decode cX6_chain 41 = .ok (.iconst (-1), 1) := dk_2 (dk_at dksX6_chain_1 18 rfl rfl)
theorem dX6_chain_42 : decode cX6_chain 42 = .ok (.if_icmp .ne 10, 3) := dk_160 0 10 (dk_at dksX6_chain_1 19 rfl rfl)
theorem dX6_chain_45 : decode cX6_chain 45 = .ok (.aload_n 0, 1) := dk_42 (dk_at dksX6_chain_1 22 rfl rfl)
theorem dX6_chain_46 : decode cX6_chain 46 = .ok (.getfield 220, 3) := dk_180 0 220 (dk_at dksX6_chain_2 0 rfl rfl)
theorem dX6_chain_49 : decode cX6_chain 49 = .ok (.goto 26, 3) := dk_167 0 26 (dk_at dksX6_chain_2 3 rfl rfl)
theorem dX6_chain_52 : decode cX6_chain 52 = .ok (.iload 4, 2) := dk_21 4 (dk_at dksX6_chain_2 6 rfl rfl)
theorem dX6_chain_54 : decode cX6_chain 54 = .ok (.aload_n 0, 1) := dk_42 (dk_at dksX6_chain_2 8 rfl rfl)
theorem dX6_chain_55 : decode cX6_chain 55 = .ok (.getfield 220, 3) := dk_180 0 220 (dk_at dksX6_chain_2 9 rfl rfl)
theorem dX6_chain_58 : decode cX6_chain 58 = .ok (.if_icmp .ge 15, 3) := dk_162 0 15 (dk_at dksX6_chain_2 12 rfl rfl)
theorem dX6_chain_61 : decode cX6_chain 61 = .ok (.aload_n 0, 1) := dk_42 (dk_at dksX6_chain_2 15 rfl rfl)
theorem dX6_chain_62 : decode cX6_chain 62 = .ok (.getfield 53, 3) := dk_180 0 53 (dk_at dksX6_chain_2 16 rfl rfl)
theorem dX6_chain_65 : decode cX6_chain 65 = .ok (.iload 4, 2) := dk_21 4 (dk_at dksX6_chain_2 19 rfl rfl)
theorem dX6_chain_67 : decode cX6_chain 67 = .ok (.iaload, 1) := dk_46 (dk_at dksX6_chain_2 21 rfl rfl)
theorem dX6_chain_68 : decode cX6_chain 68 = .ok (.iconst 2, 1) := dk_5 (dk_at dksX6_chain_2 22 rfl rfl)
theorem dX6_chain_69 : decode cX6_chain 69 = .ok (.idiv, 1) := dk_108 (dk_at dksX6_chain_2 23 rfl rfl)
theorem dX6_chain_70 : decode cX6_chain 70 = .ok (.goto 5, 3) := dk_167 0 5 (dk_at dksX6_chain_3 0 rfl rfl)
theorem dX6_chain_73 : decode cX6_chain 73 = .ok (.ldc 62, 2) := dk_18 62 (dk_at dksX6_chain_3 3 rfl rfl)
theorem dX6_chain_75 : decode cX6_chain 75 = .ok (.ireturn, 1) := dk_172 (dk_at dksX6_chain_3 5 rfl rfl)
abbrev cX6_isLinked : ByteArray := prog_21_method_58_code
def yX6_isLinked : MethodName := ⟨RX6, "isLinked", "(III)Z"⟩
def dkwX6_isLinked_11 : List UInt8 := [167, 255, 153, 4, 172]
abbrev dktX6_isLinked_11 : List UInt8 := dkwX6_isLinked_11 ++ []
def dkwX6_isLinked_10 : List UInt8 := [54, 5, 42, 180, 0, 25, 16, 22, 6, 21, 7, 5, 108, 104, 96, 5, 96, 46, 54, 6, 132, 4, 255]
abbrev dktX6_isLinked_10 : List UInt8 := dkwX6_isLinked_10 ++ dktX6_isLinked_11
def dkwX6_isLinked_9 : List UInt8 := [79, 42, 89, 180, 0, 220, 4, 96, 181, 0, 220, 42, 21, 7, 5, 108, 21, 7, 5, 112, 182, 0, 209]
abbrev dktX6_isLinked_9 : List UInt8 := dkwX6_isLinked_9 ++ dktX6_isLinked_10
def dkwX6_isLinked_8 : List UInt8 := [46, 21, 4, 4, 100, 159, 0, 9, 132, 7, 1, 167, 255, 220, 42, 180, 0, 53, 42, 180, 0, 220, 21, 7]
abbrev dktX6_isLinked_8 : List UInt8 := dkwX6_isLinked_8 ++ dktX6_isLinked_9
def dkwX6_isLinked_7 : List UInt8 := [21, 5, 21, 6, 21, 7, 5, 108, 21, 7, 5, 112, 182, 0, 212, 153, 0, 17, 42, 180, 0, 50, 21, 7]
abbrev dktX6_isLinked_7 : List UInt8 := dkwX6_isLinked_7 ++ dktX6_isLinked_8
def dkwX6_isLinked_6 : List UInt8 := [17, 3, 232, 161, 0, 5, 3, 172, 27, 54, 5, 28, 54, 6, 21, 4, 158, 0, 104, 3, 54, 7, 42]
abbrev dktX6_isLinked_6 : List UInt8 := dkwX6_isLinked_6 ++ dktX6_isLinked_7
def dkwX6_isLinked_5 : List UInt8 := [132, 4, 255, 167, 255, 166, 42, 27, 28, 29, 182, 0, 216, 54, 4, 42, 3, 181, 0, 220, 21, 4]
abbrev dktX6_isLinked_5 : List UInt8 := dkwX6_isLinked_5 ++ dktX6_isLinked_6
def dkwX6_isLinked_4 : List UInt8 := [182, 0, 209, 21, 4, 29, 182, 0, 216, 79, 132, 6, 1, 167, 255, 201, 132, 5, 1, 167, 255, 181]
abbrev dktX6_isLinked_4 : List UInt8 := dkwX6_isLinked_4 ++ dktX6_isLinked_5
def dkwX6_isLinked_3 : List UInt8 := [96, 46, 21, 4, 160, 0, 36, 42, 180, 0, 50, 5, 21, 5, 104, 21, 6, 96, 42, 42, 21, 5, 21, 6]
abbrev dktX6_isLinked_3 : List UInt8 := dkwX6_isLinked_3 ++ dktX6_isLinked_4
def dkwX6_isLinked_2 : List UInt8 := [162, 0, 70, 3, 54, 6, 21, 6, 5, 162, 0, 55, 42, 180, 0, 25, 16, 22, 6, 21, 5, 104, 96, 5]
abbrev dktX6_isLinked_2 : List UInt8 := dkwX6_isLinked_2 ++ dktX6_isLinked_3
def dkwX6_isLinked_1 : List UInt8 := [167, 255, 236, 16, 30, 54, 4, 21, 4, 28, 164, 0, 90, 3, 54, 5, 21, 5, 42, 180, 0, 25, 4, 46]
abbrev dktX6_isLinked_1 : List UInt8 := dkwX6_isLinked_1 ++ dktX6_isLinked_2
def dkwX6_isLinked_0 : List UInt8 := [3, 54, 4, 21, 4, 16, 20, 162, 0, 19, 42, 180, 0, 50, 21, 4, 17, 3, 232, 79, 132, 4, 1]
abbrev dktX6_isLinked_0 : List UInt8 := dkwX6_isLinked_0 ++ dktX6_isLinked_1
theorem dksX6_isLinked_0 : cX6_isLinked.data.toList.drop 0 = dktX6_isLinked_0 := by decide +kernel
theorem dksX6_isLinked_1 : cX6_isLinked.data.toList.drop 23 = dktX6_isLinked_1 := dk_seg dksX6_isLinked_0 23 rfl rfl
theorem dksX6_isLinked_2 : cX6_isLinked.data.toList.drop 47 = dktX6_isLinked_2 := dk_seg dksX6_isLinked_1 24 rfl rfl
theorem dksX6_isLinked_3 : cX6_isLinked.data.toList.drop 71 = dktX6_isLinked_3 := dk_seg dksX6_isLinked_2 24 rfl rfl
theorem dksX6_isLinked_4 : cX6_isLinked.data.toList.drop 95 = dktX6_isLinked_4 := dk_seg dksX6_isLinked_3 24 rfl rfl
theorem dksX6_isLinked_5 : cX6_isLinked.data.toList.drop 117 = dktX6_isLinked_5 := dk_seg dksX6_isLinked_4 22 rfl rfl
theorem dksX6_isLinked_6 : cX6_isLinked.data.toList.drop 139 = dktX6_isLinked_6 := dk_seg dksX6_isLinked_5 22 rfl rfl
theorem dksX6_isLinked_7 : cX6_isLinked.data.toList.drop 162 = dktX6_isLinked_7 := dk_seg dksX6_isLinked_6 23 rfl rfl
theorem dksX6_isLinked_8 : cX6_isLinked.data.toList.drop 186 = dktX6_isLinked_8 := dk_seg dksX6_isLinked_7 24 rfl rfl
theorem dksX6_isLinked_9 : cX6_isLinked.data.toList.drop 210 = dktX6_isLinked_9 := dk_seg dksX6_isLinked_8 24 rfl rfl
theorem dksX6_isLinked_10 : cX6_isLinked.data.toList.drop 233 = dktX6_isLinked_10 := dk_seg dksX6_isLinked_9 23 rfl rfl
theorem dksX6_isLinked_11 : cX6_isLinked.data.toList.drop 256 = dktX6_isLinked_11 := dk_seg dksX6_isLinked_10 23 rfl rfl
theorem dX6_isLinked_0 : decode cX6_isLinked 0 = .ok (.iconst 0, 1) := dk_3 (dk_at dksX6_isLinked_0 0 rfl rfl)
theorem dX6_isLinked_1 : decode cX6_isLinked 1 = .ok (.istore 4, 2) := dk_54 4 (dk_at dksX6_isLinked_0 1 rfl rfl)
theorem dX6_isLinked_3 : decode cX6_isLinked 3 = .ok (.iload 4, 2) := dk_21 4 (dk_at dksX6_isLinked_0 3 rfl rfl)
theorem dX6_isLinked_5 : decode cX6_isLinked 5 = .ok (.bipush 20, 2) := dk_16 20 (dk_at dksX6_isLinked_0 5 rfl rfl)
theorem dX6_isLinked_7 : decode cX6_isLinked 7 = .ok (.if_icmp .ge 19, 3) := dk_162 0 19 (dk_at dksX6_isLinked_0 7 rfl rfl)
theorem dX6_isLinked_10 : decode cX6_isLinked 10 = .ok (.aload_n 0, 1) := dk_42 (dk_at dksX6_isLinked_0 10 rfl rfl)
theorem dX6_isLinked_11 : decode cX6_isLinked 11 = .ok (.getfield 50, 3) := dk_180 0 50 (dk_at dksX6_isLinked_0 11 rfl rfl)
theorem dX6_isLinked_14 : decode cX6_isLinked 14 = .ok (.iload 4, 2) := dk_21 4 (dk_at dksX6_isLinked_0 14 rfl rfl)
theorem dX6_isLinked_16 : decode cX6_isLinked 16 = .ok (.sipush 1000, 3) := dk_17 3 232 (dk_at dksX6_isLinked_0 16 rfl rfl)
theorem dX6_isLinked_19 : decode cX6_isLinked 19 = .ok (.iastore, 1) := dk_79 (dk_at dksX6_isLinked_0 19 rfl rfl)
theorem dX6_isLinked_20 : decode cX6_isLinked 20 = .ok (.iinc 4 1, 3) := dk_132 4 1 (dk_at dksX6_isLinked_0 20 rfl rfl)
theorem dX6_isLinked_23 : decode cX6_isLinked 23 = .ok (.goto (-20), 3) := dk_167 255 236 (dk_at dksX6_isLinked_1 0 rfl rfl)
theorem dX6_isLinked_26 : decode cX6_isLinked 26 = .ok (.bipush 30, 2) := dk_16 30 (dk_at dksX6_isLinked_1 3 rfl rfl)
theorem dX6_isLinked_28 : decode cX6_isLinked 28 = .ok (.istore 4, 2) := dk_54 4 (dk_at dksX6_isLinked_1 5 rfl rfl)
theorem dX6_isLinked_30 : decode cX6_isLinked 30 = .ok (.iload 4, 2) := dk_21 4 (dk_at dksX6_isLinked_1 7 rfl rfl)
theorem dX6_isLinked_32 : decode cX6_isLinked 32 = .ok (.iload_n 2, 1) := dk_28 (dk_at dksX6_isLinked_1 9 rfl rfl)
theorem dX6_isLinked_33 : decode cX6_isLinked 33 = .ok (.if_icmp .le 90, 3) := dk_164 0 90 (dk_at dksX6_isLinked_1 10 rfl rfl)
theorem dX6_isLinked_36 : decode cX6_isLinked 36 = .ok (.iconst 0, 1) := dk_3 (dk_at dksX6_isLinked_1 13 rfl rfl)
theorem dX6_isLinked_37 : decode cX6_isLinked 37 = .ok (.istore 5, 2) := dk_54 5 (dk_at dksX6_isLinked_1 14 rfl rfl)
theorem dX6_isLinked_39 : decode cX6_isLinked 39 = .ok (.iload 5, 2) := dk_21 5 (dk_at dksX6_isLinked_1 16 rfl rfl)
theorem dX6_isLinked_41 : decode cX6_isLinked 41 = .ok (.aload_n 0, 1) := dk_42 (dk_at dksX6_isLinked_1 18 rfl rfl)
theorem dX6_isLinked_42 : decode cX6_isLinked 42 = .ok (.getfield 25, 3) := dk_180 0 25 (dk_at dksX6_isLinked_1 19 rfl rfl)
theorem dX6_isLinked_45 : decode cX6_isLinked 45 = .ok (.iconst 1, 1) := dk_4 (dk_at dksX6_isLinked_1 22 rfl rfl)
theorem dX6_isLinked_46 : decode cX6_isLinked 46 = .ok (.iaload, 1) := dk_46 (dk_at dksX6_isLinked_1 23 rfl rfl)
theorem dX6_isLinked_47 : decode cX6_isLinked 47 = .ok (.if_icmp .ge 70, 3) := dk_162 0 70 (dk_at dksX6_isLinked_2 0 rfl rfl)
theorem dX6_isLinked_50 : decode cX6_isLinked 50 = .ok (.iconst 0, 1) := dk_3 (dk_at dksX6_isLinked_2 3 rfl rfl)
theorem dX6_isLinked_51 : decode cX6_isLinked 51 = .ok (.istore 6, 2) := dk_54 6 (dk_at dksX6_isLinked_2 4 rfl rfl)
theorem dX6_isLinked_53 : decode cX6_isLinked 53 = .ok (.iload 6, 2) := dk_21 6 (dk_at dksX6_isLinked_2 6 rfl rfl)
theorem dX6_isLinked_55 : decode cX6_isLinked 55 = .ok (.iconst 2, 1) := dk_5 (dk_at dksX6_isLinked_2 8 rfl rfl)
theorem dX6_isLinked_56 : decode cX6_isLinked 56 = .ok (.if_icmp .ge 55, 3) := dk_162 0 55 (dk_at dksX6_isLinked_2 9 rfl rfl)
theorem dX6_isLinked_59 : decode cX6_isLinked 59 = .ok (.aload_n 0, 1) := dk_42 (dk_at dksX6_isLinked_2 12 rfl rfl)
theorem dX6_isLinked_60 : decode cX6_isLinked 60 = .ok (.getfield 25, 3) := dk_180 0 25 (dk_at dksX6_isLinked_2 13 rfl rfl)
theorem dX6_isLinked_63 : decode cX6_isLinked 63 = .ok (.bipush 22, 2) := dk_16 22 (dk_at dksX6_isLinked_2 16 rfl rfl)
theorem dX6_isLinked_65 : decode cX6_isLinked 65 = .ok (.iconst 3, 1) := dk_6 (dk_at dksX6_isLinked_2 18 rfl rfl)
theorem dX6_isLinked_66 : decode cX6_isLinked 66 = .ok (.iload 5, 2) := dk_21 5 (dk_at dksX6_isLinked_2 19 rfl rfl)
theorem dX6_isLinked_68 : decode cX6_isLinked 68 = .ok (.imul, 1) := dk_104 (dk_at dksX6_isLinked_2 21 rfl rfl)
theorem dX6_isLinked_69 : decode cX6_isLinked 69 = .ok (.iadd, 1) := dk_96 (dk_at dksX6_isLinked_2 22 rfl rfl)
theorem dX6_isLinked_70 : decode cX6_isLinked 70 = .ok (.iconst 2, 1) := dk_5 (dk_at dksX6_isLinked_2 23 rfl rfl)
theorem dX6_isLinked_71 : decode cX6_isLinked 71 = .ok (.iadd, 1) := dk_96 (dk_at dksX6_isLinked_3 0 rfl rfl)
theorem dX6_isLinked_72 : decode cX6_isLinked 72 = .ok (.iaload, 1) := dk_46 (dk_at dksX6_isLinked_3 1 rfl rfl)
theorem dX6_isLinked_73 : decode cX6_isLinked 73 = .ok (.iload 4, 2) := dk_21 4 (dk_at dksX6_isLinked_3 2 rfl rfl)
theorem dX6_isLinked_75 : decode cX6_isLinked 75 = .ok (.if_icmp .ne 36, 3) := dk_160 0 36 (dk_at dksX6_isLinked_3 4 rfl rfl)
theorem dX6_isLinked_78 : decode cX6_isLinked 78 = .ok (.aload_n 0, 1) := dk_42 (dk_at dksX6_isLinked_3 7 rfl rfl)
theorem dX6_isLinked_79 : decode cX6_isLinked 79 = .ok (.getfield 50, 3) := dk_180 0 50 (dk_at dksX6_isLinked_3 8 rfl rfl)
theorem dX6_isLinked_82 : decode cX6_isLinked 82 = .ok (.iconst 2, 1) := dk_5 (dk_at dksX6_isLinked_3 11 rfl rfl)
theorem dX6_isLinked_83 : decode cX6_isLinked 83 = .ok (.iload 5, 2) := dk_21 5 (dk_at dksX6_isLinked_3 12 rfl rfl)
theorem dX6_isLinked_85 : decode cX6_isLinked 85 = .ok (.imul, 1) := dk_104 (dk_at dksX6_isLinked_3 14 rfl rfl)
theorem dX6_isLinked_86 : decode cX6_isLinked 86 = .ok (.iload 6, 2) := dk_21 6 (dk_at dksX6_isLinked_3 15 rfl rfl)
theorem dX6_isLinked_88 : decode cX6_isLinked 88 = .ok (.iadd, 1) := dk_96 (dk_at dksX6_isLinked_3 17 rfl rfl)
theorem dX6_isLinked_89 : decode cX6_isLinked 89 = .ok (.aload_n 0, 1) := dk_42 (dk_at dksX6_isLinked_3 18 rfl rfl)
theorem dX6_isLinked_90 : decode cX6_isLinked 90 = .ok (.aload_n 0, 1) := dk_42 (dk_at dksX6_isLinked_3 19 rfl rfl)
theorem dX6_isLinked_91 : decode cX6_isLinked 91 = .ok (.iload 5, 2) := dk_21 5 (dk_at dksX6_isLinked_3 20 rfl rfl)
theorem dX6_isLinked_93 : decode cX6_isLinked 93 = .ok (.iload 6, 2) := dk_21 6 (dk_at dksX6_isLinked_3 22 rfl rfl)
theorem dX6_isLinked_95 : decode cX6_isLinked 95 = .ok (.invokevirtual 209, 3) := dk_182 0 209 (dk_at dksX6_isLinked_4 0 rfl rfl)
theorem dX6_isLinked_98 : decode cX6_isLinked 98 = .ok (.iload 4, 2) := dk_21 4 (dk_at dksX6_isLinked_4 3 rfl rfl)
theorem dX6_isLinked_100 : decode cX6_isLinked 100 = .ok (.iload_n 3, 1) := dk_29 (dk_at dksX6_isLinked_4 5 rfl rfl)
theorem dX6_isLinked_101 : decode cX6_isLinked 101 = .ok (.invokevirtual 216, 3) := dk_182 0 216 (dk_at dksX6_isLinked_4 6 rfl rfl)
theorem dX6_isLinked_104 : decode cX6_isLinked 104 = .ok (.iastore, 1) := dk_79 (dk_at dksX6_isLinked_4 9 rfl rfl)
theorem dX6_isLinked_105 : decode cX6_isLinked 105 = .ok (.iinc 6 1, 3) := dk_132 6 1 (dk_at dksX6_isLinked_4 10 rfl rfl)
theorem dX6_isLinked_108 : decode cX6_isLinked 108 = .ok (.goto (-55), 3) := dk_167 255 201 (dk_at dksX6_isLinked_4 13 rfl rfl)
theorem dX6_isLinked_111 : decode cX6_isLinked 111 = .ok (.iinc 5 1, 3) := dk_132 5 1 (dk_at dksX6_isLinked_4 16 rfl rfl)
theorem dX6_isLinked_114 : decode cX6_isLinked 114 = .ok (.goto (-75), 3) := dk_167 255 181 (dk_at dksX6_isLinked_4 19 rfl rfl)
theorem dX6_isLinked_117 : decode cX6_isLinked 117 = .ok (.iinc 4 (-1), 3) := dk_132 4 255 (dk_at dksX6_isLinked_5 0 rfl rfl)
theorem dX6_isLinked_120 : decode cX6_isLinked 120 = .ok (.goto (-90), 3) := dk_167 255 166 (dk_at dksX6_isLinked_5 3 rfl rfl)
theorem dX6_isLinked_123 : decode cX6_isLinked 123 = .ok (.aload_n 0, 1) := dk_42 (dk_at dksX6_isLinked_5 6 rfl rfl)
theorem dX6_isLinked_124 : decode cX6_isLinked 124 = .ok (.iload_n 1, 1) := dk_27 (dk_at dksX6_isLinked_5 7 rfl rfl)
theorem dX6_isLinked_125 : decode cX6_isLinked 125 = .ok (.iload_n 2, 1) := dk_28 (dk_at dksX6_isLinked_5 8 rfl rfl)
theorem dX6_isLinked_126 : decode cX6_isLinked 126 = .ok (.iload_n 3, 1) := dk_29 (dk_at dksX6_isLinked_5 9 rfl rfl)
theorem dX6_isLinked_127 : decode cX6_isLinked 127 = .ok (.invokevirtual 216, 3) := dk_182 0 216 (dk_at dksX6_isLinked_5 10 rfl rfl)
theorem dX6_isLinked_130 : decode cX6_isLinked 130 = .ok (.istore 4, 2) := dk_54 4 (dk_at dksX6_isLinked_5 13 rfl rfl)
theorem dX6_isLinked_132 : decode cX6_isLinked 132 = .ok (.aload_n 0, 1) := dk_42 (dk_at dksX6_isLinked_5 15 rfl rfl)
theorem dX6_isLinked_133 : decode cX6_isLinked 133 = .ok (.iconst 0, 1) := dk_3 (dk_at dksX6_isLinked_5 16 rfl rfl)
theorem dX6_isLinked_134 : decode cX6_isLinked 134 = .ok (.putfield 220, 3) := dk_181 0 220 (dk_at dksX6_isLinked_5 17 rfl rfl)
theorem dX6_isLinked_137 : decode cX6_isLinked 137 = .ok (.iload 4, 2) := dk_21 4 (dk_at dksX6_isLinked_5 20 rfl rfl)
theorem dX6_isLinked_139 : decode cX6_isLinked 139 = .ok (.sipush 1000, 3) := dk_17 3 232 (dk_at dksX6_isLinked_6 0 rfl rfl)
theorem dX6_isLinked_142 : decode cX6_isLinked 142 = .ok (.if_icmp .lt 5, 3) := dk_161 0 5 (dk_at dksX6_isLinked_6 3 rfl rfl)
theorem dX6_isLinked_145 : decode cX6_isLinked 145 = .ok (.iconst 0, 1) := dk_3 (dk_at dksX6_isLinked_6 6 rfl rfl)
theorem dX6_isLinked_146 : decode cX6_isLinked 146 = .ok (.ireturn, 1) := dk_172 (dk_at dksX6_isLinked_6 7 rfl rfl)
theorem dX6_isLinked_147 : decode cX6_isLinked 147 = .ok (.iload_n 1, 1) := dk_27 (dk_at dksX6_isLinked_6 8 rfl rfl)
theorem dX6_isLinked_148 : decode cX6_isLinked 148 = .ok (.istore 5, 2) := dk_54 5 (dk_at dksX6_isLinked_6 9 rfl rfl)
theorem dX6_isLinked_150 : decode cX6_isLinked 150 = .ok (.iload_n 2, 1) := dk_28 (dk_at dksX6_isLinked_6 11 rfl rfl)
theorem dX6_isLinked_151 : decode cX6_isLinked 151 = .ok (.istore 6, 2) := dk_54 6 (dk_at dksX6_isLinked_6 12 rfl rfl)
theorem dX6_isLinked_153 : decode cX6_isLinked 153 = .ok (.iload 4, 2) := dk_21 4 (dk_at dksX6_isLinked_6 14 rfl rfl)
theorem dX6_isLinked_155 : decode cX6_isLinked 155 = .ok (.ifCond .le 104, 3) := dk_158 0 104 (dk_at dksX6_isLinked_6 16 rfl rfl)
theorem dX6_isLinked_158 : decode cX6_isLinked 158 = .ok (.iconst 0, 1) := dk_3 (dk_at dksX6_isLinked_6 19 rfl rfl)
theorem dX6_isLinked_159 : decode cX6_isLinked 159 = .ok (.istore 7, 2) := dk_54 7 (dk_at dksX6_isLinked_6 20 rfl rfl)
theorem dX6_isLinked_161 : decode cX6_isLinked 161 = .ok (.aload_n 0, 1) := dk_42 (dk_at dksX6_isLinked_6 22 rfl rfl)
theorem dX6_isLinked_162 : decode cX6_isLinked 162 = .ok (.iload 5, 2) := dk_21 5 (dk_at dksX6_isLinked_7 0 rfl rfl)
theorem dX6_isLinked_164 : decode cX6_isLinked 164 = .ok (.iload 6, 2) := dk_21 6 (dk_at dksX6_isLinked_7 2 rfl rfl)
theorem dX6_isLinked_166 : decode cX6_isLinked 166 = .ok (.iload 7, 2) := dk_21 7 (dk_at dksX6_isLinked_7 4 rfl rfl)
theorem dX6_isLinked_168 : decode cX6_isLinked 168 = .ok (.iconst 2, 1) := dk_5 (dk_at dksX6_isLinked_7 6 rfl rfl)
theorem dX6_isLinked_169 : decode cX6_isLinked 169 = .ok (.idiv, 1) := dk_108 (dk_at dksX6_isLinked_7 7 rfl rfl)
theorem dX6_isLinked_170 : decode cX6_isLinked 170 = .ok (.iload 7, 2) := dk_21 7 (dk_at dksX6_isLinked_7 8 rfl rfl)
theorem dX6_isLinked_172 : decode cX6_isLinked 172 = .ok (.iconst 2, 1) := dk_5 (dk_at dksX6_isLinked_7 10 rfl rfl)
theorem dX6_isLinked_173 : decode cX6_isLinked 173 = .ok (.irem, 1) := dk_112 (dk_at dksX6_isLinked_7 11 rfl rfl)
theorem dX6_isLinked_174 : decode cX6_isLinked 174 = .ok (.invokevirtual 212, 3) := dk_182 0 212 (dk_at dksX6_isLinked_7 12 rfl rfl)
theorem dX6_isLinked_177 : decode cX6_isLinked 177 = .ok (.ifCond .eq 17, 3) := dk_153 0 17 (dk_at dksX6_isLinked_7 15 rfl rfl)
theorem dX6_isLinked_180 : decode cX6_isLinked 180 = .ok (.aload_n 0, 1) := dk_42 (dk_at dksX6_isLinked_7 18 rfl rfl)
theorem dX6_isLinked_181 : decode cX6_isLinked 181 = .ok (.getfield 50, 3) := dk_180 0 50 (dk_at dksX6_isLinked_7 19 rfl rfl)
theorem dX6_isLinked_184 : decode cX6_isLinked 184 = .ok (.iload 7, 2) := dk_21 7 (dk_at dksX6_isLinked_7 22 rfl rfl)
theorem dX6_isLinked_186 : decode cX6_isLinked 186 = .ok (.iaload, 1) := dk_46 (dk_at dksX6_isLinked_8 0 rfl rfl)
theorem dX6_isLinked_187 : decode cX6_isLinked 187 = .ok (.iload 4, 2) := dk_21 4 (dk_at dksX6_isLinked_8 1 rfl rfl)
theorem dX6_isLinked_189 : decode cX6_isLinked 189 = .ok (.iconst 1, 1) := dk_4 (dk_at dksX6_isLinked_8 3 rfl rfl)
theorem dX6_isLinked_190 : decode cX6_isLinked 190 = .ok (.isub, 1) := dk_100 (dk_at dksX6_isLinked_8 4 rfl rfl)
theorem dX6_isLinked_191 : decode cX6_isLinked 191 = .ok (.if_icmp .eq 9, 3) := dk_159 0 9 (dk_at dksX6_isLinked_8 5 rfl rfl)
theorem dX6_isLinked_194 : decode cX6_isLinked 194 = .ok (.iinc 7 1, 3) := dk_132 7 1 (dk_at dksX6_isLinked_8 8 rfl rfl)
theorem dX6_isLinked_197 : decode cX6_isLinked 197 = .ok (.goto (-36), 3) := dk_167 255 220 (dk_at dksX6_isLinked_8 11 rfl rfl)
theorem dX6_isLinked_200 : decode cX6_isLinked 200 = .ok (.aload_n 0, 1) := dk_42 (dk_at dksX6_isLinked_8 14 rfl rfl)
theorem dX6_isLinked_201 : decode cX6_isLinked 201 = .ok (.getfield 53, 3) := dk_180 0 53 (dk_at dksX6_isLinked_8 15 rfl rfl)
theorem dX6_isLinked_204 : decode cX6_isLinked 204 = .ok (.aload_n 0, 1) := dk_42 (dk_at dksX6_isLinked_8 18 rfl rfl)
theorem dX6_isLinked_205 : decode cX6_isLinked 205 = .ok (.getfield 220, 3) := dk_180 0 220 (dk_at dksX6_isLinked_8 19 rfl rfl)
theorem dX6_isLinked_208 : decode cX6_isLinked 208 = .ok (.iload 7, 2) := dk_21 7 (dk_at dksX6_isLinked_8 22 rfl rfl)
theorem dX6_isLinked_210 : decode cX6_isLinked 210 = .ok (.iastore, 1) := dk_79 (dk_at dksX6_isLinked_9 0 rfl rfl)
theorem dX6_isLinked_211 : decode cX6_isLinked 211 = .ok (.aload_n 0, 1) := dk_42 (dk_at dksX6_isLinked_9 1 rfl rfl)
theorem dX6_isLinked_212 : decode cX6_isLinked 212 = .ok (.dup, 1) := dk_89 (dk_at dksX6_isLinked_9 2 rfl rfl)
theorem dX6_isLinked_213 : decode cX6_isLinked 213 = .ok (.getfield 220, 3) := dk_180 0 220 (dk_at dksX6_isLinked_9 3 rfl rfl)
theorem dX6_isLinked_216 : decode cX6_isLinked 216 = .ok (.iconst 1, 1) := dk_4 (dk_at dksX6_isLinked_9 6 rfl rfl)
theorem dX6_isLinked_217 : decode cX6_isLinked 217 = .ok (.iadd, 1) := dk_96 (dk_at dksX6_isLinked_9 7 rfl rfl)
theorem dX6_isLinked_218 : decode cX6_isLinked 218 = .ok (.putfield 220, 3) := dk_181 0 220 (dk_at dksX6_isLinked_9 8 rfl rfl)
theorem dX6_isLinked_221 : decode cX6_isLinked 221 = .ok (.aload_n 0, 1) := dk_42 (dk_at dksX6_isLinked_9 11 rfl rfl)
theorem dX6_isLinked_222 : decode cX6_isLinked 222 = .ok (.iload 7, 2) := dk_21 7 (dk_at dksX6_isLinked_9 12 rfl rfl)
theorem dX6_isLinked_224 : decode cX6_isLinked 224 = .ok (.iconst 2, 1) := dk_5 (dk_at dksX6_isLinked_9 14 rfl rfl)
theorem dX6_isLinked_225 : decode cX6_isLinked 225 = .ok (.idiv, 1) := dk_108 (dk_at dksX6_isLinked_9 15 rfl rfl)
theorem dX6_isLinked_226 : decode cX6_isLinked 226 = .ok (.iload 7, 2) := dk_21 7 (dk_at dksX6_isLinked_9 16 rfl rfl)
theorem dX6_isLinked_228 : decode cX6_isLinked 228 = .ok (.iconst 2, 1) := dk_5 (dk_at dksX6_isLinked_9 18 rfl rfl)
theorem dX6_isLinked_229 : decode cX6_isLinked 229 = .ok (.irem, 1) := dk_112 (dk_at dksX6_isLinked_9 19 rfl rfl)
theorem dX6_isLinked_230 : decode cX6_isLinked 230 = .ok (.invokevirtual 209, 3) := dk_182 0 209 (dk_at dksX6_isLinked_9 20 rfl rfl)
theorem dX6_isLinked_233 : decode cX6_isLinked 233 = .ok (.istore 5, 2) := dk_54 5 (dk_at dksX6_isLinked_10 0 rfl rfl)
theorem dX6_isLinked_235 : decode cX6_isLinked 235 = .ok (.aload_n 0, 1) := dk_42 (dk_at dksX6_isLinked_10 2 rfl rfl)
theorem dX6_isLinked_236 : decode cX6_isLinked 236 = .ok (.getfield 25, 3) := dk_180 0 25 (dk_at dksX6_isLinked_10 3 rfl rfl)
theorem dX6_isLinked_239 : decode cX6_isLinked 239 = .ok (.bipush 22, 2) := dk_16 22 (dk_at dksX6_isLinked_10 6 rfl rfl)
theorem dX6_isLinked_241 : decode cX6_isLinked 241 = .ok (.iconst 3, 1) := dk_6 (dk_at dksX6_isLinked_10 8 rfl rfl)
theorem dX6_isLinked_242 : decode cX6_isLinked 242 = .ok (.iload 7, 2) := dk_21 7 (dk_at dksX6_isLinked_10 9 rfl rfl)
theorem dX6_isLinked_244 : decode cX6_isLinked 244 = .ok (.iconst 2, 1) := dk_5 (dk_at dksX6_isLinked_10 11 rfl rfl)
theorem dX6_isLinked_245 : decode cX6_isLinked 245 = .ok (.idiv, 1) := dk_108 (dk_at dksX6_isLinked_10 12 rfl rfl)
theorem dX6_isLinked_246 : decode cX6_isLinked 246 = .ok (.imul, 1) := dk_104 (dk_at dksX6_isLinked_10 13 rfl rfl)
theorem dX6_isLinked_247 : decode cX6_isLinked 247 = .ok (.iadd, 1) := dk_96 (dk_at dksX6_isLinked_10 14 rfl rfl)
theorem dX6_isLinked_248 : decode cX6_isLinked 248 = .ok (.iconst 2, 1) := dk_5 (dk_at dksX6_isLinked_10 15 rfl rfl)
theorem dX6_isLinked_249 : decode cX6_isLinked 249 = .ok (.iadd, 1) := dk_96 (dk_at dksX6_isLinked_10 16 rfl rfl)
theorem dX6_isLinked_250 : decode cX6_isLinked 250 = .ok (.iaload, 1) := dk_46 (dk_at dksX6_isLinked_10 17 rfl rfl)
theorem dX6_isLinked_251 : decode cX6_isLinked 251 = .ok (.istore 6, 2) := dk_54 6 (dk_at dksX6_isLinked_10 18 rfl rfl)
theorem dX6_isLinked_253 : decode cX6_isLinked 253 = .ok (.iinc 4 (-1), 3) := dk_132 4 255 (dk_at dksX6_isLinked_10 20 rfl rfl)
theorem dX6_isLinked_256 : decode cX6_isLinked 256 = .ok (.goto (-103), 3) := dk_167 255 153 (dk_at dksX6_isLinked_11 0 rfl rfl)
theorem dX6_isLinked_259 : decode cX6_isLinked 259 = .ok (.iconst 1, 1) := dk_4 (dk_at dksX6_isLinked_11 3 rfl rfl)
theorem dX6_isLinked_260 : decode cX6_isLinked 260 = .ok (.ireturn, 1) := dk_172 (dk_at dksX6_isLinked_11 4 rfl rfl)
abbrev cX6_whoOf : ByteArray := prog_21_method_55_code
def yX6_whoOf : MethodName := ⟨RX6, "whoOf", "(II)I"⟩
def dkwX6_whoOf_0 : List UInt8 := [42, 180, 0, 25, 16, 22, 6, 27, 104, 96, 28, 96, 46, 172]
abbrev dktX6_whoOf_0 : List UInt8 := dkwX6_whoOf_0 ++ []
theorem dksX6_whoOf_0 : cX6_whoOf.data.toList.drop 0 = dktX6_whoOf_0 := by decide +kernel
theorem dX6_whoOf_0 : decode cX6_whoOf 0 = .ok (.aload_n 0, 1) := dk_42 (dk_at dksX6_whoOf_0 0 rfl rfl)
theorem dX6_whoOf_1 : decode cX6_whoOf 1 = .ok (.getfield 25, 3) := dk_180 0 25 (dk_at dksX6_whoOf_0 1 rfl rfl)
theorem dX6_whoOf_4 : decode cX6_whoOf 4 = .ok (.bipush 22, 2) := dk_16 22 (dk_at dksX6_whoOf_0 4 rfl rfl)
theorem dX6_whoOf_6 : decode cX6_whoOf 6 = .ok (.iconst 3, 1) := dk_6 (dk_at dksX6_whoOf_0 6 rfl rfl)
theorem dX6_whoOf_7 : decode cX6_whoOf 7 = .ok (.iload_n 1, 1) := dk_27 (dk_at dksX6_whoOf_0 7 rfl rfl)
theorem dX6_whoOf_8 : decode cX6_whoOf 8 = .ok (.imul, 1) := dk_104 (dk_at dksX6_whoOf_0 8 rfl rfl)
theorem dX6_whoOf_9 : decode cX6_whoOf 9 = .ok (.iadd, 1) := dk_96 (dk_at dksX6_whoOf_0 9 rfl rfl)
theorem dX6_whoOf_10 : decode cX6_whoOf 10 = .ok (.iload_n 2, 1) := dk_28 (dk_at dksX6_whoOf_0 10 rfl rfl)
theorem dX6_whoOf_11 : decode cX6_whoOf 11 = .ok (.iadd, 1) := dk_96 (dk_at dksX6_whoOf_0 11 rfl rfl)
theorem dX6_whoOf_12 : decode cX6_whoOf 12 = .ok (.iaload, 1) := dk_46 (dk_at dksX6_whoOf_0 12 rfl rfl)
theorem dX6_whoOf_13 : decode cX6_whoOf 13 = .ok (.ireturn, 1) := dk_172 (dk_at dksX6_whoOf_0 13 rfl rfl)
abbrev cX6_fewest : ByteArray := prog_21_method_57_code
def yX6_fewest : MethodName := ⟨RX6, "fewest", "(III)I"⟩
def dkwX6_fewest_4 : List UInt8 := [132, 5, 1, 167, 255, 176, 21, 4, 172]
abbrev dktX6_fewest_4 : List UInt8 := dkwX6_fewest_4 ++ []
def dkwX6_fewest_3 : List UInt8 := [54, 7, 21, 7, 21, 4, 162, 0, 8, 21, 7, 167, 0, 5, 21, 4, 54, 4, 132, 6, 1, 167, 255, 196]
abbrev dktX6_fewest_3 : List UInt8 := dkwX6_fewest_3 ++ dktX6_fewest_4
def dkwX6_fewest_2 : List UInt8 := [153, 0, 20, 4, 42, 180, 0, 50, 5, 21, 5, 104, 21, 6, 96, 46, 96, 167, 0, 6, 17, 3, 232]
abbrev dktX6_fewest_2 : List UInt8 := dkwX6_fewest_2 ++ dktX6_fewest_3
def dkwX6_fewest_1 : List UInt8 := [46, 162, 0, 75, 3, 54, 6, 21, 6, 5, 162, 0, 60, 42, 27, 28, 21, 5, 21, 6, 182, 0, 212]
abbrev dktX6_fewest_1 : List UInt8 := dkwX6_fewest_1 ++ dktX6_fewest_2
def dkwX6_fewest_0 : List UInt8 := [27, 29, 160, 0, 7, 3, 167, 0, 6, 17, 3, 232, 54, 4, 3, 54, 5, 21, 5, 42, 180, 0, 25, 4]
abbrev dktX6_fewest_0 : List UInt8 := dkwX6_fewest_0 ++ dktX6_fewest_1
theorem dksX6_fewest_0 : cX6_fewest.data.toList.drop 0 = dktX6_fewest_0 := by decide +kernel
theorem dksX6_fewest_1 : cX6_fewest.data.toList.drop 24 = dktX6_fewest_1 := dk_seg dksX6_fewest_0 24 rfl rfl
theorem dksX6_fewest_2 : cX6_fewest.data.toList.drop 47 = dktX6_fewest_2 := dk_seg dksX6_fewest_1 23 rfl rfl
theorem dksX6_fewest_3 : cX6_fewest.data.toList.drop 70 = dktX6_fewest_3 := dk_seg dksX6_fewest_2 23 rfl rfl
theorem dksX6_fewest_4 : cX6_fewest.data.toList.drop 94 = dktX6_fewest_4 := dk_seg dksX6_fewest_3 24 rfl rfl
theorem dX6_fewest_0 : decode cX6_fewest 0 = .ok (.iload_n 1, 1) := dk_27 (dk_at dksX6_fewest_0 0 rfl rfl)
theorem dX6_fewest_1 : decode cX6_fewest 1 = .ok (.iload_n 3, 1) := dk_29 (dk_at dksX6_fewest_0 1 rfl rfl)
theorem dX6_fewest_2 : decode cX6_fewest 2 = .ok (.if_icmp .ne 7, 3) := dk_160 0 7 (dk_at dksX6_fewest_0 2 rfl rfl)
theorem dX6_fewest_5 : decode cX6_fewest 5 = .ok (.iconst 0, 1) := dk_3 (dk_at dksX6_fewest_0 5 rfl rfl)
theorem dX6_fewest_6 : decode cX6_fewest 6 = .ok (.goto 6, 3) := dk_167 0 6 (dk_at dksX6_fewest_0 6 rfl rfl)
theorem dX6_fewest_9 : decode cX6_fewest 9 = .ok (.sipush 1000, 3) := dk_17 3 232 (dk_at dksX6_fewest_0 9 rfl rfl)
theorem dX6_fewest_12 : decode cX6_fewest 12 = .ok (.istore 4, 2) := dk_54 4 (dk_at dksX6_fewest_0 12 rfl rfl)
theorem dX6_fewest_14 : decode cX6_fewest 14 = .ok (.iconst 0, 1) := dk_3 (dk_at dksX6_fewest_0 14 rfl rfl)
theorem dX6_fewest_15 : decode cX6_fewest 15 = .ok (.istore 5, 2) := dk_54 5 (dk_at dksX6_fewest_0 15 rfl rfl)
theorem dX6_fewest_17 : decode cX6_fewest 17 = .ok (.iload 5, 2) := dk_21 5 (dk_at dksX6_fewest_0 17 rfl rfl)
theorem dX6_fewest_19 : decode cX6_fewest 19 = .ok (.aload_n 0, 1) := dk_42 (dk_at dksX6_fewest_0 19 rfl rfl)
theorem dX6_fewest_20 : decode cX6_fewest 20 = .ok (.getfield 25, 3) := dk_180 0 25 (dk_at dksX6_fewest_0 20 rfl rfl)
theorem dX6_fewest_23 : decode cX6_fewest 23 = .ok (.iconst 1, 1) := dk_4 (dk_at dksX6_fewest_0 23 rfl rfl)
theorem dX6_fewest_24 : decode cX6_fewest 24 = .ok (.iaload, 1) := dk_46 (dk_at dksX6_fewest_1 0 rfl rfl)
theorem dX6_fewest_25 : decode cX6_fewest 25 = .ok (.if_icmp .ge 75, 3) := dk_162 0 75 (dk_at dksX6_fewest_1 1 rfl rfl)
theorem dX6_fewest_28 : decode cX6_fewest 28 = .ok (.iconst 0, 1) := dk_3 (dk_at dksX6_fewest_1 4 rfl rfl)
theorem dX6_fewest_29 : decode cX6_fewest 29 = .ok (.istore 6, 2) := dk_54 6 (dk_at dksX6_fewest_1 5 rfl rfl)
theorem dX6_fewest_31 : decode cX6_fewest 31 = .ok (.iload 6, 2) := dk_21 6 (dk_at dksX6_fewest_1 7 rfl rfl)
theorem dX6_fewest_33 : decode cX6_fewest 33 = .ok (.iconst 2, 1) := dk_5 (dk_at dksX6_fewest_1 9 rfl rfl)
theorem dX6_fewest_34 : decode cX6_fewest 34 = .ok (.if_icmp .ge 60, 3) := dk_162 0 60 (dk_at dksX6_fewest_1 10 rfl rfl)
theorem dX6_fewest_37 : decode cX6_fewest 37 = .ok (.aload_n 0, 1) := dk_42 (dk_at dksX6_fewest_1 13 rfl rfl)
theorem dX6_fewest_38 : decode cX6_fewest 38 = .ok (.iload_n 1, 1) := dk_27 (dk_at dksX6_fewest_1 14 rfl rfl)
theorem dX6_fewest_39 : decode cX6_fewest 39 = .ok (.iload_n 2, 1) := dk_28 (dk_at dksX6_fewest_1 15 rfl rfl)
theorem dX6_fewest_40 : decode cX6_fewest 40 = .ok (.iload 5, 2) := dk_21 5 (dk_at dksX6_fewest_1 16 rfl rfl)
theorem dX6_fewest_42 : decode cX6_fewest 42 = .ok (.iload 6, 2) := dk_21 6 (dk_at dksX6_fewest_1 18 rfl rfl)
theorem dX6_fewest_44 : decode cX6_fewest 44 = .ok (.invokevirtual 212, 3) := dk_182 0 212 (dk_at dksX6_fewest_1 20 rfl rfl)
theorem dX6_fewest_47 : decode cX6_fewest 47 = .ok (.ifCond .eq 20, 3) := dk_153 0 20 (dk_at dksX6_fewest_2 0 rfl rfl)
theorem dX6_fewest_50 : decode cX6_fewest 50 = .ok (.iconst 1, 1) := dk_4 (dk_at dksX6_fewest_2 3 rfl rfl)
theorem dX6_fewest_51 : decode cX6_fewest 51 = .ok (.aload_n 0, 1) := dk_42 (dk_at dksX6_fewest_2 4 rfl rfl)
theorem dX6_fewest_52 : decode cX6_fewest 52 = .ok (.getfield 50, 3) := dk_180 0 50 (dk_at dksX6_fewest_2 5 rfl rfl)
theorem dX6_fewest_55 : decode cX6_fewest 55 = .ok (.iconst 2, 1) := dk_5 (dk_at dksX6_fewest_2 8 rfl rfl)
theorem dX6_fewest_56 : decode cX6_fewest 56 = .ok (.iload 5, 2) := dk_21 5 (dk_at dksX6_fewest_2 9 rfl rfl)
theorem dX6_fewest_58 : decode cX6_fewest 58 = .ok (.imul, 1) := dk_104 (dk_at dksX6_fewest_2 11 rfl rfl)
theorem dX6_fewest_59 : decode cX6_fewest 59 = .ok (.iload 6, 2) := dk_21 6 (dk_at dksX6_fewest_2 12 rfl rfl)
theorem dX6_fewest_61 : decode cX6_fewest 61 = .ok (.iadd, 1) := dk_96 (dk_at dksX6_fewest_2 14 rfl rfl)
theorem dX6_fewest_62 : decode cX6_fewest 62 = .ok (.iaload, 1) := dk_46 (dk_at dksX6_fewest_2 15 rfl rfl)
theorem dX6_fewest_63 : decode cX6_fewest 63 = .ok (.iadd, 1) := dk_96 (dk_at dksX6_fewest_2 16 rfl rfl)
theorem dX6_fewest_64 : decode cX6_fewest 64 = .ok (.goto 6, 3) := dk_167 0 6 (dk_at dksX6_fewest_2 17 rfl rfl)
theorem dX6_fewest_67 : decode cX6_fewest 67 = .ok (.sipush 1000, 3) := dk_17 3 232 (dk_at dksX6_fewest_2 20 rfl rfl)
theorem dX6_fewest_70 : decode cX6_fewest 70 = .ok (.istore 7, 2) := dk_54 7 (dk_at dksX6_fewest_3 0 rfl rfl)
theorem dX6_fewest_72 : decode cX6_fewest 72 = .ok (.iload 7, 2) := dk_21 7 (dk_at dksX6_fewest_3 2 rfl rfl)
theorem dX6_fewest_74 : decode cX6_fewest 74 = .ok (.iload 4, 2) := dk_21 4 (dk_at dksX6_fewest_3 4 rfl rfl)
theorem dX6_fewest_76 : decode cX6_fewest 76 = .ok (.if_icmp .ge 8, 3) := dk_162 0 8 (dk_at dksX6_fewest_3 6 rfl rfl)
theorem dX6_fewest_79 : decode cX6_fewest 79 = .ok (.iload 7, 2) := dk_21 7 (dk_at dksX6_fewest_3 9 rfl rfl)
theorem dX6_fewest_81 : decode cX6_fewest 81 = .ok (.goto 5, 3) := dk_167 0 5 (dk_at dksX6_fewest_3 11 rfl rfl)
theorem dX6_fewest_84 : decode cX6_fewest 84 = .ok (.iload 4, 2) := dk_21 4 (dk_at dksX6_fewest_3 14 rfl rfl)
theorem dX6_fewest_86 : decode cX6_fewest 86 = .ok (.istore 4, 2) := dk_54 4 (dk_at dksX6_fewest_3 16 rfl rfl)
theorem dX6_fewest_88 : decode cX6_fewest 88 = .ok (.iinc 6 1, 3) := dk_132 6 1 (dk_at dksX6_fewest_3 18 rfl rfl)
theorem dX6_fewest_91 : decode cX6_fewest 91 = .ok (.goto (-60), 3) := dk_167 255 196 (dk_at dksX6_fewest_3 21 rfl rfl)
theorem dX6_fewest_94 : decode cX6_fewest 94 = .ok (.iinc 5 1, 3) := dk_132 5 1 (dk_at dksX6_fewest_4 0 rfl rfl)
theorem dX6_fewest_97 : decode cX6_fewest 97 = .ok (.goto (-80), 3) := dk_167 255 176 (dk_at dksX6_fewest_4 3 rfl rfl)
theorem dX6_fewest_100 : decode cX6_fewest 100 = .ok (.iload 4, 2) := dk_21 4 (dk_at dksX6_fewest_4 6 rfl rfl)
theorem dX6_fewest_102 : decode cX6_fewest 102 = .ok (.ireturn, 1) := dk_172 (dk_at dksX6_fewest_4 8 rfl rfl)
abbrev cX6_mayGive : ByteArray := prog_21_method_56_code
def yX6_mayGive : MethodName := ⟨RX6, "mayGive", "(IIII)Z"⟩
def dkwX6_mayGive_2 : List UInt8 := [104, 96, 5, 96, 46, 184, 0, 171, 153, 0, 7, 4, 167, 0, 4, 3, 172]
abbrev dktX6_mayGive_2 : List UInt8 := dkwX6_mayGive_2 ++ []
def dkwX6_mayGive_1 : List UInt8 := [182, 0, 209, 104, 96, 46, 8, 159, 0, 32, 42, 180, 0, 25, 27, 28, 42, 180, 0, 25, 16, 22, 6, 29]
abbrev dktX6_mayGive_1 : List UInt8 := dkwX6_mayGive_1 ++ dktX6_mayGive_2
def dkwX6_mayGive_0 : List UInt8 := [42, 29, 4, 21, 4, 100, 182, 0, 209, 27, 160, 0, 52, 42, 180, 0, 25, 7, 5, 42, 29, 21, 4]
abbrev dktX6_mayGive_0 : List UInt8 := dkwX6_mayGive_0 ++ dktX6_mayGive_1
theorem dksX6_mayGive_0 : cX6_mayGive.data.toList.drop 0 = dktX6_mayGive_0 := by decide +kernel
theorem dksX6_mayGive_1 : cX6_mayGive.data.toList.drop 23 = dktX6_mayGive_1 := dk_seg dksX6_mayGive_0 23 rfl rfl
theorem dksX6_mayGive_2 : cX6_mayGive.data.toList.drop 47 = dktX6_mayGive_2 := dk_seg dksX6_mayGive_1 24 rfl rfl
theorem dX6_mayGive_0 : decode cX6_mayGive 0 = .ok (.aload_n 0, 1) := dk_42 (dk_at dksX6_mayGive_0 0 rfl rfl)
theorem dX6_mayGive_1 : decode cX6_mayGive 1 = .ok (.iload_n 3, 1) := dk_29 (dk_at dksX6_mayGive_0 1 rfl rfl)
theorem dX6_mayGive_2 : decode cX6_mayGive 2 = .ok (.iconst 1, 1) := dk_4 (dk_at dksX6_mayGive_0 2 rfl rfl)
theorem dX6_mayGive_3 : decode cX6_mayGive 3 = .ok (.iload 4, 2) := dk_21 4 (dk_at dksX6_mayGive_0 3 rfl rfl)
theorem dX6_mayGive_5 : decode cX6_mayGive 5 = .ok (.isub, 1) := dk_100 (dk_at dksX6_mayGive_0 5 rfl rfl)
theorem dX6_mayGive_6 : decode cX6_mayGive 6 = .ok (.invokevirtual 209, 3) := dk_182 0 209 (dk_at dksX6_mayGive_0 6 rfl rfl)
theorem dX6_mayGive_9 : decode cX6_mayGive 9 = .ok (.iload_n 1, 1) := dk_27 (dk_at dksX6_mayGive_0 9 rfl rfl)
theorem dX6_mayGive_10 : decode cX6_mayGive 10 = .ok (.if_icmp .ne 52, 3) := dk_160 0 52 (dk_at dksX6_mayGive_0 10 rfl rfl)
theorem dX6_mayGive_13 : decode cX6_mayGive 13 = .ok (.aload_n 0, 1) := dk_42 (dk_at dksX6_mayGive_0 13 rfl rfl)
theorem dX6_mayGive_14 : decode cX6_mayGive 14 = .ok (.getfield 25, 3) := dk_180 0 25 (dk_at dksX6_mayGive_0 14 rfl rfl)
theorem dX6_mayGive_17 : decode cX6_mayGive 17 = .ok (.iconst 4, 1) := dk_7 (dk_at dksX6_mayGive_0 17 rfl rfl)
theorem dX6_mayGive_18 : decode cX6_mayGive 18 = .ok (.iconst 2, 1) := dk_5 (dk_at dksX6_mayGive_0 18 rfl rfl)
theorem dX6_mayGive_19 : decode cX6_mayGive 19 = .ok (.aload_n 0, 1) := dk_42 (dk_at dksX6_mayGive_0 19 rfl rfl)
theorem dX6_mayGive_20 : decode cX6_mayGive 20 = .ok (.iload_n 3, 1) := dk_29 (dk_at dksX6_mayGive_0 20 rfl rfl)
theorem dX6_mayGive_21 : decode cX6_mayGive 21 = .ok (.iload 4, 2) := dk_21 4 (dk_at dksX6_mayGive_0 21 rfl rfl)
theorem dX6_mayGive_23 : decode cX6_mayGive 23 = .ok (.invokevirtual 209, 3) := dk_182 0 209 (dk_at dksX6_mayGive_1 0 rfl rfl)
theorem dX6_mayGive_26 : decode cX6_mayGive 26 = .ok (.imul, 1) := dk_104 (dk_at dksX6_mayGive_1 3 rfl rfl)
theorem dX6_mayGive_27 : decode cX6_mayGive 27 = .ok (.iadd, 1) := dk_96 (dk_at dksX6_mayGive_1 4 rfl rfl)
theorem dX6_mayGive_28 : decode cX6_mayGive 28 = .ok (.iaload, 1) := dk_46 (dk_at dksX6_mayGive_1 5 rfl rfl)
theorem dX6_mayGive_29 : decode cX6_mayGive 29 = .ok (.iconst 5, 1) := dk_8 (dk_at dksX6_mayGive_1 6 rfl rfl)
theorem dX6_mayGive_30 : decode cX6_mayGive 30 = .ok (.if_icmp .eq 32, 3) := dk_159 0 32 (dk_at dksX6_mayGive_1 7 rfl rfl)
theorem dX6_mayGive_33 : decode cX6_mayGive 33 = .ok (.aload_n 0, 1) := dk_42 (dk_at dksX6_mayGive_1 10 rfl rfl)
theorem dX6_mayGive_34 : decode cX6_mayGive 34 = .ok (.getfield 25, 3) := dk_180 0 25 (dk_at dksX6_mayGive_1 11 rfl rfl)
theorem dX6_mayGive_37 : decode cX6_mayGive 37 = .ok (.iload_n 1, 1) := dk_27 (dk_at dksX6_mayGive_1 14 rfl rfl)
theorem dX6_mayGive_38 : decode cX6_mayGive 38 = .ok (.iload_n 2, 1) := dk_28 (dk_at dksX6_mayGive_1 15 rfl rfl)
theorem dX6_mayGive_39 : decode cX6_mayGive 39 = .ok (.aload_n 0, 1) := dk_42 (dk_at dksX6_mayGive_1 16 rfl rfl)
theorem dX6_mayGive_40 : decode cX6_mayGive 40 = .ok (.getfield 25, 3) := dk_180 0 25 (dk_at dksX6_mayGive_1 17 rfl rfl)
theorem dX6_mayGive_43 : decode cX6_mayGive 43 = .ok (.bipush 22, 2) := dk_16 22 (dk_at dksX6_mayGive_1 20 rfl rfl)
theorem dX6_mayGive_45 : decode cX6_mayGive 45 = .ok (.iconst 3, 1) := dk_6 (dk_at dksX6_mayGive_1 22 rfl rfl)
theorem dX6_mayGive_46 : decode cX6_mayGive 46 = .ok (.iload_n 3, 1) := dk_29 (dk_at dksX6_mayGive_1 23 rfl rfl)
theorem dX6_mayGive_47 : decode cX6_mayGive 47 = .ok (.imul, 1) := dk_104 (dk_at dksX6_mayGive_2 0 rfl rfl)
theorem dX6_mayGive_48 : decode cX6_mayGive 48 = .ok (.iadd, 1) := dk_96 (dk_at dksX6_mayGive_2 1 rfl rfl)
theorem dX6_mayGive_49 : decode cX6_mayGive 49 = .ok (.iconst 2, 1) := dk_5 (dk_at dksX6_mayGive_2 2 rfl rfl)
theorem dX6_mayGive_50 : decode cX6_mayGive 50 = .ok (.iadd, 1) := dk_96 (dk_at dksX6_mayGive_2 3 rfl rfl)
theorem dX6_mayGive_51 : decode cX6_mayGive 51 = .ok (.iaload, 1) := dk_46 (dk_at dksX6_mayGive_2 4 rfl rfl)
theorem dX6_mayGive_52 : decode cX6_mayGive 52 = .ok (.invokestatic 171, 3) := dk_184 0 171 (dk_at dksX6_mayGive_2 5 rfl rfl)
theorem dX6_mayGive_55 : decode cX6_mayGive 55 = .ok (.ifCond .eq 7, 3) := dk_153 0 7 (dk_at dksX6_mayGive_2 8 rfl rfl)
theorem dX6_mayGive_58 : decode cX6_mayGive 58 = .ok (.iconst 1, 1) := dk_4 (dk_at dksX6_mayGive_2 11 rfl rfl)
theorem dX6_mayGive_59 : decode cX6_mayGive 59 = .ok (.goto 4, 3) := dk_167 0 4 (dk_at dksX6_mayGive_2 12 rfl rfl)
theorem dX6_mayGive_62 : decode cX6_mayGive 62 = .ok (.iconst 0, 1) := dk_3 (dk_at dksX6_mayGive_2 15 rfl rfl)
theorem dX6_mayGive_63 : decode cX6_mayGive 63 = .ok (.ireturn, 1) := dk_172 (dk_at dksX6_mayGive_2 16 rfl rfl)
abbrev cX6_written : ByteArray := prog_21_method_62_code
def yX6_written : MethodName := ⟨RX6, "written", "(IIII)I"⟩
def dkwX6_written_8 : List UInt8 := [167, 0, 5, 18, 62, 172]
abbrev dktX6_written_8 : List UInt8 := dkwX6_written_8 ++ []
def dkwX6_written_7 : List UInt8 := [180, 0, 226, 167, 0, 24, 21, 4, 42, 180, 0, 226, 162, 0, 13, 42, 180, 0, 56, 21, 4, 46]
abbrev dktX6_written_7 : List UInt8 := dkwX6_written_7 ++ dktX6_written_8
def dkwX6_written_6 : List UInt8 := [21, 5, 46, 5, 112, 182, 0, 209, 182, 0, 232, 132, 5, 1, 167, 255, 154, 21, 4, 2, 160, 0, 10, 42]
abbrev dktX6_written_6 : List UInt8 := dkwX6_written_6 ++ dktX6_written_7
def dkwX6_written_5 : List UInt8 := [21, 6, 104, 96, 5, 96, 46, 182, 0, 232, 42, 16, 58, 182, 0, 229, 42, 42, 21, 6, 42, 180, 0, 53]
abbrev dktX6_written_5 : List UInt8 := dkwX6_written_5 ++ dktX6_written_6
def dkwX6_written_4 : List UInt8 := [182, 0, 229, 42, 21, 6, 182, 0, 232, 42, 16, 64, 182, 0, 229, 42, 42, 180, 0, 25, 16, 22, 6]
abbrev dktX6_written_4 : List UInt8 := dkwX6_written_4 ++ dktX6_written_5
def dkwX6_written_3 : List UInt8 := [54, 6, 42, 42, 180, 0, 53, 21, 5, 46, 5, 112, 4, 160, 0, 8, 16, 62, 167, 0, 5, 16, 60]
abbrev dktX6_written_3 : List UInt8 := dkwX6_written_3 ++ dktX6_written_4
def dkwX6_written_2 : List UInt8 := [182, 0, 232, 3, 54, 5, 21, 5, 42, 180, 0, 220, 162, 0, 99, 42, 180, 0, 53, 21, 5, 46, 5, 108]
abbrev dktX6_written_2 : List UInt8 := dkwX6_written_2 ++ dktX6_written_3
def dkwX6_written_1 : List UInt8 := [18, 76, 172, 42, 27, 28, 29, 182, 0, 223, 154, 0, 6, 18, 62, 172, 42, 3, 181, 0, 226, 42, 27]
abbrev dktX6_written_1 : List UInt8 := dkwX6_written_1 ++ dktX6_written_2
def dkwX6_written_0 : List UInt8 := [42, 27, 28, 182, 0, 203, 153, 0, 17, 42, 29, 182, 0, 186, 153, 0, 9, 21, 4, 2, 162, 0, 6]
abbrev dktX6_written_0 : List UInt8 := dkwX6_written_0 ++ dktX6_written_1
theorem dksX6_written_0 : cX6_written.data.toList.drop 0 = dktX6_written_0 := by decide +kernel
theorem dksX6_written_1 : cX6_written.data.toList.drop 23 = dktX6_written_1 := dk_seg dksX6_written_0 23 rfl rfl
theorem dksX6_written_2 : cX6_written.data.toList.drop 46 = dktX6_written_2 := dk_seg dksX6_written_1 23 rfl rfl
theorem dksX6_written_3 : cX6_written.data.toList.drop 70 = dktX6_written_3 := dk_seg dksX6_written_2 24 rfl rfl
theorem dksX6_written_4 : cX6_written.data.toList.drop 93 = dktX6_written_4 := dk_seg dksX6_written_3 23 rfl rfl
theorem dksX6_written_5 : cX6_written.data.toList.drop 116 = dktX6_written_5 := dk_seg dksX6_written_4 23 rfl rfl
theorem dksX6_written_6 : cX6_written.data.toList.drop 140 = dktX6_written_6 := dk_seg dksX6_written_5 24 rfl rfl
theorem dksX6_written_7 : cX6_written.data.toList.drop 164 = dktX6_written_7 := dk_seg dksX6_written_6 24 rfl rfl
theorem dksX6_written_8 : cX6_written.data.toList.drop 186 = dktX6_written_8 := dk_seg dksX6_written_7 22 rfl rfl
theorem dX6_written_0 : decode cX6_written 0 = .ok (.aload_n 0, 1) := dk_42 (dk_at dksX6_written_0 0 rfl rfl)
theorem dX6_written_1 : decode cX6_written 1 = .ok (.iload_n 1, 1) := dk_27 (dk_at dksX6_written_0 1 rfl rfl)
theorem dX6_written_2 : decode cX6_written 2 = .ok (.iload_n 2, 1) := dk_28 (dk_at dksX6_written_0 2 rfl rfl)
theorem dX6_written_3 : decode cX6_written 3 = .ok (.invokevirtual 203, 3) := dk_182 0 203 (dk_at dksX6_written_0 3 rfl rfl)
theorem dX6_written_6 : decode cX6_written 6 = .ok (.ifCond .eq 17, 3) := dk_153 0 17 (dk_at dksX6_written_0 6 rfl rfl)
theorem dX6_written_9 : decode cX6_written 9 = .ok (.aload_n 0, 1) := dk_42 (dk_at dksX6_written_0 9 rfl rfl)
theorem dX6_written_10 : decode cX6_written 10 = .ok (.iload_n 3, 1) := dk_29 (dk_at dksX6_written_0 10 rfl rfl)
theorem dX6_written_11 : decode cX6_written 11 = .ok (.invokevirtual 186, 3) := dk_182 0 186 (dk_at dksX6_written_0 11 rfl rfl)
theorem dX6_written_14 : decode cX6_written 14 = .ok (.ifCond .eq 9, 3) := dk_153 0 9 (dk_at dksX6_written_0 14 rfl rfl)
theorem dX6_written_17 : decode cX6_written 17 = .ok (.iload 4, 2) := dk_21 4 (dk_at dksX6_written_0 17 rfl rfl)
theorem dX6_written_19 : decode cX6_written 19 = .ok (.iconst (-1), 1) := dk_2 (dk_at dksX6_written_0 19 rfl rfl)
theorem dX6_written_20 : decode cX6_written 20 = .ok (.if_icmp .ge 6, 3) := dk_162 0 6 (dk_at dksX6_written_0 20 rfl rfl)
theorem dX6_written_23 : decode cX6_written 23 = .ok (.ldc 76, 2) := dk_18 76 (dk_at dksX6_written_1 0 rfl rfl)
theorem dX6_written_25 : decode cX6_written 25 = .ok (.ireturn, 1) := dk_172 (dk_at dksX6_written_1 2 rfl rfl)
theorem dX6_written_26 : decode cX6_written 26 = .ok (.aload_n 0, 1) := dk_42 (dk_at dksX6_written_1 3 rfl rfl)
theorem dX6_written_27 : decode cX6_written 27 = .ok (.iload_n 1, 1) := dk_27 (dk_at dksX6_written_1 4 rfl rfl)
theorem dX6_written_28 : decode cX6_written 28 = .ok (.iload_n 2, 1) := dk_28 (dk_at dksX6_written_1 5 rfl rfl)
theorem dX6_written_29 : decode cX6_written 29 = .ok (.iload_n 3, 1) := dk_29 (dk_at dksX6_written_1 6 rfl rfl)
theorem dX6_written_30 : decode cX6_written 30 = .ok (.invokevirtual 223, 3) := dk_182 0 223 (dk_at dksX6_written_1 7 rfl rfl)
theorem dX6_written_33 : decode cX6_written 33 = .ok (.ifCond .ne 6, 3) := dk_154 0 6 (dk_at dksX6_written_1 10 rfl rfl)
theorem dX6_written_36 : decode cX6_written 36 = .ok (.ldc 62, 2) := dk_18 62 (dk_at dksX6_written_1 13 rfl rfl)
theorem dX6_written_38 : decode cX6_written 38 = .ok (.ireturn, 1) := dk_172 (dk_at dksX6_written_1 15 rfl rfl)
theorem dX6_written_39 : decode cX6_written 39 = .ok (.aload_n 0, 1) := dk_42 (dk_at dksX6_written_1 16 rfl rfl)
theorem dX6_written_40 : decode cX6_written 40 = .ok (.iconst 0, 1) := dk_3 (dk_at dksX6_written_1 17 rfl rfl)
theorem dX6_written_41 : decode cX6_written 41 = .ok (.putfield 226, 3) := dk_181 0 226 (dk_at dksX6_written_1 18 rfl rfl)
theorem dX6_written_44 : decode cX6_written 44 = .ok (.aload_n 0, 1) := dk_42 (dk_at dksX6_written_1 21 rfl rfl)
theorem dX6_written_45 : decode cX6_written 45 = .ok (.iload_n 1, 1) := dk_27 (dk_at dksX6_written_1 22 rfl rfl)
theorem dX6_written_46 : decode cX6_written 46 = .ok (.invokevirtual 232, 3) := dk_182 0 232 (dk_at dksX6_written_2 0 rfl rfl)
theorem dX6_written_49 : decode cX6_written 49 = .ok (.iconst 0, 1) := dk_3 (dk_at dksX6_written_2 3 rfl rfl)
theorem dX6_written_50 : decode cX6_written 50 = .ok (.istore 5, 2) := dk_54 5 (dk_at dksX6_written_2 4 rfl rfl)
theorem dX6_written_52 : decode cX6_written 52 = .ok (.iload 5, 2) := dk_21 5 (dk_at dksX6_written_2 6 rfl rfl)
theorem dX6_written_54 : decode cX6_written 54 = .ok (.aload_n 0, 1) := dk_42 (dk_at dksX6_written_2 8 rfl rfl)
theorem dX6_written_55 : decode cX6_written 55 = .ok (.getfield 220, 3) := dk_180 0 220 (dk_at dksX6_written_2 9 rfl rfl)
theorem dX6_written_58 : decode cX6_written 58 = .ok (.if_icmp .ge 99, 3) := dk_162 0 99 (dk_at dksX6_written_2 12 rfl rfl)
theorem dX6_written_61 : decode cX6_written 61 = .ok (.aload_n 0, 1) := dk_42 (dk_at dksX6_written_2 15 rfl rfl)
theorem dX6_written_62 : decode cX6_written 62 = .ok (.getfield 53, 3) := dk_180 0 53 (dk_at dksX6_written_2 16 rfl rfl)
theorem dX6_written_65 : decode cX6_written 65 = .ok (.iload 5, 2) := dk_21 5 (dk_at dksX6_written_2 19 rfl rfl)
theorem dX6_written_67 : decode cX6_written 67 = .ok (.iaload, 1) := dk_46 (dk_at dksX6_written_2 21 rfl rfl)
theorem dX6_written_68 : decode cX6_written 68 = .ok (.iconst 2, 1) := dk_5 (dk_at dksX6_written_2 22 rfl rfl)
theorem dX6_written_69 : decode cX6_written 69 = .ok (.idiv, 1) := dk_108 (dk_at dksX6_written_2 23 rfl rfl)
theorem dX6_written_70 : decode cX6_written 70 = .ok (.istore 6, 2) := dk_54 6 (dk_at dksX6_written_3 0 rfl rfl)
theorem dX6_written_72 : decode cX6_written 72 = .ok (.aload_n 0, 1) := dk_42 (dk_at dksX6_written_3 2 rfl rfl)
theorem dX6_written_73 : decode cX6_written 73 = .ok (.aload_n 0, 1) := dk_42 (dk_at dksX6_written_3 3 rfl rfl)
theorem dX6_written_74 : decode cX6_written 74 = .ok (.getfield 53, 3) := dk_180 0 53 (dk_at dksX6_written_3 4 rfl rfl)
theorem dX6_written_77 : decode cX6_written 77 = .ok (.iload 5, 2) := dk_21 5 (dk_at dksX6_written_3 7 rfl rfl)
theorem dX6_written_79 : decode cX6_written 79 = .ok (.iaload, 1) := dk_46 (dk_at dksX6_written_3 9 rfl rfl)
theorem dX6_written_80 : decode cX6_written 80 = .ok (.iconst 2, 1) := dk_5 (dk_at dksX6_written_3 10 rfl rfl)
theorem dX6_written_81 : decode cX6_written 81 = .ok (.irem, 1) := dk_112 (dk_at dksX6_written_3 11 rfl rfl)
theorem dX6_written_82 : decode cX6_written 82 = .ok (.iconst 1, 1) := dk_4 (dk_at dksX6_written_3 12 rfl rfl)
theorem dX6_written_83 : decode cX6_written 83 = .ok (.if_icmp .ne 8, 3) := dk_160 0 8 (dk_at dksX6_written_3 13 rfl rfl)
theorem dX6_written_86 : decode cX6_written 86 = .ok (.bipush 62, 2) := dk_16 62 (dk_at dksX6_written_3 16 rfl rfl)
theorem dX6_written_88 : decode cX6_written 88 = .ok (.goto 5, 3) := dk_167 0 5 (dk_at dksX6_written_3 18 rfl rfl)
theorem dX6_written_91 : decode cX6_written 91 = .ok (.bipush 60, 2) := dk_16 60 (dk_at dksX6_written_3 21 rfl rfl)
theorem dX6_written_93 : decode cX6_written 93 = .ok (.invokevirtual 229, 3) := dk_182 0 229 (dk_at dksX6_written_4 0 rfl rfl)
theorem dX6_written_96 : decode cX6_written 96 = .ok (.aload_n 0, 1) := dk_42 (dk_at dksX6_written_4 3 rfl rfl)
theorem dX6_written_97 : decode cX6_written 97 = .ok (.iload 6, 2) := dk_21 6 (dk_at dksX6_written_4 4 rfl rfl)
theorem dX6_written_99 : decode cX6_written 99 = .ok (.invokevirtual 232, 3) := dk_182 0 232 (dk_at dksX6_written_4 6 rfl rfl)
theorem dX6_written_102 : decode cX6_written 102 = .ok (.aload_n 0, 1) := dk_42 (dk_at dksX6_written_4 9 rfl rfl)
theorem dX6_written_103 : decode cX6_written 103 = .ok (.bipush 64, 2) := dk_16 64 (dk_at dksX6_written_4 10 rfl rfl)
theorem dX6_written_105 : decode cX6_written 105 = .ok (.invokevirtual 229, 3) := dk_182 0 229 (dk_at dksX6_written_4 12 rfl rfl)
theorem dX6_written_108 : decode cX6_written 108 = .ok (.aload_n 0, 1) := dk_42 (dk_at dksX6_written_4 15 rfl rfl)
theorem dX6_written_109 : decode cX6_written 109 = .ok (.aload_n 0, 1) := dk_42 (dk_at dksX6_written_4 16 rfl rfl)
theorem dX6_written_110 : decode cX6_written 110 = .ok (.getfield 25, 3) := dk_180 0 25 (dk_at dksX6_written_4 17 rfl rfl)
theorem dX6_written_113 : decode cX6_written 113 = .ok (.bipush 22, 2) := dk_16 22 (dk_at dksX6_written_4 20 rfl rfl)
theorem dX6_written_115 : decode cX6_written 115 = .ok (.iconst 3, 1) := dk_6 (dk_at dksX6_written_4 22 rfl rfl)
theorem dX6_written_116 : decode cX6_written 116 = .ok (.iload 6, 2) := dk_21 6 (dk_at dksX6_written_5 0 rfl rfl)
theorem dX6_written_118 : decode cX6_written 118 = .ok (.imul, 1) := dk_104 (dk_at dksX6_written_5 2 rfl rfl)
theorem dX6_written_119 : decode cX6_written 119 = .ok (.iadd, 1) := dk_96 (dk_at dksX6_written_5 3 rfl rfl)
theorem dX6_written_120 : decode cX6_written 120 = .ok (.iconst 2, 1) := dk_5 (dk_at dksX6_written_5 4 rfl rfl)
theorem dX6_written_121 : decode cX6_written 121 = .ok (.iadd, 1) := dk_96 (dk_at dksX6_written_5 5 rfl rfl)
theorem dX6_written_122 : decode cX6_written 122 = .ok (.iaload, 1) := dk_46 (dk_at dksX6_written_5 6 rfl rfl)
theorem dX6_written_123 : decode cX6_written 123 = .ok (.invokevirtual 232, 3) := dk_182 0 232 (dk_at dksX6_written_5 7 rfl rfl)
theorem dX6_written_126 : decode cX6_written 126 = .ok (.aload_n 0, 1) := dk_42 (dk_at dksX6_written_5 10 rfl rfl)
theorem dX6_written_127 : decode cX6_written 127 = .ok (.bipush 58, 2) := dk_16 58 (dk_at dksX6_written_5 11 rfl rfl)
theorem dX6_written_129 : decode cX6_written 129 = .ok (.invokevirtual 229, 3) := dk_182 0 229 (dk_at dksX6_written_5 13 rfl rfl)
theorem dX6_written_132 : decode cX6_written 132 = .ok (.aload_n 0, 1) := dk_42 (dk_at dksX6_written_5 16 rfl rfl)
theorem dX6_written_133 : decode cX6_written 133 = .ok (.aload_n 0, 1) := dk_42 (dk_at dksX6_written_5 17 rfl rfl)
theorem dX6_written_134 : decode cX6_written 134 = .ok (.iload 6, 2) := dk_21 6 (dk_at dksX6_written_5 18 rfl rfl)
theorem dX6_written_136 : decode cX6_written 136 = .ok (.aload_n 0, 1) := dk_42 (dk_at dksX6_written_5 20 rfl rfl)
theorem dX6_written_137 : decode cX6_written 137 = .ok (.getfield 53, 3) := dk_180 0 53 (dk_at dksX6_written_5 21 rfl rfl)
theorem dX6_written_140 : decode cX6_written 140 = .ok (.iload 5, 2) := dk_21 5 (dk_at dksX6_written_6 0 rfl rfl)
theorem dX6_written_142 : decode cX6_written 142 = .ok (.iaload, 1) := dk_46 (dk_at dksX6_written_6 2 rfl rfl)
theorem dX6_written_143 : decode cX6_written 143 = .ok (.iconst 2, 1) := dk_5 (dk_at dksX6_written_6 3 rfl rfl)
theorem dX6_written_144 : decode cX6_written 144 = .ok (.irem, 1) := dk_112 (dk_at dksX6_written_6 4 rfl rfl)
theorem dX6_written_145 : decode cX6_written 145 = .ok (.invokevirtual 209, 3) := dk_182 0 209 (dk_at dksX6_written_6 5 rfl rfl)
theorem dX6_written_148 : decode cX6_written 148 = .ok (.invokevirtual 232, 3) := dk_182 0 232 (dk_at dksX6_written_6 8 rfl rfl)
theorem dX6_written_151 : decode cX6_written 151 = .ok (.iinc 5 1, 3) := dk_132 5 1 (dk_at dksX6_written_6 11 rfl rfl)
theorem dX6_written_154 : decode cX6_written 154 = .ok (.goto (-102), 3) := dk_167 255 154 (dk_at dksX6_written_6 14 rfl rfl)
theorem dX6_written_157 : decode cX6_written 157 = .ok (.iload 4, 2) := dk_21 4 (dk_at dksX6_written_6 17 rfl rfl)
theorem dX6_written_159 : decode cX6_written 159 = .ok (.iconst (-1), 1) := dk_2 (dk_at dksX6_written_6 19 rfl rfl)
theorem dX6_written_160 : decode cX6_written 160 = .ok (.if_icmp .ne 10, 3) := dk_160 0 10 (dk_at dksX6_written_6 20 rfl rfl)
theorem dX6_written_163 : decode cX6_written 163 = .ok (.aload_n 0, 1) := dk_42 (dk_at dksX6_written_6 23 rfl rfl)
theorem dX6_written_164 : decode cX6_written 164 = .ok (.getfield 226, 3) := dk_180 0 226 (dk_at dksX6_written_7 0 rfl rfl)
theorem dX6_written_167 : decode cX6_written 167 = .ok (.goto 24, 3) := dk_167 0 24 (dk_at dksX6_written_7 3 rfl rfl)
theorem dX6_written_170 : decode cX6_written 170 = .ok (.iload 4, 2) := dk_21 4 (dk_at dksX6_written_7 6 rfl rfl)
theorem dX6_written_172 : decode cX6_written 172 = .ok (.aload_n 0, 1) := dk_42 (dk_at dksX6_written_7 8 rfl rfl)
theorem dX6_written_173 : decode cX6_written 173 = .ok (.getfield 226, 3) := dk_180 0 226 (dk_at dksX6_written_7 9 rfl rfl)
theorem dX6_written_176 : decode cX6_written 176 = .ok (.if_icmp .ge 13, 3) := dk_162 0 13 (dk_at dksX6_written_7 12 rfl rfl)
theorem dX6_written_179 : decode cX6_written 179 = .ok (.aload_n 0, 1) := dk_42 (dk_at dksX6_written_7 15 rfl rfl)
theorem dX6_written_180 : decode cX6_written 180 = .ok (.getfield 56, 3) := dk_180 0 56 (dk_at dksX6_written_7 16 rfl rfl)
theorem dX6_written_183 : decode cX6_written 183 = .ok (.iload 4, 2) := dk_21 4 (dk_at dksX6_written_7 19 rfl rfl)
theorem dX6_written_185 : decode cX6_written 185 = .ok (.iaload, 1) := dk_46 (dk_at dksX6_written_7 21 rfl rfl)
theorem dX6_written_186 : decode cX6_written 186 = .ok (.goto 5, 3) := dk_167 0 5 (dk_at dksX6_written_8 0 rfl rfl)
theorem dX6_written_189 : decode cX6_written 189 = .ok (.ldc 62, 2) := dk_18 62 (dk_at dksX6_written_8 3 rfl rfl)
theorem dX6_written_191 : decode cX6_written 191 = .ok (.ireturn, 1) := dk_172 (dk_at dksX6_written_8 5 rfl rfl)
abbrev cX6_figures : ByteArray := prog_21_method_61_code
def yX6_figures : MethodName := ⟨RX6, "figures", "(I)V"⟩
def dkwX6_figures_1 : List UInt8 := [96, 182, 0, 229, 177]
abbrev dktX6_figures_1 : List UInt8 := dkwX6_figures_1 ++ []
def dkwX6_figures_0 : List UInt8 := [27, 16, 9, 164, 0, 14, 42, 16, 48, 27, 16, 10, 108, 96, 182, 0, 229, 42, 16, 48, 27, 16, 10, 112]
abbrev dktX6_figures_0 : List UInt8 := dkwX6_figures_0 ++ dktX6_figures_1
theorem dksX6_figures_0 : cX6_figures.data.toList.drop 0 = dktX6_figures_0 := by decide +kernel
theorem dksX6_figures_1 : cX6_figures.data.toList.drop 24 = dktX6_figures_1 := dk_seg dksX6_figures_0 24 rfl rfl
theorem dX6_figures_0 : decode cX6_figures 0 = .ok (.iload_n 1, 1) := dk_27 (dk_at dksX6_figures_0 0 rfl rfl)
theorem dX6_figures_1 : decode cX6_figures 1 = .ok (.bipush 9, 2) := dk_16 9 (dk_at dksX6_figures_0 1 rfl rfl)
theorem dX6_figures_3 : decode cX6_figures 3 = .ok (.if_icmp .le 14, 3) := dk_164 0 14 (dk_at dksX6_figures_0 3 rfl rfl)
theorem dX6_figures_6 : decode cX6_figures 6 = .ok (.aload_n 0, 1) := dk_42 (dk_at dksX6_figures_0 6 rfl rfl)
theorem dX6_figures_7 : decode cX6_figures 7 = .ok (.bipush 48, 2) := dk_16 48 (dk_at dksX6_figures_0 7 rfl rfl)
theorem dX6_figures_9 : decode cX6_figures 9 = .ok (.iload_n 1, 1) := dk_27 (dk_at dksX6_figures_0 9 rfl rfl)
theorem dX6_figures_10 : decode cX6_figures 10 = .ok (.bipush 10, 2) := dk_16 10 (dk_at dksX6_figures_0 10 rfl rfl)
theorem dX6_figures_12 : decode cX6_figures 12 = .ok (.idiv, 1) := dk_108 (dk_at dksX6_figures_0 12 rfl rfl)
theorem dX6_figures_13 : decode cX6_figures 13 = .ok (.iadd, 1) := dk_96 (dk_at dksX6_figures_0 13 rfl rfl)
theorem dX6_figures_14 : decode cX6_figures 14 = .ok (.invokevirtual 229, 3) := dk_182 0 229 (dk_at dksX6_figures_0 14 rfl rfl)
theorem dX6_figures_17 : decode cX6_figures 17 = .ok (.aload_n 0, 1) := dk_42 (dk_at dksX6_figures_0 17 rfl rfl)
theorem dX6_figures_18 : decode cX6_figures 18 = .ok (.bipush 48, 2) := dk_16 48 (dk_at dksX6_figures_0 18 rfl rfl)
theorem dX6_figures_20 : decode cX6_figures 20 = .ok (.iload_n 1, 1) := dk_27 (dk_at dksX6_figures_0 20 rfl rfl)
theorem dX6_figures_21 : decode cX6_figures 21 = .ok (.bipush 10, 2) := dk_16 10 (dk_at dksX6_figures_0 21 rfl rfl)
theorem dX6_figures_23 : decode cX6_figures 23 = .ok (.irem, 1) := dk_112 (dk_at dksX6_figures_0 23 rfl rfl)
theorem dX6_figures_24 : decode cX6_figures 24 = .ok (.iadd, 1) := dk_96 (dk_at dksX6_figures_1 0 rfl rfl)
theorem dX6_figures_25 : decode cX6_figures 25 = .ok (.invokevirtual 229, 3) := dk_182 0 229 (dk_at dksX6_figures_1 1 rfl rfl)
theorem dX6_figures_28 : decode cX6_figures 28 = .ok (.return_, 1) := dk_177 (dk_at dksX6_figures_1 4 rfl rfl)
abbrev cX6_signs : ByteArray := prog_21_method_60_code
def yX6_signs : MethodName := ⟨RX6, "signs", "(I)V"⟩
def dkwX6_signs_0 : List UInt8 := [42, 180, 0, 56, 42, 180, 0, 226, 27, 79, 42, 89, 180, 0, 226, 4, 96, 181, 0, 226, 177]
abbrev dktX6_signs_0 : List UInt8 := dkwX6_signs_0 ++ []
theorem dksX6_signs_0 : cX6_signs.data.toList.drop 0 = dktX6_signs_0 := by decide +kernel
theorem dX6_signs_0 : decode cX6_signs 0 = .ok (.aload_n 0, 1) := dk_42 (dk_at dksX6_signs_0 0 rfl rfl)
theorem dX6_signs_1 : decode cX6_signs 1 = .ok (.getfield 56, 3) := dk_180 0 56 (dk_at dksX6_signs_0 1 rfl rfl)
theorem dX6_signs_4 : decode cX6_signs 4 = .ok (.aload_n 0, 1) := dk_42 (dk_at dksX6_signs_0 4 rfl rfl)
theorem dX6_signs_5 : decode cX6_signs 5 = .ok (.getfield 226, 3) := dk_180 0 226 (dk_at dksX6_signs_0 5 rfl rfl)
theorem dX6_signs_8 : decode cX6_signs 8 = .ok (.iload_n 1, 1) := dk_27 (dk_at dksX6_signs_0 8 rfl rfl)
theorem dX6_signs_9 : decode cX6_signs 9 = .ok (.iastore, 1) := dk_79 (dk_at dksX6_signs_0 9 rfl rfl)
theorem dX6_signs_10 : decode cX6_signs 10 = .ok (.aload_n 0, 1) := dk_42 (dk_at dksX6_signs_0 10 rfl rfl)
theorem dX6_signs_11 : decode cX6_signs 11 = .ok (.dup, 1) := dk_89 (dk_at dksX6_signs_0 11 rfl rfl)
theorem dX6_signs_12 : decode cX6_signs 12 = .ok (.getfield 226, 3) := dk_180 0 226 (dk_at dksX6_signs_0 12 rfl rfl)
theorem dX6_signs_15 : decode cX6_signs 15 = .ok (.iconst 1, 1) := dk_4 (dk_at dksX6_signs_0 15 rfl rfl)
theorem dX6_signs_16 : decode cX6_signs 16 = .ok (.iadd, 1) := dk_96 (dk_at dksX6_signs_0 16 rfl rfl)
theorem dX6_signs_17 : decode cX6_signs 17 = .ok (.putfield 226, 3) := dk_181 0 226 (dk_at dksX6_signs_0 17 rfl rfl)
theorem dX6_signs_20 : decode cX6_signs 20 = .ok (.return_, 1) := dk_177 (dk_at dksX6_signs_0 20 rfl rfl)
abbrev cX6_accounts : ByteArray := prog_21_method_65_code
def yX6_accounts : MethodName := ⟨RX6, "accounts", "(I)I"⟩
def dkwX6_accounts_0 : List UInt8 := [42, 27, 182, 0, 186, 153, 0, 11, 42, 27, 182, 0, 238, 167, 0, 5, 18, 76, 172]
abbrev dktX6_accounts_0 : List UInt8 := dkwX6_accounts_0 ++ []
theorem dksX6_accounts_0 : cX6_accounts.data.toList.drop 0 = dktX6_accounts_0 := by decide +kernel
theorem dX6_accounts_0 : decode cX6_accounts 0 = .ok (.aload_n 0, 1) := dk_42 (dk_at dksX6_accounts_0 0 rfl rfl)
theorem dX6_accounts_1 : decode cX6_accounts 1 = .ok (.iload_n 1, 1) := dk_27 (dk_at dksX6_accounts_0 1 rfl rfl)
theorem dX6_accounts_2 : decode cX6_accounts 2 = .ok (.invokevirtual 186, 3) := dk_182 0 186 (dk_at dksX6_accounts_0 2 rfl rfl)
theorem dX6_accounts_5 : decode cX6_accounts 5 = .ok (.ifCond .eq 11, 3) := dk_153 0 11 (dk_at dksX6_accounts_0 5 rfl rfl)
theorem dX6_accounts_8 : decode cX6_accounts 8 = .ok (.aload_n 0, 1) := dk_42 (dk_at dksX6_accounts_0 8 rfl rfl)
theorem dX6_accounts_9 : decode cX6_accounts 9 = .ok (.iload_n 1, 1) := dk_27 (dk_at dksX6_accounts_0 9 rfl rfl)
theorem dX6_accounts_10 : decode cX6_accounts 10 = .ok (.invokevirtual 238, 3) := dk_182 0 238 (dk_at dksX6_accounts_0 10 rfl rfl)
theorem dX6_accounts_13 : decode cX6_accounts 13 = .ok (.goto 5, 3) := dk_167 0 5 (dk_at dksX6_accounts_0 13 rfl rfl)
theorem dX6_accounts_16 : decode cX6_accounts 16 = .ok (.ldc 76, 2) := dk_18 76 (dk_at dksX6_accounts_0 16 rfl rfl)
theorem dX6_accounts_18 : decode cX6_accounts 18 = .ok (.ireturn, 1) := dk_172 (dk_at dksX6_accounts_0 18 rfl rfl)
abbrev cX6_daysAs : ByteArray := prog_21_method_64_code
def yX6_daysAs : MethodName := ⟨RX6, "daysAs", "(I)I"⟩
def dkwX6_daysAs_1 : List UInt8 := [167, 0, 4, 3, 128, 61, 132, 3, 1, 167, 255, 228, 28, 172]
abbrev dktX6_daysAs_1 : List UInt8 := dkwX6_daysAs_1 ++ []
def dkwX6_daysAs_0 : List UInt8 := [3, 61, 3, 62, 29, 16, 31, 162, 0, 28, 28, 42, 27, 29, 182, 0, 235, 153, 0, 9, 4, 29, 120]
abbrev dktX6_daysAs_0 : List UInt8 := dkwX6_daysAs_0 ++ dktX6_daysAs_1
theorem dksX6_daysAs_0 : cX6_daysAs.data.toList.drop 0 = dktX6_daysAs_0 := by decide +kernel
theorem dksX6_daysAs_1 : cX6_daysAs.data.toList.drop 23 = dktX6_daysAs_1 := dk_seg dksX6_daysAs_0 23 rfl rfl
theorem dX6_daysAs_0 : decode cX6_daysAs 0 = .ok (.iconst 0, 1) := dk_3 (dk_at dksX6_daysAs_0 0 rfl rfl)
theorem dX6_daysAs_1 : decode cX6_daysAs 1 = .ok (.istore_n 2, 1) := dk_61 (dk_at dksX6_daysAs_0 1 rfl rfl)
theorem dX6_daysAs_2 : decode cX6_daysAs 2 = .ok (.iconst 0, 1) := dk_3 (dk_at dksX6_daysAs_0 2 rfl rfl)
theorem dX6_daysAs_3 : decode cX6_daysAs 3 = .ok (.istore_n 3, 1) := dk_62 (dk_at dksX6_daysAs_0 3 rfl rfl)
theorem dX6_daysAs_4 : decode cX6_daysAs 4 = .ok (.iload_n 3, 1) := dk_29 (dk_at dksX6_daysAs_0 4 rfl rfl)
theorem dX6_daysAs_5 : decode cX6_daysAs 5 = .ok (.bipush 31, 2) := dk_16 31 (dk_at dksX6_daysAs_0 5 rfl rfl)
theorem dX6_daysAs_7 : decode cX6_daysAs 7 = .ok (.if_icmp .ge 28, 3) := dk_162 0 28 (dk_at dksX6_daysAs_0 7 rfl rfl)
theorem dX6_daysAs_10 : decode cX6_daysAs 10 = .ok (.iload_n 2, 1) := dk_28 (dk_at dksX6_daysAs_0 10 rfl rfl)
theorem dX6_daysAs_11 : decode cX6_daysAs 11 = .ok (.aload_n 0, 1) := dk_42 (dk_at dksX6_daysAs_0 11 rfl rfl)
theorem dX6_daysAs_12 : decode cX6_daysAs 12 = .ok (.iload_n 1, 1) := dk_27 (dk_at dksX6_daysAs_0 12 rfl rfl)
theorem dX6_daysAs_13 : decode cX6_daysAs 13 = .ok (.iload_n 3, 1) := dk_29 (dk_at dksX6_daysAs_0 13 rfl rfl)
theorem dX6_daysAs_14 : decode cX6_daysAs 14 = .ok (.invokevirtual 235, 3) := dk_182 0 235 (dk_at dksX6_daysAs_0 14 rfl rfl)
theorem dX6_daysAs_17 : decode cX6_daysAs 17 = .ok (.ifCond .eq 9, 3) := dk_153 0 9 (dk_at dksX6_daysAs_0 17 rfl rfl)
theorem dX6_daysAs_20 : decode cX6_daysAs 20 = .ok (.iconst 1, 1) := dk_4 (dk_at dksX6_daysAs_0 20 rfl rfl)
theorem dX6_daysAs_21 : decode cX6_daysAs 21 = .ok (.iload_n 3, 1) := dk_29 (dk_at dksX6_daysAs_0 21 rfl rfl)
theorem dX6_daysAs_22 : decode cX6_daysAs 22 = .ok (.ishl, 1) := dk_120 (dk_at dksX6_daysAs_0 22 rfl rfl)
theorem dX6_daysAs_23 : decode cX6_daysAs 23 = .ok (.goto 4, 3) := dk_167 0 4 (dk_at dksX6_daysAs_1 0 rfl rfl)
theorem dX6_daysAs_26 : decode cX6_daysAs 26 = .ok (.iconst 0, 1) := dk_3 (dk_at dksX6_daysAs_1 3 rfl rfl)
theorem dX6_daysAs_27 : decode cX6_daysAs 27 = .ok (.ior, 1) := dk_128 (dk_at dksX6_daysAs_1 4 rfl rfl)
theorem dX6_daysAs_28 : decode cX6_daysAs 28 = .ok (.istore_n 2, 1) := dk_61 (dk_at dksX6_daysAs_1 5 rfl rfl)
theorem dX6_daysAs_29 : decode cX6_daysAs 29 = .ok (.iinc 3 1, 3) := dk_132 3 1 (dk_at dksX6_daysAs_1 6 rfl rfl)
theorem dX6_daysAs_32 : decode cX6_daysAs 32 = .ok (.goto (-28), 3) := dk_167 255 228 (dk_at dksX6_daysAs_1 9 rfl rfl)
theorem dX6_daysAs_35 : decode cX6_daysAs 35 = .ok (.iload_n 2, 1) := dk_28 (dk_at dksX6_daysAs_1 12 rfl rfl)
theorem dX6_daysAs_36 : decode cX6_daysAs 36 = .ok (.ireturn, 1) := dk_172 (dk_at dksX6_daysAs_1 13 rfl rfl)
abbrev cX6_isSource : ByteArray := prog_21_method_63_code
def yX6_isSource : MethodName := ⟨RX6, "isSource", "(II)Z"⟩
def dkwX6_isSource_5 : List UInt8 := [29, 172]
abbrev dktX6_isSource_5 : List UInt8 := dkwX6_isSource_5 ++ []
def dkwX6_isSource_4 : List UInt8 := [167, 255, 219, 29, 153, 0, 12, 21, 6, 153, 0, 7, 4, 167, 0, 4, 3, 62, 132, 4, 1, 167, 255, 157]
abbrev dktX6_isSource_4 : List UInt8 := dkwX6_isSource_4 ++ dktX6_isSource_5
def dkwX6_isSource_3 : List UInt8 := [180, 0, 44, 21, 4, 46, 21, 7, 184, 0, 167, 153, 0, 7, 4, 167, 0, 4, 3, 54, 6, 132, 7, 1]
abbrev dktX6_isSource_3 : List UInt8 := dkwX6_isSource_3 ++ dktX6_isSource_4
def dkwX6_isSource_2 : List UInt8 := [167, 0, 4, 3, 54, 6, 3, 54, 7, 21, 7, 21, 5, 163, 0, 36, 21, 6, 154, 0, 18, 42]
abbrev dktX6_isSource_2 : List UInt8 := dkwX6_isSource_2 ++ dktX6_isSource_3
def dkwX6_isSource_1 : List UInt8 := [162, 0, 94, 42, 180, 0, 25, 7, 5, 21, 4, 104, 96, 4, 96, 46, 54, 5, 21, 5, 156, 0, 7, 4]
abbrev dktX6_isSource_1 : List UInt8 := dkwX6_isSource_1 ++ dktX6_isSource_2
def dkwX6_isSource_0 : List UInt8 := [42, 42, 180, 0, 25, 27, 28, 3, 182, 0, 206, 4, 62, 3, 54, 4, 21, 4, 42, 180, 0, 25, 3, 46]
abbrev dktX6_isSource_0 : List UInt8 := dkwX6_isSource_0 ++ dktX6_isSource_1
theorem dksX6_isSource_0 : cX6_isSource.data.toList.drop 0 = dktX6_isSource_0 := by decide +kernel
theorem dksX6_isSource_1 : cX6_isSource.data.toList.drop 24 = dktX6_isSource_1 := dk_seg dksX6_isSource_0 24 rfl rfl
theorem dksX6_isSource_2 : cX6_isSource.data.toList.drop 48 = dktX6_isSource_2 := dk_seg dksX6_isSource_1 24 rfl rfl
theorem dksX6_isSource_3 : cX6_isSource.data.toList.drop 70 = dktX6_isSource_3 := dk_seg dksX6_isSource_2 22 rfl rfl
theorem dksX6_isSource_4 : cX6_isSource.data.toList.drop 94 = dktX6_isSource_4 := dk_seg dksX6_isSource_3 24 rfl rfl
theorem dksX6_isSource_5 : cX6_isSource.data.toList.drop 118 = dktX6_isSource_5 := dk_seg dksX6_isSource_4 24 rfl rfl
theorem dX6_isSource_0 : decode cX6_isSource 0 = .ok (.aload_n 0, 1) := dk_42 (dk_at dksX6_isSource_0 0 rfl rfl)
theorem dX6_isSource_1 : decode cX6_isSource 1 = .ok (.aload_n 0, 1) := dk_42 (dk_at dksX6_isSource_0 1 rfl rfl)
theorem dX6_isSource_2 : decode cX6_isSource 2 = .ok (.getfield 25, 3) := dk_180 0 25 (dk_at dksX6_isSource_0 2 rfl rfl)
theorem dX6_isSource_5 : decode cX6_isSource 5 = .ok (.iload_n 1, 1) := dk_27 (dk_at dksX6_isSource_0 5 rfl rfl)
theorem dX6_isSource_6 : decode cX6_isSource 6 = .ok (.iload_n 2, 1) := dk_28 (dk_at dksX6_isSource_0 6 rfl rfl)
theorem dX6_isSource_7 : decode cX6_isSource 7 = .ok (.iconst 0, 1) := dk_3 (dk_at dksX6_isSource_0 7 rfl rfl)
theorem dX6_isSource_8 : decode cX6_isSource 8 = .ok (.invokevirtual 206, 3) := dk_182 0 206 (dk_at dksX6_isSource_0 8 rfl rfl)
theorem dX6_isSource_11 : decode cX6_isSource 11 = .ok (.iconst 1, 1) := dk_4 (dk_at dksX6_isSource_0 11 rfl rfl)
theorem dX6_isSource_12 : decode cX6_isSource 12 = .ok (.istore_n 3, 1) := dk_62 (dk_at dksX6_isSource_0 12 rfl rfl)
theorem dX6_isSource_13 : decode cX6_isSource 13 = .ok (.iconst 0, 1) := dk_3 (dk_at dksX6_isSource_0 13 rfl rfl)
theorem dX6_isSource_14 : decode cX6_isSource 14 = .ok (.istore 4, 2) := dk_54 4 (dk_at dksX6_isSource_0 14 rfl rfl)
theorem dX6_isSource_16 : decode cX6_isSource 16 = .ok (.iload 4, 2) := dk_21 4 (dk_at dksX6_isSource_0 16 rfl rfl)
theorem dX6_isSource_18 : decode cX6_isSource 18 = .ok (.aload_n 0, 1) := dk_42 (dk_at dksX6_isSource_0 18 rfl rfl)
theorem dX6_isSource_19 : decode cX6_isSource 19 = .ok (.getfield 25, 3) := dk_180 0 25 (dk_at dksX6_isSource_0 19 rfl rfl)
theorem dX6_isSource_22 : decode cX6_isSource 22 = .ok (.iconst 0, 1) := dk_3 (dk_at dksX6_isSource_0 22 rfl rfl)
theorem dX6_isSource_23 : decode cX6_isSource 23 = .ok (.iaload, 1) := dk_46 (dk_at dksX6_isSource_0 23 rfl rfl)
theorem dX6_isSource_24 : decode cX6_isSource 24 = .ok (.if_icmp .ge 94, 3) := dk_162 0 94 (dk_at dksX6_isSource_1 0 rfl rfl)
theorem dX6_isSource_27 : decode cX6_isSource 27 = .ok (.aload_n 0, 1) := dk_42 (dk_at dksX6_isSource_1 3 rfl rfl)
theorem dX6_isSource_28 : decode cX6_isSource 28 = .ok (.getfield 25, 3) := dk_180 0 25 (dk_at dksX6_isSource_1 4 rfl rfl)
theorem dX6_isSource_31 : decode cX6_isSource 31 = .ok (.iconst 4, 1) := dk_7 (dk_at dksX6_isSource_1 7 rfl rfl)
theorem dX6_isSource_32 : decode cX6_isSource 32 = .ok (.iconst 2, 1) := dk_5 (dk_at dksX6_isSource_1 8 rfl rfl)
theorem dX6_isSource_33 : decode cX6_isSource 33 = .ok (.iload 4, 2) := dk_21 4 (dk_at dksX6_isSource_1 9 rfl rfl)
theorem dX6_isSource_35 : decode cX6_isSource 35 = .ok (.imul, 1) := dk_104 (dk_at dksX6_isSource_1 11 rfl rfl)
theorem dX6_isSource_36 : decode cX6_isSource 36 = .ok (.iadd, 1) := dk_96 (dk_at dksX6_isSource_1 12 rfl rfl)
theorem dX6_isSource_37 : decode cX6_isSource 37 = .ok (.iconst 1, 1) := dk_4 (dk_at dksX6_isSource_1 13 rfl rfl)
theorem dX6_isSource_38 : decode cX6_isSource 38 = .ok (.iadd, 1) := dk_96 (dk_at dksX6_isSource_1 14 rfl rfl)
theorem dX6_isSource_39 : decode cX6_isSource 39 = .ok (.iaload, 1) := dk_46 (dk_at dksX6_isSource_1 15 rfl rfl)
theorem dX6_isSource_40 : decode cX6_isSource 40 = .ok (.istore 5, 2) := dk_54 5 (dk_at dksX6_isSource_1 16 rfl rfl)
theorem dX6_isSource_42 : decode cX6_isSource 42 = .ok (.iload 5, 2) := dk_21 5 (dk_at dksX6_isSource_1 18 rfl rfl)
theorem dX6_isSource_44 : decode cX6_isSource 44 = .ok (.ifCond .ge 7, 3) := dk_156 0 7 (dk_at dksX6_isSource_1 20 rfl rfl)
theorem dX6_isSource_47 : decode cX6_isSource 47 = .ok (.iconst 1, 1) := dk_4 (dk_at dksX6_isSource_1 23 rfl rfl)
theorem dX6_isSource_48 : decode cX6_isSource 48 = .ok (.goto 4, 3) := dk_167 0 4 (dk_at dksX6_isSource_2 0 rfl rfl)
theorem dX6_isSource_51 : decode cX6_isSource 51 = .ok (.iconst 0, 1) := dk_3 (dk_at dksX6_isSource_2 3 rfl rfl)
theorem dX6_isSource_52 : decode cX6_isSource 52 = .ok (.istore 6, 2) := dk_54 6 (dk_at dksX6_isSource_2 4 rfl rfl)
theorem dX6_isSource_54 : decode cX6_isSource 54 = .ok (.iconst 0, 1) := dk_3 (dk_at dksX6_isSource_2 6 rfl rfl)
theorem dX6_isSource_55 : decode cX6_isSource 55 = .ok (.istore 7, 2) := dk_54 7 (dk_at dksX6_isSource_2 7 rfl rfl)
theorem dX6_isSource_57 : decode cX6_isSource 57 = .ok (.iload 7, 2) := dk_21 7 (dk_at dksX6_isSource_2 9 rfl rfl)
theorem dX6_isSource_59 : decode cX6_isSource 59 = .ok (.iload 5, 2) := dk_21 5 (dk_at dksX6_isSource_2 11 rfl rfl)
theorem dX6_isSource_61 : decode cX6_isSource 61 = .ok (.if_icmp .gt 36, 3) := dk_163 0 36 (dk_at dksX6_isSource_2 13 rfl rfl)
theorem dX6_isSource_64 : decode cX6_isSource 64 = .ok (.iload 6, 2) := dk_21 6 (dk_at dksX6_isSource_2 16 rfl rfl)
theorem dX6_isSource_66 : decode cX6_isSource 66 = .ok (.ifCond .ne 18, 3) := dk_154 0 18 (dk_at dksX6_isSource_2 18 rfl rfl)
theorem dX6_isSource_69 : decode cX6_isSource 69 = .ok (.aload_n 0, 1) := dk_42 (dk_at dksX6_isSource_2 21 rfl rfl)
theorem dX6_isSource_70 : decode cX6_isSource 70 = .ok (.getfield 44, 3) := dk_180 0 44 (dk_at dksX6_isSource_3 0 rfl rfl)
theorem dX6_isSource_73 : decode cX6_isSource 73 = .ok (.iload 4, 2) := dk_21 4 (dk_at dksX6_isSource_3 3 rfl rfl)
theorem dX6_isSource_75 : decode cX6_isSource 75 = .ok (.iaload, 1) := dk_46 (dk_at dksX6_isSource_3 5 rfl rfl)
theorem dX6_isSource_76 : decode cX6_isSource 76 = .ok (.iload 7, 2) := dk_21 7 (dk_at dksX6_isSource_3 6 rfl rfl)
theorem dX6_isSource_78 : decode cX6_isSource 78 = .ok (.invokestatic 167, 3) := dk_184 0 167 (dk_at dksX6_isSource_3 8 rfl rfl)
theorem dX6_isSource_81 : decode cX6_isSource 81 = .ok (.ifCond .eq 7, 3) := dk_153 0 7 (dk_at dksX6_isSource_3 11 rfl rfl)
theorem dX6_isSource_84 : decode cX6_isSource 84 = .ok (.iconst 1, 1) := dk_4 (dk_at dksX6_isSource_3 14 rfl rfl)
theorem dX6_isSource_85 : decode cX6_isSource 85 = .ok (.goto 4, 3) := dk_167 0 4 (dk_at dksX6_isSource_3 15 rfl rfl)
theorem dX6_isSource_88 : decode cX6_isSource 88 = .ok (.iconst 0, 1) := dk_3 (dk_at dksX6_isSource_3 18 rfl rfl)
theorem dX6_isSource_89 : decode cX6_isSource 89 = .ok (.istore 6, 2) := dk_54 6 (dk_at dksX6_isSource_3 19 rfl rfl)
theorem dX6_isSource_91 : decode cX6_isSource 91 = .ok (.iinc 7 1, 3) := dk_132 7 1 (dk_at dksX6_isSource_3 21 rfl rfl)
theorem dX6_isSource_94 : decode cX6_isSource 94 = .ok (.goto (-37), 3) := dk_167 255 219 (dk_at dksX6_isSource_4 0 rfl rfl)
theorem dX6_isSource_97 : decode cX6_isSource 97 = .ok (.iload_n 3, 1) := dk_29 (dk_at dksX6_isSource_4 3 rfl rfl)
theorem dX6_isSource_98 : decode cX6_isSource 98 = .ok (.ifCond .eq 12, 3) := dk_153 0 12 (dk_at dksX6_isSource_4 4 rfl rfl)
theorem dX6_isSource_101 : decode cX6_isSource 101 = .ok (.iload 6, 2) := dk_21 6 (dk_at dksX6_isSource_4 7 rfl rfl)
theorem dX6_isSource_103 : decode cX6_isSource 103 = .ok (.ifCond .eq 7, 3) := dk_153 0 7 (dk_at dksX6_isSource_4 9 rfl rfl)
theorem dX6_isSource_106 : decode cX6_isSource 106 = .ok (.iconst 1, 1) := dk_4 (dk_at dksX6_isSource_4 12 rfl rfl)
theorem dX6_isSource_107 : decode cX6_isSource 107 = .ok (.goto 4, 3) := dk_167 0 4 (dk_at dksX6_isSource_4 13 rfl rfl)
theorem dX6_isSource_110 : decode cX6_isSource 110 = .ok (.iconst 0, 1) := dk_3 (dk_at dksX6_isSource_4 16 rfl rfl)
theorem dX6_isSource_111 : decode cX6_isSource 111 = .ok (.istore_n 3, 1) := dk_62 (dk_at dksX6_isSource_4 17 rfl rfl)
theorem dX6_isSource_112 : decode cX6_isSource 112 = .ok (.iinc 4 1, 3) := dk_132 4 1 (dk_at dksX6_isSource_4 18 rfl rfl)
theorem dX6_isSource_115 : decode cX6_isSource 115 = .ok (.goto (-99), 3) := dk_167 255 157 (dk_at dksX6_isSource_4 21 rfl rfl)
theorem dX6_isSource_118 : decode cX6_isSource 118 = .ok (.iload_n 3, 1) := dk_29 (dk_at dksX6_isSource_5 0 rfl rfl)
theorem dX6_isSource_119 : decode cX6_isSource 119 = .ok (.ireturn, 1) := dk_172 (dk_at dksX6_isSource_5 1 rfl rfl)
abbrev cX6_sources : ByteArray := prog_21_method_66_code
def yX6_sources : MethodName := ⟨RX6, "sources", "()I"⟩
def dkwX6_sources_2 : List UInt8 := [27, 172]
abbrev dktX6_sources_2 : List UInt8 := dkwX6_sources_2 ++ []
def dkwX6_sources_1 : List UInt8 := [27, 42, 28, 182, 0, 238, 153, 0, 9, 4, 28, 120, 167, 0, 4, 3, 128, 60, 132, 2, 1, 167, 255, 225]
abbrev dktX6_sources_1 : List UInt8 := dkwX6_sources_1 ++ dktX6_sources_2
def dkwX6_sources_0 : List UInt8 := [42, 182, 0, 196, 154, 0, 6, 18, 192, 172, 3, 60, 3, 61, 28, 42, 180, 0, 25, 3, 46, 162, 0, 27]
abbrev dktX6_sources_0 : List UInt8 := dkwX6_sources_0 ++ dktX6_sources_1
theorem dksX6_sources_0 : cX6_sources.data.toList.drop 0 = dktX6_sources_0 := by decide +kernel
theorem dksX6_sources_1 : cX6_sources.data.toList.drop 24 = dktX6_sources_1 := dk_seg dksX6_sources_0 24 rfl rfl
theorem dksX6_sources_2 : cX6_sources.data.toList.drop 48 = dktX6_sources_2 := dk_seg dksX6_sources_1 24 rfl rfl
theorem dX6_sources_0 : decode cX6_sources 0 = .ok (.aload_n 0, 1) := dk_42 (dk_at dksX6_sources_0 0 rfl rfl)
theorem dX6_sources_1 : decode cX6_sources 1 = .ok (.invokevirtual 196, 3) := dk_182 0 196 (dk_at dksX6_sources_0 1 rfl rfl)
theorem dX6_sources_4 : decode cX6_sources 4 = .ok (.ifCond .ne 6, 3) := dk_154 0 6 (dk_at dksX6_sources_0 4 rfl rfl)
theorem dX6_sources_7 : decode cX6_sources 7 = .ok (.ldc 192, 2) := dk_18 192 (dk_at dksX6_sources_0 7 rfl rfl)
theorem dX6_sources_9 : decode cX6_sources 9 = .ok (.ireturn, 1) := dk_172 (dk_at dksX6_sources_0 9 rfl rfl)
theorem dX6_sources_10 : decode cX6_sources 10 = .ok (.iconst 0, 1) := dk_3 (dk_at dksX6_sources_0 10 rfl rfl)
theorem dX6_sources_11 : decode cX6_sources 11 = .ok (.istore_n 1, 1) := dk_60 (dk_at dksX6_sources_0 11 rfl rfl)
theorem dX6_sources_12 : decode cX6_sources 12 = .ok (.iconst 0, 1) := dk_3 (dk_at dksX6_sources_0 12 rfl rfl)
theorem dX6_sources_13 : decode cX6_sources 13 = .ok (.istore_n 2, 1) := dk_61 (dk_at dksX6_sources_0 13 rfl rfl)
theorem dX6_sources_14 : decode cX6_sources 14 = .ok (.iload_n 2, 1) := dk_28 (dk_at dksX6_sources_0 14 rfl rfl)
theorem dX6_sources_15 : decode cX6_sources 15 = .ok (.aload_n 0, 1) := dk_42 (dk_at dksX6_sources_0 15 rfl rfl)
theorem dX6_sources_16 : decode cX6_sources 16 = .ok (.getfield 25, 3) := dk_180 0 25 (dk_at dksX6_sources_0 16 rfl rfl)
theorem dX6_sources_19 : decode cX6_sources 19 = .ok (.iconst 0, 1) := dk_3 (dk_at dksX6_sources_0 19 rfl rfl)
theorem dX6_sources_20 : decode cX6_sources 20 = .ok (.iaload, 1) := dk_46 (dk_at dksX6_sources_0 20 rfl rfl)
theorem dX6_sources_21 : decode cX6_sources 21 = .ok (.if_icmp .ge 27, 3) := dk_162 0 27 (dk_at dksX6_sources_0 21 rfl rfl)
theorem dX6_sources_24 : decode cX6_sources 24 = .ok (.iload_n 1, 1) := dk_27 (dk_at dksX6_sources_1 0 rfl rfl)
theorem dX6_sources_25 : decode cX6_sources 25 = .ok (.aload_n 0, 1) := dk_42 (dk_at dksX6_sources_1 1 rfl rfl)
theorem dX6_sources_26 : decode cX6_sources 26 = .ok (.iload_n 2, 1) := dk_28 (dk_at dksX6_sources_1 2 rfl rfl)
theorem dX6_sources_27 : decode cX6_sources 27 = .ok (.invokevirtual 238, 3) := dk_182 0 238 (dk_at dksX6_sources_1 3 rfl rfl)
theorem dX6_sources_30 : decode cX6_sources 30 = .ok (.ifCond .eq 9, 3) := dk_153 0 9 (dk_at dksX6_sources_1 6 rfl rfl)
theorem dX6_sources_33 : decode cX6_sources 33 = .ok (.iconst 1, 1) := dk_4 (dk_at dksX6_sources_1 9 rfl rfl)
theorem dX6_sources_34 : decode cX6_sources 34 = .ok (.iload_n 2, 1) := dk_28 (dk_at dksX6_sources_1 10 rfl rfl)
theorem dX6_sources_35 : decode cX6_sources 35 = .ok (.ishl, 1) := dk_120 (dk_at dksX6_sources_1 11 rfl rfl)
theorem dX6_sources_36 : decode cX6_sources 36 = .ok (.goto 4, 3) := dk_167 0 4 (dk_at dksX6_sources_1 12 rfl rfl)
theorem dX6_sources_39 : decode cX6_sources 39 = .ok (.iconst 0, 1) := dk_3 (dk_at dksX6_sources_1 15 rfl rfl)
theorem dX6_sources_40 : decode cX6_sources 40 = .ok (.ior, 1) := dk_128 (dk_at dksX6_sources_1 16 rfl rfl)
theorem dX6_sources_41 : decode cX6_sources 41 = .ok (.istore_n 1, 1) := dk_60 (dk_at dksX6_sources_1 17 rfl rfl)
theorem dX6_sources_42 : decode cX6_sources 42 = .ok (.iinc 2 1, 3) := dk_132 2 1 (dk_at dksX6_sources_1 18 rfl rfl)
theorem dX6_sources_45 : decode cX6_sources 45 = .ok (.goto (-31), 3) := dk_167 255 225 (dk_at dksX6_sources_1 21 rfl rfl)
theorem dX6_sources_48 : decode cX6_sources 48 = .ok (.iload_n 1, 1) := dk_27 (dk_at dksX6_sources_2 0 rfl rfl)
theorem dX6_sources_49 : decode cX6_sources 49 = .ok (.ireturn, 1) := dk_172 (dk_at dksX6_sources_2 1 rfl rfl)
abbrev cX6_cut : ByteArray := prog_21_method_67_code
def yX6_cut : MethodName := ⟨RX6, "cut", "(III)I"⟩
def dkwX6_cut_4 : List UInt8 := [132, 5, 255, 167, 255, 205, 21, 4, 172]
abbrev dktX6_cut_4 : List UInt8 := dkwX6_cut_4 ++ []
def dkwX6_cut_3 : List UInt8 := [21, 5, 182, 0, 206, 42, 180, 0, 44, 29, 46, 154, 0, 8, 21, 5, 167, 0, 5, 21, 4, 54, 4]
abbrev dktX6_cut_3 : List UInt8 := dkwX6_cut_3 ++ dktX6_cut_4
def dkwX6_cut_2 : List UInt8 := [155, 0, 52, 21, 5, 184, 0, 241, 21, 4, 184, 0, 241, 163, 0, 33, 42, 42, 180, 0, 25, 27, 28]
abbrev dktX6_cut_2 : List UInt8 := dkwX6_cut_2 ++ dktX6_cut_3
def dkwX6_cut_1 : List UInt8 := [160, 0, 6, 18, 62, 172, 4, 42, 180, 0, 25, 4, 46, 120, 4, 100, 54, 4, 21, 4, 54, 5, 21, 5]
abbrev dktX6_cut_1 : List UInt8 := dkwX6_cut_1 ++ dktX6_cut_2
def dkwX6_cut_0 : List UInt8 := [42, 27, 28, 182, 0, 203, 153, 0, 11, 42, 29, 182, 0, 186, 154, 0, 6, 18, 76, 172, 27, 29]
abbrev dktX6_cut_0 : List UInt8 := dkwX6_cut_0 ++ dktX6_cut_1
theorem dksX6_cut_0 : cX6_cut.data.toList.drop 0 = dktX6_cut_0 := by decide +kernel
theorem dksX6_cut_1 : cX6_cut.data.toList.drop 22 = dktX6_cut_1 := dk_seg dksX6_cut_0 22 rfl rfl
theorem dksX6_cut_2 : cX6_cut.data.toList.drop 46 = dktX6_cut_2 := dk_seg dksX6_cut_1 24 rfl rfl
theorem dksX6_cut_3 : cX6_cut.data.toList.drop 69 = dktX6_cut_3 := dk_seg dksX6_cut_2 23 rfl rfl
theorem dksX6_cut_4 : cX6_cut.data.toList.drop 92 = dktX6_cut_4 := dk_seg dksX6_cut_3 23 rfl rfl
theorem dX6_cut_0 : decode cX6_cut 0 = .ok (.aload_n 0, 1) := dk_42 (dk_at dksX6_cut_0 0 rfl rfl)
theorem dX6_cut_1 : decode cX6_cut 1 = .ok (.iload_n 1, 1) := dk_27 (dk_at dksX6_cut_0 1 rfl rfl)
theorem dX6_cut_2 : decode cX6_cut 2 = .ok (.iload_n 2, 1) := dk_28 (dk_at dksX6_cut_0 2 rfl rfl)
theorem dX6_cut_3 : decode cX6_cut 3 = .ok (.invokevirtual 203, 3) := dk_182 0 203 (dk_at dksX6_cut_0 3 rfl rfl)
theorem dX6_cut_6 : decode cX6_cut 6 = .ok (.ifCond .eq 11, 3) := dk_153 0 11 (dk_at dksX6_cut_0 6 rfl rfl)
theorem dX6_cut_9 : decode cX6_cut 9 = .ok (.aload_n 0, 1) := dk_42 (dk_at dksX6_cut_0 9 rfl rfl)
theorem dX6_cut_10 : decode cX6_cut 10 = .ok (.iload_n 3, 1) := dk_29 (dk_at dksX6_cut_0 10 rfl rfl)
theorem dX6_cut_11 : decode cX6_cut 11 = .ok (.invokevirtual 186, 3) := dk_182 0 186 (dk_at dksX6_cut_0 11 rfl rfl)
theorem dX6_cut_14 : decode cX6_cut 14 = .ok (.ifCond .ne 6, 3) := dk_154 0 6 (dk_at dksX6_cut_0 14 rfl rfl)
theorem dX6_cut_17 : decode cX6_cut 17 = .ok (.ldc 76, 2) := dk_18 76 (dk_at dksX6_cut_0 17 rfl rfl)
theorem dX6_cut_19 : decode cX6_cut 19 = .ok (.ireturn, 1) := dk_172 (dk_at dksX6_cut_0 19 rfl rfl)
theorem dX6_cut_20 : decode cX6_cut 20 = .ok (.iload_n 1, 1) := dk_27 (dk_at dksX6_cut_0 20 rfl rfl)
theorem dX6_cut_21 : decode cX6_cut 21 = .ok (.iload_n 3, 1) := dk_29 (dk_at dksX6_cut_0 21 rfl rfl)
theorem dX6_cut_22 : decode cX6_cut 22 = .ok (.if_icmp .ne 6, 3) := dk_160 0 6 (dk_at dksX6_cut_1 0 rfl rfl)
theorem dX6_cut_25 : decode cX6_cut 25 = .ok (.ldc 62, 2) := dk_18 62 (dk_at dksX6_cut_1 3 rfl rfl)
theorem dX6_cut_27 : decode cX6_cut 27 = .ok (.ireturn, 1) := dk_172 (dk_at dksX6_cut_1 5 rfl rfl)
theorem dX6_cut_28 : decode cX6_cut 28 = .ok (.iconst 1, 1) := dk_4 (dk_at dksX6_cut_1 6 rfl rfl)
theorem dX6_cut_29 : decode cX6_cut 29 = .ok (.aload_n 0, 1) := dk_42 (dk_at dksX6_cut_1 7 rfl rfl)
theorem dX6_cut_30 : decode cX6_cut 30 = .ok (.getfield 25, 3) := dk_180 0 25 (dk_at dksX6_cut_1 8 rfl rfl)
theorem dX6_cut_33 : decode cX6_cut 33 = .ok (.iconst 1, 1) := dk_4 (dk_at dksX6_cut_1 11 rfl rfl)
theorem dX6_cut_34 : decode cX6_cut 34 = .ok (.iaload, 1) := dk_46 (dk_at dksX6_cut_1 12 rfl rfl)
theorem dX6_cut_35 : decode cX6_cut 35 = .ok (.ishl, 1) := dk_120 (dk_at dksX6_cut_1 13 rfl rfl)
theorem dX6_cut_36 : decode cX6_cut 36 = .ok (.iconst 1, 1) := dk_4 (dk_at dksX6_cut_1 14 rfl rfl)
theorem dX6_cut_37 : decode cX6_cut 37 = .ok (.isub, 1) := dk_100 (dk_at dksX6_cut_1 15 rfl rfl)
theorem dX6_cut_38 : decode cX6_cut 38 = .ok (.istore 4, 2) := dk_54 4 (dk_at dksX6_cut_1 16 rfl rfl)
theorem dX6_cut_40 : decode cX6_cut 40 = .ok (.iload 4, 2) := dk_21 4 (dk_at dksX6_cut_1 18 rfl rfl)
theorem dX6_cut_42 : decode cX6_cut 42 = .ok (.istore 5, 2) := dk_54 5 (dk_at dksX6_cut_1 20 rfl rfl)
theorem dX6_cut_44 : decode cX6_cut 44 = .ok (.iload 5, 2) := dk_21 5 (dk_at dksX6_cut_1 22 rfl rfl)
theorem dX6_cut_46 : decode cX6_cut 46 = .ok (.ifCond .lt 52, 3) := dk_155 0 52 (dk_at dksX6_cut_2 0 rfl rfl)
theorem dX6_cut_49 : decode cX6_cut 49 = .ok (.iload 5, 2) := dk_21 5 (dk_at dksX6_cut_2 3 rfl rfl)
theorem dX6_cut_51 : decode cX6_cut 51 = .ok (.invokestatic 241, 3) := dk_184 0 241 (dk_at dksX6_cut_2 5 rfl rfl)
theorem dX6_cut_54 : decode cX6_cut 54 = .ok (.iload 4, 2) := dk_21 4 (dk_at dksX6_cut_2 8 rfl rfl)
theorem dX6_cut_56 : decode cX6_cut 56 = .ok (.invokestatic 241, 3) := dk_184 0 241 (dk_at dksX6_cut_2 10 rfl rfl)
theorem dX6_cut_59 : decode cX6_cut 59 = .ok (.if_icmp .gt 33, 3) := dk_163 0 33 (dk_at dksX6_cut_2 13 rfl rfl)
theorem dX6_cut_62 : decode cX6_cut 62 = .ok (.aload_n 0, 1) := dk_42 (dk_at dksX6_cut_2 16 rfl rfl)
theorem dX6_cut_63 : decode cX6_cut 63 = .ok (.aload_n 0, 1) := dk_42 (dk_at dksX6_cut_2 17 rfl rfl)
theorem dX6_cut_64 : decode cX6_cut 64 = .ok (.getfield 25, 3) := dk_180 0 25 (dk_at dksX6_cut_2 18 rfl rfl)
theorem dX6_cut_67 : decode cX6_cut 67 = .ok (.iload_n 1, 1) := dk_27 (dk_at dksX6_cut_2 21 rfl rfl)
theorem dX6_cut_68 : decode cX6_cut 68 = .ok (.iload_n 2, 1) := dk_28 (dk_at dksX6_cut_2 22 rfl rfl)
theorem dX6_cut_69 : decode cX6_cut 69 = .ok (.iload 5, 2) := dk_21 5 (dk_at dksX6_cut_3 0 rfl rfl)
theorem dX6_cut_71 : decode cX6_cut 71 = .ok (.invokevirtual 206, 3) := dk_182 0 206 (dk_at dksX6_cut_3 2 rfl rfl)
theorem dX6_cut_74 : decode cX6_cut 74 = .ok (.aload_n 0, 1) := dk_42 (dk_at dksX6_cut_3 5 rfl rfl)
theorem dX6_cut_75 : decode cX6_cut 75 = .ok (.getfield 44, 3) := dk_180 0 44 (dk_at dksX6_cut_3 6 rfl rfl)
theorem dX6_cut_78 : decode cX6_cut 78 = .ok (.iload_n 3, 1) := dk_29 (dk_at dksX6_cut_3 9 rfl rfl)
theorem dX6_cut_79 : decode cX6_cut 79 = .ok (.iaload, 1) := dk_46 (dk_at dksX6_cut_3 10 rfl rfl)
theorem dX6_cut_80 : decode cX6_cut 80 = .ok (.ifCond .ne 8, 3) := dk_154 0 8 (dk_at dksX6_cut_3 11 rfl rfl)
theorem dX6_cut_83 : decode cX6_cut 83 = .ok (.iload 5, 2) := dk_21 5 (dk_at dksX6_cut_3 14 rfl rfl)
theorem dX6_cut_85 : decode cX6_cut 85 = .ok (.goto 5, 3) := dk_167 0 5 (dk_at dksX6_cut_3 16 rfl rfl)
theorem dX6_cut_88 : decode cX6_cut 88 = .ok (.iload 4, 2) := dk_21 4 (dk_at dksX6_cut_3 19 rfl rfl)
theorem dX6_cut_90 : decode cX6_cut 90 = .ok (.istore 4, 2) := dk_54 4 (dk_at dksX6_cut_3 21 rfl rfl)
theorem dX6_cut_92 : decode cX6_cut 92 = .ok (.iinc 5 (-1), 3) := dk_132 5 255 (dk_at dksX6_cut_4 0 rfl rfl)
theorem dX6_cut_95 : decode cX6_cut 95 = .ok (.goto (-51), 3) := dk_167 255 205 (dk_at dksX6_cut_4 3 rfl rfl)
theorem dX6_cut_98 : decode cX6_cut 98 = .ok (.iload 4, 2) := dk_21 4 (dk_at dksX6_cut_4 6 rfl rfl)
theorem dX6_cut_100 : decode cX6_cut 100 = .ok (.ireturn, 1) := dk_172 (dk_at dksX6_cut_4 8 rfl rfl)
abbrev cX6_ones : ByteArray := prog_21_method_5_code
def yX6_ones : MethodName := ⟨RX6, "ones", "(I)I"⟩
def dkwX6_ones_1 : List UInt8 := [27, 172]
abbrev dktX6_ones_1 : List UInt8 := dkwX6_ones_1 ++ []
def dkwX6_ones_0 : List UInt8 := [3, 60, 3, 61, 28, 16, 31, 162, 0, 17, 27, 26, 28, 122, 4, 126, 96, 60, 132, 2, 1, 167, 255, 239]
abbrev dktX6_ones_0 : List UInt8 := dkwX6_ones_0 ++ dktX6_ones_1
theorem dksX6_ones_0 : cX6_ones.data.toList.drop 0 = dktX6_ones_0 := by decide +kernel
theorem dksX6_ones_1 : cX6_ones.data.toList.drop 24 = dktX6_ones_1 := dk_seg dksX6_ones_0 24 rfl rfl
theorem dX6_ones_0 : decode cX6_ones 0 = .ok (.iconst 0, 1) := dk_3 (dk_at dksX6_ones_0 0 rfl rfl)
theorem dX6_ones_1 : decode cX6_ones 1 = .ok (.istore_n 1, 1) := dk_60 (dk_at dksX6_ones_0 1 rfl rfl)
theorem dX6_ones_2 : decode cX6_ones 2 = .ok (.iconst 0, 1) := dk_3 (dk_at dksX6_ones_0 2 rfl rfl)
theorem dX6_ones_3 : decode cX6_ones 3 = .ok (.istore_n 2, 1) := dk_61 (dk_at dksX6_ones_0 3 rfl rfl)
theorem dX6_ones_4 : decode cX6_ones 4 = .ok (.iload_n 2, 1) := dk_28 (dk_at dksX6_ones_0 4 rfl rfl)
theorem dX6_ones_5 : decode cX6_ones 5 = .ok (.bipush 31, 2) := dk_16 31 (dk_at dksX6_ones_0 5 rfl rfl)
theorem dX6_ones_7 : decode cX6_ones 7 = .ok (.if_icmp .ge 17, 3) := dk_162 0 17 (dk_at dksX6_ones_0 7 rfl rfl)
theorem dX6_ones_10 : decode cX6_ones 10 = .ok (.iload_n 1, 1) := dk_27 (dk_at dksX6_ones_0 10 rfl rfl)
theorem dX6_ones_11 : decode cX6_ones 11 = .ok (.iload_n 0, 1) := dk_26 (dk_at dksX6_ones_0 11 rfl rfl)
theorem dX6_ones_12 : decode cX6_ones 12 = .ok (.iload_n 2, 1) := dk_28 (dk_at dksX6_ones_0 12 rfl rfl)
theorem dX6_ones_13 : decode cX6_ones 13 = .ok (.ishr, 1) := dk_122 (dk_at dksX6_ones_0 13 rfl rfl)
theorem dX6_ones_14 : decode cX6_ones 14 = .ok (.iconst 1, 1) := dk_4 (dk_at dksX6_ones_0 14 rfl rfl)
theorem dX6_ones_15 : decode cX6_ones 15 = .ok (.iand, 1) := dk_126 (dk_at dksX6_ones_0 15 rfl rfl)
theorem dX6_ones_16 : decode cX6_ones 16 = .ok (.iadd, 1) := dk_96 (dk_at dksX6_ones_0 16 rfl rfl)
theorem dX6_ones_17 : decode cX6_ones 17 = .ok (.istore_n 1, 1) := dk_60 (dk_at dksX6_ones_0 17 rfl rfl)
theorem dX6_ones_18 : decode cX6_ones 18 = .ok (.iinc 2 1, 3) := dk_132 2 1 (dk_at dksX6_ones_0 18 rfl rfl)
theorem dX6_ones_21 : decode cX6_ones 21 = .ok (.goto (-17), 3) := dk_167 255 239 (dk_at dksX6_ones_0 21 rfl rfl)
theorem dX6_ones_24 : decode cX6_ones 24 = .ok (.iload_n 1, 1) := dk_27 (dk_at dksX6_ones_1 0 rfl rfl)
theorem dX6_ones_25 : decode cX6_ones 25 = .ok (.ireturn, 1) := dk_172 (dk_at dksX6_ones_1 1 rfl rfl)
abbrev cX6_common : ByteArray := prog_21_method_68_code
def yX6_common : MethodName := ⟨RX6, "common", "(III)I"⟩
def dkwX6_common_5 : List UInt8 := [132, 5, 1, 167, 255, 188, 21, 4, 172]
abbrev dktX6_common_5 : List UInt8 := dkwX6_common_5 ++ []
def dkwX6_common_4 : List UInt8 := [159, 0, 19, 42, 180, 0, 44, 29, 46, 154, 0, 10, 4, 21, 5, 120, 167, 0, 4, 3, 128, 54, 4]
abbrev dktX6_common_4 : List UInt8 := dkwX6_common_4 ++ dktX6_common_5
def dkwX6_common_3 : List UInt8 := [180, 0, 25, 21, 5, 182, 0, 199, 182, 0, 206, 21, 4, 21, 5, 27, 159, 0, 25, 21, 5, 29]
abbrev dktX6_common_3 : List UInt8 := dkwX6_common_3 ++ dktX6_common_4
def dkwX6_common_2 : List UInt8 := [54, 5, 21, 5, 42, 180, 0, 25, 3, 46, 162, 0, 63, 42, 42, 180, 0, 25, 27, 28, 42, 42]
abbrev dktX6_common_2 : List UInt8 := dkwX6_common_2 ++ dktX6_common_3
def dkwX6_common_1 : List UInt8 := [180, 0, 25, 27, 28, 3, 182, 0, 206, 42, 180, 0, 44, 29, 46, 154, 0, 5, 3, 172, 3, 54, 4, 3]
abbrev dktX6_common_1 : List UInt8 := dkwX6_common_1 ++ dktX6_common_2
def dkwX6_common_0 : List UInt8 := [42, 27, 28, 182, 0, 203, 153, 0, 11, 42, 29, 182, 0, 186, 154, 0, 6, 18, 76, 172, 42, 42]
abbrev dktX6_common_0 : List UInt8 := dkwX6_common_0 ++ dktX6_common_1
theorem dksX6_common_0 : cX6_common.data.toList.drop 0 = dktX6_common_0 := by decide +kernel
theorem dksX6_common_1 : cX6_common.data.toList.drop 22 = dktX6_common_1 := dk_seg dksX6_common_0 22 rfl rfl
theorem dksX6_common_2 : cX6_common.data.toList.drop 46 = dktX6_common_2 := dk_seg dksX6_common_1 24 rfl rfl
theorem dksX6_common_3 : cX6_common.data.toList.drop 68 = dktX6_common_3 := dk_seg dksX6_common_2 22 rfl rfl
theorem dksX6_common_4 : cX6_common.data.toList.drop 90 = dktX6_common_4 := dk_seg dksX6_common_3 22 rfl rfl
theorem dksX6_common_5 : cX6_common.data.toList.drop 113 = dktX6_common_5 := dk_seg dksX6_common_4 23 rfl rfl
theorem dX6_common_0 : decode cX6_common 0 = .ok (.aload_n 0, 1) := dk_42 (dk_at dksX6_common_0 0 rfl rfl)
theorem dX6_common_1 : decode cX6_common 1 = .ok (.iload_n 1, 1) := dk_27 (dk_at dksX6_common_0 1 rfl rfl)
theorem dX6_common_2 : decode cX6_common 2 = .ok (.iload_n 2, 1) := dk_28 (dk_at dksX6_common_0 2 rfl rfl)
theorem dX6_common_3 : decode cX6_common 3 = .ok (.invokevirtual 203, 3) := dk_182 0 203 (dk_at dksX6_common_0 3 rfl rfl)
theorem dX6_common_6 : decode cX6_common 6 = .ok (.ifCond .eq 11, 3) := dk_153 0 11 (dk_at dksX6_common_0 6 rfl rfl)
theorem dX6_common_9 : decode cX6_common 9 = .ok (.aload_n 0, 1) := dk_42 (dk_at dksX6_common_0 9 rfl rfl)
theorem dX6_common_10 : decode cX6_common 10 = .ok (.iload_n 3, 1) := dk_29 (dk_at dksX6_common_0 10 rfl rfl)
theorem dX6_common_11 : decode cX6_common 11 = .ok (.invokevirtual 186, 3) := dk_182 0 186 (dk_at dksX6_common_0 11 rfl rfl)
theorem dX6_common_14 : decode cX6_common 14 = .ok (.ifCond .ne 6, 3) := dk_154 0 6 (dk_at dksX6_common_0 14 rfl rfl)
theorem dX6_common_17 : decode cX6_common 17 = .ok (.ldc 76, 2) := dk_18 76 (dk_at dksX6_common_0 17 rfl rfl)
theorem dX6_common_19 : decode cX6_common 19 = .ok (.ireturn, 1) := dk_172 (dk_at dksX6_common_0 19 rfl rfl)
theorem dX6_common_20 : decode cX6_common 20 = .ok (.aload_n 0, 1) := dk_42 (dk_at dksX6_common_0 20 rfl rfl)
theorem dX6_common_21 : decode cX6_common 21 = .ok (.aload_n 0, 1) := dk_42 (dk_at dksX6_common_0 21 rfl rfl)
theorem dX6_common_22 : decode cX6_common 22 = .ok (.getfield 25, 3) := dk_180 0 25 (dk_at dksX6_common_1 0 rfl rfl)
theorem dX6_common_25 : decode cX6_common 25 = .ok (.iload_n 1, 1) := dk_27 (dk_at dksX6_common_1 3 rfl rfl)
theorem dX6_common_26 : decode cX6_common 26 = .ok (.iload_n 2, 1) := dk_28 (dk_at dksX6_common_1 4 rfl rfl)
theorem dX6_common_27 : decode cX6_common 27 = .ok (.iconst 0, 1) := dk_3 (dk_at dksX6_common_1 5 rfl rfl)
theorem dX6_common_28 : decode cX6_common 28 = .ok (.invokevirtual 206, 3) := dk_182 0 206 (dk_at dksX6_common_1 6 rfl rfl)
theorem dX6_common_31 : decode cX6_common 31 = .ok (.aload_n 0, 1) := dk_42 (dk_at dksX6_common_1 9 rfl rfl)
theorem dX6_common_32 : decode cX6_common 32 = .ok (.getfield 44, 3) := dk_180 0 44 (dk_at dksX6_common_1 10 rfl rfl)
theorem dX6_common_35 : decode cX6_common 35 = .ok (.iload_n 3, 1) := dk_29 (dk_at dksX6_common_1 13 rfl rfl)
theorem dX6_common_36 : decode cX6_common 36 = .ok (.iaload, 1) := dk_46 (dk_at dksX6_common_1 14 rfl rfl)
theorem dX6_common_37 : decode cX6_common 37 = .ok (.ifCond .ne 5, 3) := dk_154 0 5 (dk_at dksX6_common_1 15 rfl rfl)
theorem dX6_common_40 : decode cX6_common 40 = .ok (.iconst 0, 1) := dk_3 (dk_at dksX6_common_1 18 rfl rfl)
theorem dX6_common_41 : decode cX6_common 41 = .ok (.ireturn, 1) := dk_172 (dk_at dksX6_common_1 19 rfl rfl)
theorem dX6_common_42 : decode cX6_common 42 = .ok (.iconst 0, 1) := dk_3 (dk_at dksX6_common_1 20 rfl rfl)
theorem dX6_common_43 : decode cX6_common 43 = .ok (.istore 4, 2) := dk_54 4 (dk_at dksX6_common_1 21 rfl rfl)
theorem dX6_common_45 : decode cX6_common 45 = .ok (.iconst 0, 1) := dk_3 (dk_at dksX6_common_1 23 rfl rfl)
theorem dX6_common_46 : decode cX6_common 46 = .ok (.istore 5, 2) := dk_54 5 (dk_at dksX6_common_2 0 rfl rfl)
theorem dX6_common_48 : decode cX6_common 48 = .ok (.iload 5, 2) := dk_21 5 (dk_at dksX6_common_2 2 rfl rfl)
theorem dX6_common_50 : decode cX6_common 50 = .ok (.aload_n 0, 1) := dk_42 (dk_at dksX6_common_2 4 rfl rfl)
theorem dX6_common_51 : decode cX6_common 51 = .ok (.getfield 25, 3) := dk_180 0 25 (dk_at dksX6_common_2 5 rfl rfl)
theorem dX6_common_54 : decode cX6_common 54 = .ok (.iconst 0, 1) := dk_3 (dk_at dksX6_common_2 8 rfl rfl)
theorem dX6_common_55 : decode cX6_common 55 = .ok (.iaload, 1) := dk_46 (dk_at dksX6_common_2 9 rfl rfl)
theorem dX6_common_56 : decode cX6_common 56 = .ok (.if_icmp .ge 63, 3) := dk_162 0 63 (dk_at dksX6_common_2 10 rfl rfl)
theorem dX6_common_59 : decode cX6_common 59 = .ok (.aload_n 0, 1) := dk_42 (dk_at dksX6_common_2 13 rfl rfl)
theorem dX6_common_60 : decode cX6_common 60 = .ok (.aload_n 0, 1) := dk_42 (dk_at dksX6_common_2 14 rfl rfl)
theorem dX6_common_61 : decode cX6_common 61 = .ok (.getfield 25, 3) := dk_180 0 25 (dk_at dksX6_common_2 15 rfl rfl)
theorem dX6_common_64 : decode cX6_common 64 = .ok (.iload_n 1, 1) := dk_27 (dk_at dksX6_common_2 18 rfl rfl)
theorem dX6_common_65 : decode cX6_common 65 = .ok (.iload_n 2, 1) := dk_28 (dk_at dksX6_common_2 19 rfl rfl)
theorem dX6_common_66 : decode cX6_common 66 = .ok (.aload_n 0, 1) := dk_42 (dk_at dksX6_common_2 20 rfl rfl)
theorem dX6_common_67 : decode cX6_common 67 = .ok (.aload_n 0, 1) := dk_42 (dk_at dksX6_common_2 21 rfl rfl)
theorem dX6_common_68 : decode cX6_common 68 = .ok (.getfield 25, 3) := dk_180 0 25 (dk_at dksX6_common_3 0 rfl rfl)
theorem dX6_common_71 : decode cX6_common 71 = .ok (.iload 5, 2) := dk_21 5 (dk_at dksX6_common_3 3 rfl rfl)
theorem dX6_common_73 : decode cX6_common 73 = .ok (.invokevirtual 199, 3) := dk_182 0 199 (dk_at dksX6_common_3 5 rfl rfl)
theorem dX6_common_76 : decode cX6_common 76 = .ok (.invokevirtual 206, 3) := dk_182 0 206 (dk_at dksX6_common_3 8 rfl rfl)
theorem dX6_common_79 : decode cX6_common 79 = .ok (.iload 4, 2) := dk_21 4 (dk_at dksX6_common_3 11 rfl rfl)
theorem dX6_common_81 : decode cX6_common 81 = .ok (.iload 5, 2) := dk_21 5 (dk_at dksX6_common_3 13 rfl rfl)
theorem dX6_common_83 : decode cX6_common 83 = .ok (.iload_n 1, 1) := dk_27 (dk_at dksX6_common_3 15 rfl rfl)
theorem dX6_common_84 : decode cX6_common 84 = .ok (.if_icmp .eq 25, 3) := dk_159 0 25 (dk_at dksX6_common_3 16 rfl rfl)
theorem dX6_common_87 : decode cX6_common 87 = .ok (.iload 5, 2) := dk_21 5 (dk_at dksX6_common_3 19 rfl rfl)
theorem dX6_common_89 : decode cX6_common 89 = .ok (.iload_n 3, 1) := dk_29 (dk_at dksX6_common_3 21 rfl rfl)
theorem dX6_common_90 : decode cX6_common 90 = .ok (.if_icmp .eq 19, 3) := dk_159 0 19 (dk_at dksX6_common_4 0 rfl rfl)
theorem dX6_common_93 : decode cX6_common 93 = .ok (.aload_n 0, 1) := dk_42 (dk_at dksX6_common_4 3 rfl rfl)
theorem dX6_common_94 : decode cX6_common 94 = .ok (.getfield 44, 3) := dk_180 0 44 (dk_at dksX6_common_4 4 rfl rfl)
theorem dX6_common_97 : decode cX6_common 97 = .ok (.iload_n 3, 1) := dk_29 (dk_at dksX6_common_4 7 rfl rfl)
theorem dX6_common_98 : decode cX6_common 98 = .ok (.iaload, 1) := dk_46 (dk_at dksX6_common_4 8 rfl rfl)
theorem dX6_common_99 : decode cX6_common 99 = .ok (.ifCond .ne 10, 3) := dk_154 0 10 (dk_at dksX6_common_4 9 rfl rfl)
theorem dX6_common_102 : decode cX6_common 102 = .ok (.iconst 1, 1) := dk_4 (dk_at dksX6_common_4 12 rfl rfl)
theorem dX6_common_103 : decode cX6_common 103 = .ok (.iload 5, 2) := dk_21 5 (dk_at dksX6_common_4 13 rfl rfl)
theorem dX6_common_105 : decode cX6_common 105 = .ok (.ishl, 1) := dk_120 (dk_at dksX6_common_4 15 rfl rfl)
theorem dX6_common_106 : decode cX6_common 106 = .ok (.goto 4, 3) := dk_167 0 4 (dk_at dksX6_common_4 16 rfl rfl)
theorem dX6_common_109 : decode cX6_common 109 = .ok (.iconst 0, 1) := dk_3 (dk_at dksX6_common_4 19 rfl rfl)
theorem dX6_common_110 : decode cX6_common 110 = .ok (.ior, 1) := dk_128 (dk_at dksX6_common_4 20 rfl rfl)
theorem dX6_common_111 : decode cX6_common 111 = .ok (.istore 4, 2) := dk_54 4 (dk_at dksX6_common_4 21 rfl rfl)
theorem dX6_common_113 : decode cX6_common 113 = .ok (.iinc 5 1, 3) := dk_132 5 1 (dk_at dksX6_common_5 0 rfl rfl)
theorem dX6_common_116 : decode cX6_common 116 = .ok (.goto (-68), 3) := dk_167 255 188 (dk_at dksX6_common_5 3 rfl rfl)
theorem dX6_common_119 : decode cX6_common 119 = .ok (.iload 4, 2) := dk_21 4 (dk_at dksX6_common_5 6 rfl rfl)
theorem dX6_common_121 : decode cX6_common 121 = .ok (.ireturn, 1) := dk_172 (dk_at dksX6_common_5 8 rfl rfl)
abbrev cX6_spared : ByteArray := prog_21_method_70_code
def yX6_spared : MethodName := ⟨RX6, "spared", "(IIII)J"⟩
def dkwX6_spared_7 : List UInt8 := [167, 0, 4, 9, 97, 55, 5, 132, 9, 1, 167, 255, 160, 22, 5, 22, 7, 21, 4, 184, 0, 248, 173]
abbrev dktX6_spared_7 : List UInt8 := dkwX6_spared_7 ++ []
def dkwX6_spared_6 : List UInt8 := [180, 0, 25, 27, 3, 21, 9, 182, 0, 206, 22, 5, 42, 180, 0, 44, 28, 46, 154, 0, 8, 22, 10]
abbrev dktX6_spared_6 : List UInt8 := dkwX6_spared_6 ++ dktX6_spared_7
def dkwX6_spared_5 : List UInt8 := [153, 0, 8, 29, 133, 167, 0, 8, 16, 10, 29, 100, 133, 105, 55, 10, 132, 12, 1, 167, 255, 217, 42, 42]
abbrev dktX6_spared_5 : List UInt8 := dkwX6_spared_5 ++ dktX6_spared_6
def dkwX6_spared_4 : List UInt8 := [54, 12, 21, 12, 42, 180, 0, 25, 4, 46, 162, 0, 34, 22, 10, 21, 9, 21, 12, 184, 0, 167]
abbrev dktX6_spared_4 : List UInt8 := dkwX6_spared_4 ++ dktX6_spared_5
def dkwX6_spared_3 : List UInt8 := [167, 255, 234, 3, 54, 9, 21, 9, 4, 42, 180, 0, 25, 4, 46, 120, 162, 0, 89, 10, 55, 10, 3]
abbrev dktX6_spared_3 : List UInt8 := dkwX6_spared_3 ++ dktX6_spared_4
def dkwX6_spared_2 : List UInt8 := [54, 9, 21, 9, 42, 180, 0, 25, 4, 46, 162, 0, 17, 22, 7, 20, 0, 246, 105, 55, 7, 132, 9, 1]
abbrev dktX6_spared_2 : List UInt8 := dkwX6_spared_2 ++ dktX6_spared_3
def dkwX6_spared_1 : List UInt8 := [153, 0, 13, 21, 4, 3, 4, 184, 0, 68, 154, 0, 7, 20, 0, 244, 173, 9, 55, 5, 10, 55, 7, 3]
abbrev dktX6_spared_1 : List UInt8 := dkwX6_spared_1 ++ dktX6_spared_2
def dkwX6_spared_0 : List UInt8 := [42, 27, 182, 0, 186, 153, 0, 31, 42, 28, 182, 0, 186, 153, 0, 23, 29, 3, 16, 10, 184, 0, 68]
abbrev dktX6_spared_0 : List UInt8 := dkwX6_spared_0 ++ dktX6_spared_1
theorem dksX6_spared_0 : cX6_spared.data.toList.drop 0 = dktX6_spared_0 := by decide +kernel
theorem dksX6_spared_1 : cX6_spared.data.toList.drop 23 = dktX6_spared_1 := dk_seg dksX6_spared_0 23 rfl rfl
theorem dksX6_spared_2 : cX6_spared.data.toList.drop 47 = dktX6_spared_2 := dk_seg dksX6_spared_1 24 rfl rfl
theorem dksX6_spared_3 : cX6_spared.data.toList.drop 71 = dktX6_spared_3 := dk_seg dksX6_spared_2 24 rfl rfl
theorem dksX6_spared_4 : cX6_spared.data.toList.drop 94 = dktX6_spared_4 := dk_seg dksX6_spared_3 23 rfl rfl
theorem dksX6_spared_5 : cX6_spared.data.toList.drop 116 = dktX6_spared_5 := dk_seg dksX6_spared_4 22 rfl rfl
theorem dksX6_spared_6 : cX6_spared.data.toList.drop 140 = dktX6_spared_6 := dk_seg dksX6_spared_5 24 rfl rfl
theorem dksX6_spared_7 : cX6_spared.data.toList.drop 163 = dktX6_spared_7 := dk_seg dksX6_spared_6 23 rfl rfl
theorem dX6_spared_0 : decode cX6_spared 0 = .ok (.aload_n 0, 1) := dk_42 (dk_at dksX6_spared_0 0 rfl rfl)
theorem dX6_spared_1 : decode cX6_spared 1 = .ok (.iload_n 1, 1) := dk_27 (dk_at dksX6_spared_0 1 rfl rfl)
theorem dX6_spared_2 : decode cX6_spared 2 = .ok (.invokevirtual 186, 3) := dk_182 0 186 (dk_at dksX6_spared_0 2 rfl rfl)
theorem dX6_spared_5 : decode cX6_spared 5 = .ok (.ifCond .eq 31, 3) := dk_153 0 31 (dk_at dksX6_spared_0 5 rfl rfl)
theorem dX6_spared_8 : decode cX6_spared 8 = .ok (.aload_n 0, 1) := dk_42 (dk_at dksX6_spared_0 8 rfl rfl)
theorem dX6_spared_9 : decode cX6_spared 9 = .ok (.iload_n 2, 1) := dk_28 (dk_at dksX6_spared_0 9 rfl rfl)
theorem dX6_spared_10 : decode cX6_spared 10 = .ok (.invokevirtual 186, 3) := dk_182 0 186 (dk_at dksX6_spared_0 10 rfl rfl)
theorem dX6_spared_13 : decode cX6_spared 13 = .ok (.ifCond .eq 23, 3) := dk_153 0 23 (dk_at dksX6_spared_0 13 rfl rfl)
theorem dX6_spared_16 : decode cX6_spared 16 = .ok (.iload_n 3, 1) := dk_29 (dk_at dksX6_spared_0 16 rfl rfl)
theorem dX6_spared_17 : decode cX6_spared 17 = .ok (.iconst 0, 1) := dk_3 (dk_at dksX6_spared_0 17 rfl rfl)
theorem dX6_spared_18 : decode cX6_spared 18 = .ok (.bipush 10, 2) := dk_16 10 (dk_at dksX6_spared_0 18 rfl rfl)
theorem dX6_spared_20 : decode cX6_spared 20 = .ok (.invokestatic 68, 3) := dk_184 0 68 (dk_at dksX6_spared_0 20 rfl rfl)
theorem dX6_spared_23 : decode cX6_spared 23 = .ok (.ifCond .eq 13, 3) := dk_153 0 13 (dk_at dksX6_spared_1 0 rfl rfl)
theorem dX6_spared_26 : decode cX6_spared 26 = .ok (.iload 4, 2) := dk_21 4 (dk_at dksX6_spared_1 3 rfl rfl)
theorem dX6_spared_28 : decode cX6_spared 28 = .ok (.iconst 0, 1) := dk_3 (dk_at dksX6_spared_1 5 rfl rfl)
theorem dX6_spared_29 : decode cX6_spared 29 = .ok (.iconst 1, 1) := dk_4 (dk_at dksX6_spared_1 6 rfl rfl)
theorem dX6_spared_30 : decode cX6_spared 30 = .ok (.invokestatic 68, 3) := dk_184 0 68 (dk_at dksX6_spared_1 7 rfl rfl)
theorem dX6_spared_33 : decode cX6_spared 33 = .ok (.ifCond .ne 7, 3) := dk_154 0 7 (dk_at dksX6_spared_1 10 rfl rfl)
theorem dX6_spared_36 : decode cX6_spared 36 = .ok (.ldc2_w 244, 3) := dk_20 0 244 (dk_at dksX6_spared_1 13 rfl rfl)
theorem dX6_spared_39 : decode cX6_spared 39 = .ok (.lreturn, 1) := dk_173 (dk_at dksX6_spared_1 16 rfl rfl)
theorem dX6_spared_40 : decode cX6_spared 40 = .ok (.lconst 0, 1) := dk_9 (dk_at dksX6_spared_1 17 rfl rfl)
theorem dX6_spared_41 : decode cX6_spared 41 = .ok (.lstore 5, 2) := dk_55 5 (dk_at dksX6_spared_1 18 rfl rfl)
theorem dX6_spared_43 : decode cX6_spared 43 = .ok (.lconst 1, 1) := dk_10 (dk_at dksX6_spared_1 20 rfl rfl)
theorem dX6_spared_44 : decode cX6_spared 44 = .ok (.lstore 7, 2) := dk_55 7 (dk_at dksX6_spared_1 21 rfl rfl)
theorem dX6_spared_46 : decode cX6_spared 46 = .ok (.iconst 0, 1) := dk_3 (dk_at dksX6_spared_1 23 rfl rfl)
theorem dX6_spared_47 : decode cX6_spared 47 = .ok (.istore 9, 2) := dk_54 9 (dk_at dksX6_spared_2 0 rfl rfl)
theorem dX6_spared_49 : decode cX6_spared 49 = .ok (.iload 9, 2) := dk_21 9 (dk_at dksX6_spared_2 2 rfl rfl)
theorem dX6_spared_51 : decode cX6_spared 51 = .ok (.aload_n 0, 1) := dk_42 (dk_at dksX6_spared_2 4 rfl rfl)
theorem dX6_spared_52 : decode cX6_spared 52 = .ok (.getfield 25, 3) := dk_180 0 25 (dk_at dksX6_spared_2 5 rfl rfl)
theorem dX6_spared_55 : decode cX6_spared 55 = .ok (.iconst 1, 1) := dk_4 (dk_at dksX6_spared_2 8 rfl rfl)
theorem dX6_spared_56 : decode cX6_spared 56 = .ok (.iaload, 1) := dk_46 (dk_at dksX6_spared_2 9 rfl rfl)
theorem dX6_spared_57 : decode cX6_spared 57 = .ok (.if_icmp .ge 17, 3) := dk_162 0 17 (dk_at dksX6_spared_2 10 rfl rfl)
theorem dX6_spared_60 : decode cX6_spared 60 = .ok (.lload 7, 2) := dk_22 7 (dk_at dksX6_spared_2 13 rfl rfl)
theorem dX6_spared_62 : decode cX6_spared 62 = .ok (.ldc2_w 246, 3) := dk_20 0 246 (dk_at dksX6_spared_2 15 rfl rfl)
theorem dX6_spared_65 : decode cX6_spared 65 = .ok (.lmul, 1) := dk_105 (dk_at dksX6_spared_2 18 rfl rfl)
theorem dX6_spared_66 : decode cX6_spared 66 = .ok (.lstore 7, 2) := dk_55 7 (dk_at dksX6_spared_2 19 rfl rfl)
theorem dX6_spared_68 : decode cX6_spared 68 = .ok (.iinc 9 1, 3) := dk_132 9 1 (dk_at dksX6_spared_2 21 rfl rfl)
theorem dX6_spared_71 : decode cX6_spared 71 = .ok (.goto (-22), 3) := dk_167 255 234 (dk_at dksX6_spared_3 0 rfl rfl)
theorem dX6_spared_74 : decode cX6_spared 74 = .ok (.iconst 0, 1) := dk_3 (dk_at dksX6_spared_3 3 rfl rfl)
theorem dX6_spared_75 : decode cX6_spared 75 = .ok (.istore 9, 2) := dk_54 9 (dk_at dksX6_spared_3 4 rfl rfl)
theorem dX6_spared_77 : decode cX6_spared 77 = .ok (.iload 9, 2) := dk_21 9 (dk_at dksX6_spared_3 6 rfl rfl)
theorem dX6_spared_79 : decode cX6_spared 79 = .ok (.iconst 1, 1) := dk_4 (dk_at dksX6_spared_3 8 rfl rfl)
theorem dX6_spared_80 : decode cX6_spared 80 = .ok (.aload_n 0, 1) := dk_42 (dk_at dksX6_spared_3 9 rfl rfl)
theorem dX6_spared_81 : decode cX6_spared 81 = .ok (.getfield 25, 3) := dk_180 0 25 (dk_at dksX6_spared_3 10 rfl rfl)
theorem dX6_spared_84 : decode cX6_spared 84 = .ok (.iconst 1, 1) := dk_4 (dk_at dksX6_spared_3 13 rfl rfl)
theorem dX6_spared_85 : decode cX6_spared 85 = .ok (.iaload, 1) := dk_46 (dk_at dksX6_spared_3 14 rfl rfl)
theorem dX6_spared_86 : decode cX6_spared 86 = .ok (.ishl, 1) := dk_120 (dk_at dksX6_spared_3 15 rfl rfl)
theorem dX6_spared_87 : decode cX6_spared 87 = .ok (.if_icmp .ge 89, 3) := dk_162 0 89 (dk_at dksX6_spared_3 16 rfl rfl)
theorem dX6_spared_90 : decode cX6_spared 90 = .ok (.lconst 1, 1) := dk_10 (dk_at dksX6_spared_3 19 rfl rfl)
theorem dX6_spared_91 : decode cX6_spared 91 = .ok (.lstore 10, 2) := dk_55 10 (dk_at dksX6_spared_3 20 rfl rfl)
theorem dX6_spared_93 : decode cX6_spared 93 = .ok (.iconst 0, 1) := dk_3 (dk_at dksX6_spared_3 22 rfl rfl)
theorem dX6_spared_94 : decode cX6_spared 94 = .ok (.istore 12, 2) := dk_54 12 (dk_at dksX6_spared_4 0 rfl rfl)
theorem dX6_spared_96 : decode cX6_spared 96 = .ok (.iload 12, 2) := dk_21 12 (dk_at dksX6_spared_4 2 rfl rfl)
theorem dX6_spared_98 : decode cX6_spared 98 = .ok (.aload_n 0, 1) := dk_42 (dk_at dksX6_spared_4 4 rfl rfl)
theorem dX6_spared_99 : decode cX6_spared 99 = .ok (.getfield 25, 3) := dk_180 0 25 (dk_at dksX6_spared_4 5 rfl rfl)
theorem dX6_spared_102 : decode cX6_spared 102 = .ok (.iconst 1, 1) := dk_4 (dk_at dksX6_spared_4 8 rfl rfl)
theorem dX6_spared_103 : decode cX6_spared 103 = .ok (.iaload, 1) := dk_46 (dk_at dksX6_spared_4 9 rfl rfl)
theorem dX6_spared_104 : decode cX6_spared 104 = .ok (.if_icmp .ge 34, 3) := dk_162 0 34 (dk_at dksX6_spared_4 10 rfl rfl)
theorem dX6_spared_107 : decode cX6_spared 107 = .ok (.lload 10, 2) := dk_22 10 (dk_at dksX6_spared_4 13 rfl rfl)
theorem dX6_spared_109 : decode cX6_spared 109 = .ok (.iload 9, 2) := dk_21 9 (dk_at dksX6_spared_4 15 rfl rfl)
theorem dX6_spared_111 : decode cX6_spared 111 = .ok (.iload 12, 2) := dk_21 12 (dk_at dksX6_spared_4 17 rfl rfl)
theorem dX6_spared_113 : decode cX6_spared 113 = .ok (.invokestatic 167, 3) := dk_184 0 167 (dk_at dksX6_spared_4 19 rfl rfl)
theorem dX6_spared_116 : decode cX6_spared 116 = .ok (.ifCond .eq 8, 3) := dk_153 0 8 (dk_at dksX6_spared_5 0 rfl rfl)
theorem dX6_spared_119 : decode cX6_spared 119 = .ok (.iload_n 3, 1) := dk_29 (dk_at dksX6_spared_5 3 rfl rfl)
theorem dX6_spared_120 : decode cX6_spared 120 = .ok (.i2l, 1) := dk_133 (dk_at dksX6_spared_5 4 rfl rfl)
theorem dX6_spared_121 : decode cX6_spared 121 = .ok (.goto 8, 3) := dk_167 0 8 (dk_at dksX6_spared_5 5 rfl rfl)
theorem dX6_spared_124 : decode cX6_spared 124 = .ok (.bipush 10, 2) := dk_16 10 (dk_at dksX6_spared_5 8 rfl rfl)
theorem dX6_spared_126 : decode cX6_spared 126 = .ok (.iload_n 3, 1) := dk_29 (dk_at dksX6_spared_5 10 rfl rfl)
theorem dX6_spared_127 : decode cX6_spared 127 = .ok (.isub, 1) := dk_100 (dk_at dksX6_spared_5 11 rfl rfl)
theorem dX6_spared_128 : decode cX6_spared 128 = .ok (.i2l, 1) := dk_133 (dk_at dksX6_spared_5 12 rfl rfl)
theorem dX6_spared_129 : decode cX6_spared 129 = .ok (.lmul, 1) := dk_105 (dk_at dksX6_spared_5 13 rfl rfl)
theorem dX6_spared_130 : decode cX6_spared 130 = .ok (.lstore 10, 2) := dk_55 10 (dk_at dksX6_spared_5 14 rfl rfl)
theorem dX6_spared_132 : decode cX6_spared 132 = .ok (.iinc 12 1, 3) := dk_132 12 1 (dk_at dksX6_spared_5 16 rfl rfl)
theorem dX6_spared_135 : decode cX6_spared 135 = .ok (.goto (-39), 3) := dk_167 255 217 (dk_at dksX6_spared_5 19 rfl rfl)
theorem dX6_spared_138 : decode cX6_spared 138 = .ok (.aload_n 0, 1) := dk_42 (dk_at dksX6_spared_5 22 rfl rfl)
theorem dX6_spared_139 : decode cX6_spared 139 = .ok (.aload_n 0, 1) := dk_42 (dk_at dksX6_spared_5 23 rfl rfl)
theorem dX6_spared_140 : decode cX6_spared 140 = .ok (.getfield 25, 3) := dk_180 0 25 (dk_at dksX6_spared_6 0 rfl rfl)
theorem dX6_spared_143 : decode cX6_spared 143 = .ok (.iload_n 1, 1) := dk_27 (dk_at dksX6_spared_6 3 rfl rfl)
theorem dX6_spared_144 : decode cX6_spared 144 = .ok (.iconst 0, 1) := dk_3 (dk_at dksX6_spared_6 4 rfl rfl)
theorem dX6_spared_145 : decode cX6_spared 145 = .ok (.iload 9, 2) := dk_21 9 (dk_at dksX6_spared_6 5 rfl rfl)
theorem dX6_spared_147 : decode cX6_spared 147 = .ok (.invokevirtual 206, 3) := dk_182 0 206 (dk_at dksX6_spared_6 7 rfl rfl)
theorem dX6_spared_150 : decode cX6_spared 150 = .ok (.lload 5, 2) := dk_22 5 (dk_at dksX6_spared_6 10 rfl rfl)
theorem dX6_spared_152 : decode cX6_spared 152 = .ok (.aload_n 0, 1) := dk_42 (dk_at dksX6_spared_6 12 rfl rfl)
theorem dX6_spared_153 : decode cX6_spared 153 = .ok (.getfield 44, 3) := dk_180 0 44 (dk_at dksX6_spared_6 13 rfl rfl)
theorem dX6_spared_156 : decode cX6_spared 156 = .ok (.iload_n 2, 1) := dk_28 (dk_at dksX6_spared_6 16 rfl rfl)
theorem dX6_spared_157 : decode cX6_spared 157 = .ok (.iaload, 1) := dk_46 (dk_at dksX6_spared_6 17 rfl rfl)
theorem dX6_spared_158 : decode cX6_spared 158 = .ok (.ifCond .ne 8, 3) := dk_154 0 8 (dk_at dksX6_spared_6 18 rfl rfl)
theorem dX6_spared_161 : decode cX6_spared 161 = .ok (.lload 10, 2) := dk_22 10 (dk_at dksX6_spared_6 21 rfl rfl)
theorem dX6_spared_163 : decode cX6_spared 163 = .ok (.goto 4, 3) := dk_167 0 4 (dk_at dksX6_spared_7 0 rfl rfl)
theorem dX6_spared_166 : decode cX6_spared 166 = .ok (.lconst 0, 1) := dk_9 (dk_at dksX6_spared_7 3 rfl rfl)
theorem dX6_spared_167 : decode cX6_spared 167 = .ok (.ladd, 1) := dk_97 (dk_at dksX6_spared_7 4 rfl rfl)
theorem dX6_spared_168 : decode cX6_spared 168 = .ok (.lstore 5, 2) := dk_55 5 (dk_at dksX6_spared_7 5 rfl rfl)
theorem dX6_spared_170 : decode cX6_spared 170 = .ok (.iinc 9 1, 3) := dk_132 9 1 (dk_at dksX6_spared_7 7 rfl rfl)
theorem dX6_spared_173 : decode cX6_spared 173 = .ok (.goto (-96), 3) := dk_167 255 160 (dk_at dksX6_spared_7 10 rfl rfl)
theorem dX6_spared_176 : decode cX6_spared 176 = .ok (.lload 5, 2) := dk_22 5 (dk_at dksX6_spared_7 13 rfl rfl)
theorem dX6_spared_178 : decode cX6_spared 178 = .ok (.lload 7, 2) := dk_22 7 (dk_at dksX6_spared_7 15 rfl rfl)
theorem dX6_spared_180 : decode cX6_spared 180 = .ok (.iload 4, 2) := dk_21 4 (dk_at dksX6_spared_7 17 rfl rfl)
theorem dX6_spared_182 : decode cX6_spared 182 = .ok (.invokestatic 248, 3) := dk_184 0 248 (dk_at dksX6_spared_7 19 rfl rfl)
theorem dX6_spared_185 : decode cX6_spared 185 = .ok (.lreturn, 1) := dk_173 (dk_at dksX6_spared_7 22 rfl rfl)
abbrev cX6_part_2 : ByteArray := prog_21_method_69_code
def yX6_part_2 : MethodName := ⟨RX6, "part", "(JJI)J"⟩
def dkwX6_part_2_1 : List UInt8 := [22, 9, 55, 7, 167, 255, 234, 21, 4, 154, 0, 7, 30, 167, 0, 4, 32, 22, 5, 109, 173]
abbrev dktX6_part_2_1 : List UInt8 := dkwX6_part_2_1 ++ []
def dkwX6_part_2_0 : List UInt8 := [30, 55, 5, 32, 55, 7, 22, 7, 9, 148, 153, 0, 21, 22, 5, 22, 7, 113, 55, 9, 22, 7, 55, 5]
abbrev dktX6_part_2_0 : List UInt8 := dkwX6_part_2_0 ++ dktX6_part_2_1
theorem dksX6_part_2_0 : cX6_part_2.data.toList.drop 0 = dktX6_part_2_0 := by decide +kernel
theorem dksX6_part_2_1 : cX6_part_2.data.toList.drop 24 = dktX6_part_2_1 := dk_seg dksX6_part_2_0 24 rfl rfl
theorem dX6_part_2_0 : decode cX6_part_2 0 = .ok (.lload_n 0, 1) := dk_30 (dk_at dksX6_part_2_0 0 rfl rfl)
theorem dX6_part_2_1 : decode cX6_part_2 1 = .ok (.lstore 5, 2) := dk_55 5 (dk_at dksX6_part_2_0 1 rfl rfl)
theorem dX6_part_2_3 : decode cX6_part_2 3 = .ok (.lload_n 2, 1) := dk_32 (dk_at dksX6_part_2_0 3 rfl rfl)
theorem dX6_part_2_4 : decode cX6_part_2 4 = .ok (.lstore 7, 2) := dk_55 7 (dk_at dksX6_part_2_0 4 rfl rfl)
theorem dX6_part_2_6 : decode cX6_part_2 6 = .ok (.lload 7, 2) := dk_22 7 (dk_at dksX6_part_2_0 6 rfl rfl)
theorem dX6_part_2_8 : decode cX6_part_2 8 = .ok (.lconst 0, 1) := dk_9 (dk_at dksX6_part_2_0 8 rfl rfl)
theorem dX6_part_2_9 : decode cX6_part_2 9 = .ok (.lcmp, 1) := dk_148 (dk_at dksX6_part_2_0 9 rfl rfl)
theorem dX6_part_2_10 : decode cX6_part_2 10 = .ok (.ifCond .eq 21, 3) := dk_153 0 21 (dk_at dksX6_part_2_0 10 rfl rfl)
theorem dX6_part_2_13 : decode cX6_part_2 13 = .ok (.lload 5, 2) := dk_22 5 (dk_at dksX6_part_2_0 13 rfl rfl)
theorem dX6_part_2_15 : decode cX6_part_2 15 = .ok (.lload 7, 2) := dk_22 7 (dk_at dksX6_part_2_0 15 rfl rfl)
theorem dX6_part_2_17 : decode cX6_part_2 17 = .ok (.lrem, 1) := dk_113 (dk_at dksX6_part_2_0 17 rfl rfl)
theorem dX6_part_2_18 : decode cX6_part_2 18 = .ok (.lstore 9, 2) := dk_55 9 (dk_at dksX6_part_2_0 18 rfl rfl)
theorem dX6_part_2_20 : decode cX6_part_2 20 = .ok (.lload 7, 2) := dk_22 7 (dk_at dksX6_part_2_0 20 rfl rfl)
theorem dX6_part_2_22 : decode cX6_part_2 22 = .ok (.lstore 5, 2) := dk_55 5 (dk_at dksX6_part_2_0 22 rfl rfl)
theorem dX6_part_2_24 : decode cX6_part_2 24 = .ok (.lload 9, 2) := dk_22 9 (dk_at dksX6_part_2_1 0 rfl rfl)
theorem dX6_part_2_26 : decode cX6_part_2 26 = .ok (.lstore 7, 2) := dk_55 7 (dk_at dksX6_part_2_1 2 rfl rfl)
theorem dX6_part_2_28 : decode cX6_part_2 28 = .ok (.goto (-22), 3) := dk_167 255 234 (dk_at dksX6_part_2_1 4 rfl rfl)
theorem dX6_part_2_31 : decode cX6_part_2 31 = .ok (.iload 4, 2) := dk_21 4 (dk_at dksX6_part_2_1 7 rfl rfl)
theorem dX6_part_2_33 : decode cX6_part_2 33 = .ok (.ifCond .ne 7, 3) := dk_154 0 7 (dk_at dksX6_part_2_1 9 rfl rfl)
theorem dX6_part_2_36 : decode cX6_part_2 36 = .ok (.lload_n 0, 1) := dk_30 (dk_at dksX6_part_2_1 12 rfl rfl)
theorem dX6_part_2_37 : decode cX6_part_2 37 = .ok (.goto 4, 3) := dk_167 0 4 (dk_at dksX6_part_2_1 13 rfl rfl)
theorem dX6_part_2_40 : decode cX6_part_2 40 = .ok (.lload_n 2, 1) := dk_32 (dk_at dksX6_part_2_1 16 rfl rfl)
theorem dX6_part_2_41 : decode cX6_part_2 41 = .ok (.lload 5, 2) := dk_22 5 (dk_at dksX6_part_2_1 17 rfl rfl)
theorem dX6_part_2_43 : decode cX6_part_2 43 = .ok (.ldiv, 1) := dk_109 (dk_at dksX6_part_2_1 19 rfl rfl)
theorem dX6_part_2_44 : decode cX6_part_2 44 = .ok (.lreturn, 1) := dk_173 (dk_at dksX6_part_2_1 20 rfl rfl)
abbrev cX6_fits : ByteArray := prog_21_method_72_code
def yX6_fits : MethodName := ⟨RX6, "fits", "(IIIII)I"⟩
def dkwX6_fits_13 : List UInt8 := [4, 21, 10, 120, 167, 0, 4, 3, 128, 54, 9, 132, 10, 1, 167, 255, 152, 42, 21, 9, 182, 0, 81, 172]
abbrev dktX6_fits_13 : List UInt8 := dkwX6_fits_13 ++ []
def dkwX6_fits_12 : List UInt8 := [46, 160, 0, 7, 4, 167, 0, 4, 3, 54, 11, 132, 12, 1, 167, 255, 209, 21, 9, 21, 11, 153, 0, 10]
abbrev dktX6_fits_12 : List UInt8 := dkwX6_fits_12 ++ dktX6_fits_13
def dkwX6_fits_11 : List UInt8 := [153, 0, 32, 42, 180, 0, 44, 21, 12, 46, 184, 0, 252, 42, 180, 0, 16, 16, 40, 29, 104, 21, 12, 96]
abbrev dktX6_fits_11 : List UInt8 := dkwX6_fits_11 ++ dktX6_fits_12
def dkwX6_fits_10 : List UInt8 := [180, 0, 31, 27, 3, 3, 182, 0, 206, 4, 54, 11, 3, 54, 12, 21, 12, 21, 4, 162, 0, 46, 21, 11]
abbrev dktX6_fits_10 : List UInt8 := dkwX6_fits_10 ++ dktX6_fits_11
def dkwX6_fits_9 : List UInt8 := [167, 0, 4, 4, 54, 10, 21, 10, 21, 8, 163, 0, 103, 42, 180, 0, 31, 21, 7, 21, 10, 79, 42, 42]
abbrev dktX6_fits_9 : List UInt8 := dkwX6_fits_9 ++ dktX6_fits_10
def dkwX6_fits_8 : List UInt8 := [21, 5, 4, 160, 0, 8, 16, 30, 167, 0, 4, 8, 54, 8, 3, 54, 9, 21, 5, 4, 160, 0, 7, 3]
abbrev dktX6_fits_8 : List UInt8 := dkwX6_fits_8 ++ dktX6_fits_9
def dkwX6_fits_7 : List UInt8 := [180, 0, 25, 6, 46, 16, 9, 162, 0, 12, 42, 180, 0, 25, 6, 46, 167, 0, 20, 16, 9, 167, 0, 15]
abbrev dktX6_fits_7 : List UInt8 := dkwX6_fits_7 ++ dktX6_fits_8
def dkwX6_fits_6 : List UInt8 := [6, 28, 104, 96, 5, 96, 167, 0, 8, 7, 5, 28, 104, 96, 54, 7, 21, 5, 154, 0, 28, 42]
abbrev dktX6_fits_6 : List UInt8 := dkwX6_fits_6 ++ dktX6_fits_7
def dkwX6_fits_5 : List UInt8 := [180, 0, 31, 3, 184, 0, 156, 21, 5, 154, 0, 7, 5, 167, 0, 25, 21, 5, 4, 160, 0, 14, 16, 22]
abbrev dktX6_fits_5 : List UInt8 := dkwX6_fits_5 ++ dktX6_fits_6
def dkwX6_fits_4 : List UInt8 := [29, 3, 21, 4, 182, 0, 91, 154, 0, 9, 42, 5, 182, 0, 77, 172, 42, 180, 0, 25, 3, 42]
abbrev dktX6_fits_4 : List UInt8 := dkwX6_fits_4 ++ dktX6_fits_5
def dkwX6_fits_3 : List UInt8 := [184, 0, 68, 154, 0, 6, 18, 76, 172, 42, 29, 182, 0, 84, 153, 0, 9, 42, 4, 182, 0, 77, 172, 42]
abbrev dktX6_fits_3 : List UInt8 := dkwX6_fits_3 ++ dktX6_fits_4
def dkwX6_fits_2 : List UInt8 := [153, 0, 30, 21, 6, 153, 0, 25, 29, 184, 0, 72, 153, 0, 18, 21, 4, 4, 42, 180, 0, 25, 3, 46]
abbrev dktX6_fits_2 : List UInt8 := dkwX6_fits_2 ++ dktX6_fits_3
def dkwX6_fits_1 : List UInt8 := [160, 0, 15, 42, 28, 182, 0, 186, 153, 0, 7, 4, 167, 0, 4, 3, 54, 6, 42, 27, 182, 0, 186]
abbrev dktX6_fits_1 : List UInt8 := dkwX6_fits_1 ++ dktX6_fits_2
def dkwX6_fits_0 : List UInt8 := [21, 5, 153, 0, 31, 21, 5, 4, 160, 0, 11, 42, 28, 182, 0, 189, 154, 0, 17, 21, 5, 5]
abbrev dktX6_fits_0 : List UInt8 := dkwX6_fits_0 ++ dktX6_fits_1
theorem dksX6_fits_0 : cX6_fits.data.toList.drop 0 = dktX6_fits_0 := by decide +kernel
theorem dksX6_fits_1 : cX6_fits.data.toList.drop 22 = dktX6_fits_1 := dk_seg dksX6_fits_0 22 rfl rfl
theorem dksX6_fits_2 : cX6_fits.data.toList.drop 45 = dktX6_fits_2 := dk_seg dksX6_fits_1 23 rfl rfl
theorem dksX6_fits_3 : cX6_fits.data.toList.drop 69 = dktX6_fits_3 := dk_seg dksX6_fits_2 24 rfl rfl
theorem dksX6_fits_4 : cX6_fits.data.toList.drop 93 = dktX6_fits_4 := dk_seg dksX6_fits_3 24 rfl rfl
theorem dksX6_fits_5 : cX6_fits.data.toList.drop 115 = dktX6_fits_5 := dk_seg dksX6_fits_4 22 rfl rfl
theorem dksX6_fits_6 : cX6_fits.data.toList.drop 139 = dktX6_fits_6 := dk_seg dksX6_fits_5 24 rfl rfl
theorem dksX6_fits_7 : cX6_fits.data.toList.drop 161 = dktX6_fits_7 := dk_seg dksX6_fits_6 22 rfl rfl
theorem dksX6_fits_8 : cX6_fits.data.toList.drop 185 = dktX6_fits_8 := dk_seg dksX6_fits_7 24 rfl rfl
theorem dksX6_fits_9 : cX6_fits.data.toList.drop 209 = dktX6_fits_9 := dk_seg dksX6_fits_8 24 rfl rfl
theorem dksX6_fits_10 : cX6_fits.data.toList.drop 233 = dktX6_fits_10 := dk_seg dksX6_fits_9 24 rfl rfl
theorem dksX6_fits_11 : cX6_fits.data.toList.drop 257 = dktX6_fits_11 := dk_seg dksX6_fits_10 24 rfl rfl
theorem dksX6_fits_12 : cX6_fits.data.toList.drop 281 = dktX6_fits_12 := dk_seg dksX6_fits_11 24 rfl rfl
theorem dksX6_fits_13 : cX6_fits.data.toList.drop 305 = dktX6_fits_13 := dk_seg dksX6_fits_12 24 rfl rfl
theorem dX6_fits_0 : decode cX6_fits 0 = .ok (.iload 5, 2) := dk_21 5 (dk_at dksX6_fits_0 0 rfl rfl)
theorem dX6_fits_2 : decode cX6_fits 2 = .ok (.ifCond .eq 31, 3) := dk_153 0 31 (dk_at dksX6_fits_0 2 rfl rfl)
theorem dX6_fits_5 : decode cX6_fits 5 = .ok (.iload 5, 2) := dk_21 5 (dk_at dksX6_fits_0 5 rfl rfl)
theorem dX6_fits_7 : decode cX6_fits 7 = .ok (.iconst 1, 1) := dk_4 (dk_at dksX6_fits_0 7 rfl rfl)
theorem dX6_fits_8 : decode cX6_fits 8 = .ok (.if_icmp .ne 11, 3) := dk_160 0 11 (dk_at dksX6_fits_0 8 rfl rfl)
theorem dX6_fits_11 : decode cX6_fits 11 = .ok (.aload_n 0, 1) := dk_42 (dk_at dksX6_fits_0 11 rfl rfl)
theorem dX6_fits_12 : decode cX6_fits 12 = .ok (.iload_n 2, 1) := dk_28 (dk_at dksX6_fits_0 12 rfl rfl)
theorem dX6_fits_13 : decode cX6_fits 13 = .ok (.invokevirtual 189, 3) := dk_182 0 189 (dk_at dksX6_fits_0 13 rfl rfl)
theorem dX6_fits_16 : decode cX6_fits 16 = .ok (.ifCond .ne 17, 3) := dk_154 0 17 (dk_at dksX6_fits_0 16 rfl rfl)
theorem dX6_fits_19 : decode cX6_fits 19 = .ok (.iload 5, 2) := dk_21 5 (dk_at dksX6_fits_0 19 rfl rfl)
theorem dX6_fits_21 : decode cX6_fits 21 = .ok (.iconst 2, 1) := dk_5 (dk_at dksX6_fits_0 21 rfl rfl)
theorem dX6_fits_22 : decode cX6_fits 22 = .ok (.if_icmp .ne 15, 3) := dk_160 0 15 (dk_at dksX6_fits_1 0 rfl rfl)
theorem dX6_fits_25 : decode cX6_fits 25 = .ok (.aload_n 0, 1) := dk_42 (dk_at dksX6_fits_1 3 rfl rfl)
theorem dX6_fits_26 : decode cX6_fits 26 = .ok (.iload_n 2, 1) := dk_28 (dk_at dksX6_fits_1 4 rfl rfl)
theorem dX6_fits_27 : decode cX6_fits 27 = .ok (.invokevirtual 186, 3) := dk_182 0 186 (dk_at dksX6_fits_1 5 rfl rfl)
theorem dX6_fits_30 : decode cX6_fits 30 = .ok (.ifCond .eq 7, 3) := dk_153 0 7 (dk_at dksX6_fits_1 8 rfl rfl)
theorem dX6_fits_33 : decode cX6_fits 33 = .ok (.iconst 1, 1) := dk_4 (dk_at dksX6_fits_1 11 rfl rfl)
theorem dX6_fits_34 : decode cX6_fits 34 = .ok (.goto 4, 3) := dk_167 0 4 (dk_at dksX6_fits_1 12 rfl rfl)
theorem dX6_fits_37 : decode cX6_fits 37 = .ok (.iconst 0, 1) := dk_3 (dk_at dksX6_fits_1 15 rfl rfl)
theorem dX6_fits_38 : decode cX6_fits 38 = .ok (.istore 6, 2) := dk_54 6 (dk_at dksX6_fits_1 16 rfl rfl)
theorem dX6_fits_40 : decode cX6_fits 40 = .ok (.aload_n 0, 1) := dk_42 (dk_at dksX6_fits_1 18 rfl rfl)
theorem dX6_fits_41 : decode cX6_fits 41 = .ok (.iload_n 1, 1) := dk_27 (dk_at dksX6_fits_1 19 rfl rfl)
theorem dX6_fits_42 : decode cX6_fits 42 = .ok (.invokevirtual 186, 3) := dk_182 0 186 (dk_at dksX6_fits_1 20 rfl rfl)
theorem dX6_fits_45 : decode cX6_fits 45 = .ok (.ifCond .eq 30, 3) := dk_153 0 30 (dk_at dksX6_fits_2 0 rfl rfl)
theorem dX6_fits_48 : decode cX6_fits 48 = .ok (.iload 6, 2) := dk_21 6 (dk_at dksX6_fits_2 3 rfl rfl)
theorem dX6_fits_50 : decode cX6_fits 50 = .ok (.ifCond .eq 25, 3) := dk_153 0 25 (dk_at dksX6_fits_2 5 rfl rfl)
theorem dX6_fits_53 : decode cX6_fits 53 = .ok (.iload_n 3, 1) := dk_29 (dk_at dksX6_fits_2 8 rfl rfl)
theorem dX6_fits_54 : decode cX6_fits 54 = .ok (.invokestatic 72, 3) := dk_184 0 72 (dk_at dksX6_fits_2 9 rfl rfl)
theorem dX6_fits_57 : decode cX6_fits 57 = .ok (.ifCond .eq 18, 3) := dk_153 0 18 (dk_at dksX6_fits_2 12 rfl rfl)
theorem dX6_fits_60 : decode cX6_fits 60 = .ok (.iload 4, 2) := dk_21 4 (dk_at dksX6_fits_2 15 rfl rfl)
theorem dX6_fits_62 : decode cX6_fits 62 = .ok (.iconst 1, 1) := dk_4 (dk_at dksX6_fits_2 17 rfl rfl)
theorem dX6_fits_63 : decode cX6_fits 63 = .ok (.aload_n 0, 1) := dk_42 (dk_at dksX6_fits_2 18 rfl rfl)
theorem dX6_fits_64 : decode cX6_fits 64 = .ok (.getfield 25, 3) := dk_180 0 25 (dk_at dksX6_fits_2 19 rfl rfl)
theorem dX6_fits_67 : decode cX6_fits 67 = .ok (.iconst 0, 1) := dk_3 (dk_at dksX6_fits_2 22 rfl rfl)
theorem dX6_fits_68 : decode cX6_fits 68 = .ok (.iaload, 1) := dk_46 (dk_at dksX6_fits_2 23 rfl rfl)
theorem dX6_fits_69 : decode cX6_fits 69 = .ok (.invokestatic 68, 3) := dk_184 0 68 (dk_at dksX6_fits_3 0 rfl rfl)
theorem dX6_fits_72 : decode cX6_fits 72 = .ok (.ifCond .ne 6, 3) := dk_154 0 6 (dk_at dksX6_fits_3 3 rfl rfl)
theorem dX6_fits_75 : decode cX6_fits 75 = .ok (.ldc 76, 2) := dk_18 76 (dk_at dksX6_fits_3 6 rfl rfl)
theorem dX6_fits_77 : decode cX6_fits 77 = .ok (.ireturn, 1) := dk_172 (dk_at dksX6_fits_3 8 rfl rfl)
theorem dX6_fits_78 : decode cX6_fits 78 = .ok (.aload_n 0, 1) := dk_42 (dk_at dksX6_fits_3 9 rfl rfl)
theorem dX6_fits_79 : decode cX6_fits 79 = .ok (.iload_n 3, 1) := dk_29 (dk_at dksX6_fits_3 10 rfl rfl)
theorem dX6_fits_80 : decode cX6_fits 80 = .ok (.invokevirtual 84, 3) := dk_182 0 84 (dk_at dksX6_fits_3 11 rfl rfl)
theorem dX6_fits_83 : decode cX6_fits 83 = .ok (.ifCond .eq 9, 3) := dk_153 0 9 (dk_at dksX6_fits_3 14 rfl rfl)
theorem dX6_fits_86 : decode cX6_fits 86 = .ok (.aload_n 0, 1) := dk_42 (dk_at dksX6_fits_3 17 rfl rfl)
theorem dX6_fits_87 : decode cX6_fits 87 = .ok (.iconst 1, 1) := dk_4 (dk_at dksX6_fits_3 18 rfl rfl)
theorem dX6_fits_88 : decode cX6_fits 88 = .ok (.invokevirtual 77, 3) := dk_182 0 77 (dk_at dksX6_fits_3 19 rfl rfl)
theorem dX6_fits_91 : decode cX6_fits 91 = .ok (.ireturn, 1) := dk_172 (dk_at dksX6_fits_3 22 rfl rfl)
theorem dX6_fits_92 : decode cX6_fits 92 = .ok (.aload_n 0, 1) := dk_42 (dk_at dksX6_fits_3 23 rfl rfl)
theorem dX6_fits_93 : decode cX6_fits 93 = .ok (.iload_n 3, 1) := dk_29 (dk_at dksX6_fits_4 0 rfl rfl)
theorem dX6_fits_94 : decode cX6_fits 94 = .ok (.iconst 0, 1) := dk_3 (dk_at dksX6_fits_4 1 rfl rfl)
theorem dX6_fits_95 : decode cX6_fits 95 = .ok (.iload 4, 2) := dk_21 4 (dk_at dksX6_fits_4 2 rfl rfl)
theorem dX6_fits_97 : decode cX6_fits 97 = .ok (.invokevirtual 91, 3) := dk_182 0 91 (dk_at dksX6_fits_4 4 rfl rfl)
theorem dX6_fits_100 : decode cX6_fits 100 = .ok (.ifCond .ne 9, 3) := dk_154 0 9 (dk_at dksX6_fits_4 7 rfl rfl)
theorem dX6_fits_103 : decode cX6_fits 103 = .ok (.aload_n 0, 1) := dk_42 (dk_at dksX6_fits_4 10 rfl rfl)
theorem dX6_fits_104 : decode cX6_fits 104 = .ok (.iconst 2, 1) := dk_5 (dk_at dksX6_fits_4 11 rfl rfl)
theorem dX6_fits_105 : decode cX6_fits 105 = .ok (.invokevirtual 77, 3) := dk_182 0 77 (dk_at dksX6_fits_4 12 rfl rfl)
theorem dX6_fits_108 : decode cX6_fits 108 = .ok (.ireturn, 1) := dk_172 (dk_at dksX6_fits_4 15 rfl rfl)
theorem dX6_fits_109 : decode cX6_fits 109 = .ok (.aload_n 0, 1) := dk_42 (dk_at dksX6_fits_4 16 rfl rfl)
theorem dX6_fits_110 : decode cX6_fits 110 = .ok (.getfield 25, 3) := dk_180 0 25 (dk_at dksX6_fits_4 17 rfl rfl)
theorem dX6_fits_113 : decode cX6_fits 113 = .ok (.iconst 0, 1) := dk_3 (dk_at dksX6_fits_4 20 rfl rfl)
theorem dX6_fits_114 : decode cX6_fits 114 = .ok (.aload_n 0, 1) := dk_42 (dk_at dksX6_fits_4 21 rfl rfl)
theorem dX6_fits_115 : decode cX6_fits 115 = .ok (.getfield 31, 3) := dk_180 0 31 (dk_at dksX6_fits_5 0 rfl rfl)
theorem dX6_fits_118 : decode cX6_fits 118 = .ok (.iconst 0, 1) := dk_3 (dk_at dksX6_fits_5 3 rfl rfl)
theorem dX6_fits_119 : decode cX6_fits 119 = .ok (.invokestatic 156, 3) := dk_184 0 156 (dk_at dksX6_fits_5 4 rfl rfl)
theorem dX6_fits_122 : decode cX6_fits 122 = .ok (.iload 5, 2) := dk_21 5 (dk_at dksX6_fits_5 7 rfl rfl)
theorem dX6_fits_124 : decode cX6_fits 124 = .ok (.ifCond .ne 7, 3) := dk_154 0 7 (dk_at dksX6_fits_5 9 rfl rfl)
theorem dX6_fits_127 : decode cX6_fits 127 = .ok (.iconst 2, 1) := dk_5 (dk_at dksX6_fits_5 12 rfl rfl)
theorem dX6_fits_128 : decode cX6_fits 128 = .ok (.goto 25, 3) := dk_167 0 25 (dk_at dksX6_fits_5 13 rfl rfl)
theorem dX6_fits_131 : decode cX6_fits 131 = .ok (.iload 5, 2) := dk_21 5 (dk_at dksX6_fits_5 16 rfl rfl)
theorem dX6_fits_133 : decode cX6_fits 133 = .ok (.iconst 1, 1) := dk_4 (dk_at dksX6_fits_5 18 rfl rfl)
theorem dX6_fits_134 : decode cX6_fits 134 = .ok (.if_icmp .ne 14, 3) := dk_160 0 14 (dk_at dksX6_fits_5 19 rfl rfl)
theorem dX6_fits_137 : decode cX6_fits 137 = .ok (.bipush 22, 2) := dk_16 22 (dk_at dksX6_fits_5 22 rfl rfl)
theorem dX6_fits_139 : decode cX6_fits 139 = .ok (.iconst 3, 1) := dk_6 (dk_at dksX6_fits_6 0 rfl rfl)
theorem dX6_fits_140 : decode cX6_fits 140 = .ok (.iload_n 2, 1) := dk_28 (dk_at dksX6_fits_6 1 rfl rfl)
theorem dX6_fits_141 : decode cX6_fits 141 = .ok (.imul, 1) := dk_104 (dk_at dksX6_fits_6 2 rfl rfl)
theorem dX6_fits_142 : decode cX6_fits 142 = .ok (.iadd, 1) := dk_96 (dk_at dksX6_fits_6 3 rfl rfl)
theorem dX6_fits_143 : decode cX6_fits 143 = .ok (.iconst 2, 1) := dk_5 (dk_at dksX6_fits_6 4 rfl rfl)
theorem dX6_fits_144 : decode cX6_fits 144 = .ok (.iadd, 1) := dk_96 (dk_at dksX6_fits_6 5 rfl rfl)
theorem dX6_fits_145 : decode cX6_fits 145 = .ok (.goto 8, 3) := dk_167 0 8 (dk_at dksX6_fits_6 6 rfl rfl)
theorem dX6_fits_148 : decode cX6_fits 148 = .ok (.iconst 4, 1) := dk_7 (dk_at dksX6_fits_6 9 rfl rfl)
theorem dX6_fits_149 : decode cX6_fits 149 = .ok (.iconst 2, 1) := dk_5 (dk_at dksX6_fits_6 10 rfl rfl)
theorem dX6_fits_150 : decode cX6_fits 150 = .ok (.iload_n 2, 1) := dk_28 (dk_at dksX6_fits_6 11 rfl rfl)
theorem dX6_fits_151 : decode cX6_fits 151 = .ok (.imul, 1) := dk_104 (dk_at dksX6_fits_6 12 rfl rfl)
theorem dX6_fits_152 : decode cX6_fits 152 = .ok (.iadd, 1) := dk_96 (dk_at dksX6_fits_6 13 rfl rfl)
theorem dX6_fits_153 : decode cX6_fits 153 = .ok (.istore 7, 2) := dk_54 7 (dk_at dksX6_fits_6 14 rfl rfl)
theorem dX6_fits_155 : decode cX6_fits 155 = .ok (.iload 5, 2) := dk_21 5 (dk_at dksX6_fits_6 16 rfl rfl)
theorem dX6_fits_157 : decode cX6_fits 157 = .ok (.ifCond .ne 28, 3) := dk_154 0 28 (dk_at dksX6_fits_6 18 rfl rfl)
theorem dX6_fits_160 : decode cX6_fits 160 = .ok (.aload_n 0, 1) := dk_42 (dk_at dksX6_fits_6 21 rfl rfl)
theorem dX6_fits_161 : decode cX6_fits 161 = .ok (.getfield 25, 3) := dk_180 0 25 (dk_at dksX6_fits_7 0 rfl rfl)
theorem dX6_fits_164 : decode cX6_fits 164 = .ok (.iconst 3, 1) := dk_6 (dk_at dksX6_fits_7 3 rfl rfl)
theorem dX6_fits_165 : decode cX6_fits 165 = .ok (.iaload, 1) := dk_46 (dk_at dksX6_fits_7 4 rfl rfl)
theorem dX6_fits_166 : decode cX6_fits 166 = .ok (.bipush 9, 2) := dk_16 9 (dk_at dksX6_fits_7 5 rfl rfl)
theorem dX6_fits_168 : decode cX6_fits 168 = .ok (.if_icmp .ge 12, 3) := dk_162 0 12 (dk_at dksX6_fits_7 7 rfl rfl)
theorem dX6_fits_171 : decode cX6_fits 171 = .ok (.aload_n 0, 1) := dk_42 (dk_at dksX6_fits_7 10 rfl rfl)
theorem dX6_fits_172 : decode cX6_fits 172 = .ok (.getfield 25, 3) := dk_180 0 25 (dk_at dksX6_fits_7 11 rfl rfl)
theorem dX6_fits_175 : decode cX6_fits 175 = .ok (.iconst 3, 1) := dk_6 (dk_at dksX6_fits_7 14 rfl rfl)
theorem dX6_fits_176 : decode cX6_fits 176 = .ok (.iaload, 1) := dk_46 (dk_at dksX6_fits_7 15 rfl rfl)
theorem dX6_fits_177 : decode cX6_fits 177 = .ok (.goto 20, 3) := dk_167 0 20 (dk_at dksX6_fits_7 16 rfl rfl)
theorem dX6_fits_180 : decode cX6_fits 180 = .ok (.bipush 9, 2) := dk_16 9 (dk_at dksX6_fits_7 19 rfl rfl)
theorem dX6_fits_182 : decode cX6_fits 182 = .ok (.goto 15, 3) := dk_167 0 15 (dk_at dksX6_fits_7 21 rfl rfl)
theorem dX6_fits_185 : decode cX6_fits 185 = .ok (.iload 5, 2) := dk_21 5 (dk_at dksX6_fits_8 0 rfl rfl)
theorem dX6_fits_187 : decode cX6_fits 187 = .ok (.iconst 1, 1) := dk_4 (dk_at dksX6_fits_8 2 rfl rfl)
theorem dX6_fits_188 : decode cX6_fits 188 = .ok (.if_icmp .ne 8, 3) := dk_160 0 8 (dk_at dksX6_fits_8 3 rfl rfl)
theorem dX6_fits_191 : decode cX6_fits 191 = .ok (.bipush 30, 2) := dk_16 30 (dk_at dksX6_fits_8 6 rfl rfl)
theorem dX6_fits_193 : decode cX6_fits 193 = .ok (.goto 4, 3) := dk_167 0 4 (dk_at dksX6_fits_8 8 rfl rfl)
theorem dX6_fits_196 : decode cX6_fits 196 = .ok (.iconst 5, 1) := dk_8 (dk_at dksX6_fits_8 11 rfl rfl)
theorem dX6_fits_197 : decode cX6_fits 197 = .ok (.istore 8, 2) := dk_54 8 (dk_at dksX6_fits_8 12 rfl rfl)
theorem dX6_fits_199 : decode cX6_fits 199 = .ok (.iconst 0, 1) := dk_3 (dk_at dksX6_fits_8 14 rfl rfl)
theorem dX6_fits_200 : decode cX6_fits 200 = .ok (.istore 9, 2) := dk_54 9 (dk_at dksX6_fits_8 15 rfl rfl)
theorem dX6_fits_202 : decode cX6_fits 202 = .ok (.iload 5, 2) := dk_21 5 (dk_at dksX6_fits_8 17 rfl rfl)
theorem dX6_fits_204 : decode cX6_fits 204 = .ok (.iconst 1, 1) := dk_4 (dk_at dksX6_fits_8 19 rfl rfl)
theorem dX6_fits_205 : decode cX6_fits 205 = .ok (.if_icmp .ne 7, 3) := dk_160 0 7 (dk_at dksX6_fits_8 20 rfl rfl)
theorem dX6_fits_208 : decode cX6_fits 208 = .ok (.iconst 0, 1) := dk_3 (dk_at dksX6_fits_8 23 rfl rfl)
theorem dX6_fits_209 : decode cX6_fits 209 = .ok (.goto 4, 3) := dk_167 0 4 (dk_at dksX6_fits_9 0 rfl rfl)
theorem dX6_fits_212 : decode cX6_fits 212 = .ok (.iconst 1, 1) := dk_4 (dk_at dksX6_fits_9 3 rfl rfl)
theorem dX6_fits_213 : decode cX6_fits 213 = .ok (.istore 10, 2) := dk_54 10 (dk_at dksX6_fits_9 4 rfl rfl)
theorem dX6_fits_215 : decode cX6_fits 215 = .ok (.iload 10, 2) := dk_21 10 (dk_at dksX6_fits_9 6 rfl rfl)
theorem dX6_fits_217 : decode cX6_fits 217 = .ok (.iload 8, 2) := dk_21 8 (dk_at dksX6_fits_9 8 rfl rfl)
theorem dX6_fits_219 : decode cX6_fits 219 = .ok (.if_icmp .gt 103, 3) := dk_163 0 103 (dk_at dksX6_fits_9 10 rfl rfl)
theorem dX6_fits_222 : decode cX6_fits 222 = .ok (.aload_n 0, 1) := dk_42 (dk_at dksX6_fits_9 13 rfl rfl)
theorem dX6_fits_223 : decode cX6_fits 223 = .ok (.getfield 31, 3) := dk_180 0 31 (dk_at dksX6_fits_9 14 rfl rfl)
theorem dX6_fits_226 : decode cX6_fits 226 = .ok (.iload 7, 2) := dk_21 7 (dk_at dksX6_fits_9 17 rfl rfl)
theorem dX6_fits_228 : decode cX6_fits 228 = .ok (.iload 10, 2) := dk_21 10 (dk_at dksX6_fits_9 19 rfl rfl)
theorem dX6_fits_230 : decode cX6_fits 230 = .ok (.iastore, 1) := dk_79 (dk_at dksX6_fits_9 21 rfl rfl)
theorem dX6_fits_231 : decode cX6_fits 231 = .ok (.aload_n 0, 1) := dk_42 (dk_at dksX6_fits_9 22 rfl rfl)
theorem dX6_fits_232 : decode cX6_fits 232 = .ok (.aload_n 0, 1) := dk_42 (dk_at dksX6_fits_9 23 rfl rfl)
theorem dX6_fits_233 : decode cX6_fits 233 = .ok (.getfield 31, 3) := dk_180 0 31 (dk_at dksX6_fits_10 0 rfl rfl)
theorem dX6_fits_236 : decode cX6_fits 236 = .ok (.iload_n 1, 1) := dk_27 (dk_at dksX6_fits_10 3 rfl rfl)
theorem dX6_fits_237 : decode cX6_fits 237 = .ok (.iconst 0, 1) := dk_3 (dk_at dksX6_fits_10 4 rfl rfl)
theorem dX6_fits_238 : decode cX6_fits 238 = .ok (.iconst 0, 1) := dk_3 (dk_at dksX6_fits_10 5 rfl rfl)
theorem dX6_fits_239 : decode cX6_fits 239 = .ok (.invokevirtual 206, 3) := dk_182 0 206 (dk_at dksX6_fits_10 6 rfl rfl)
theorem dX6_fits_242 : decode cX6_fits 242 = .ok (.iconst 1, 1) := dk_4 (dk_at dksX6_fits_10 9 rfl rfl)
theorem dX6_fits_243 : decode cX6_fits 243 = .ok (.istore 11, 2) := dk_54 11 (dk_at dksX6_fits_10 10 rfl rfl)
theorem dX6_fits_245 : decode cX6_fits 245 = .ok (.iconst 0, 1) := dk_3 (dk_at dksX6_fits_10 12 rfl rfl)
theorem dX6_fits_246 : decode cX6_fits 246 = .ok (.istore 12, 2) := dk_54 12 (dk_at dksX6_fits_10 13 rfl rfl)
theorem dX6_fits_248 : decode cX6_fits 248 = .ok (.iload 12, 2) := dk_21 12 (dk_at dksX6_fits_10 15 rfl rfl)
theorem dX6_fits_250 : decode cX6_fits 250 = .ok (.iload 4, 2) := dk_21 4 (dk_at dksX6_fits_10 17 rfl rfl)
theorem dX6_fits_252 : decode cX6_fits 252 = .ok (.if_icmp .ge 46, 3) := dk_162 0 46 (dk_at dksX6_fits_10 19 rfl rfl)
theorem dX6_fits_255 : decode cX6_fits 255 = .ok (.iload 11, 2) := dk_21 11 (dk_at dksX6_fits_10 22 rfl rfl)
theorem dX6_fits_257 : decode cX6_fits 257 = .ok (.ifCond .eq 32, 3) := dk_153 0 32 (dk_at dksX6_fits_11 0 rfl rfl)
theorem dX6_fits_260 : decode cX6_fits 260 = .ok (.aload_n 0, 1) := dk_42 (dk_at dksX6_fits_11 3 rfl rfl)
theorem dX6_fits_261 : decode cX6_fits 261 = .ok (.getfield 44, 3) := dk_180 0 44 (dk_at dksX6_fits_11 4 rfl rfl)
theorem dX6_fits_264 : decode cX6_fits 264 = .ok (.iload 12, 2) := dk_21 12 (dk_at dksX6_fits_11 7 rfl rfl)
theorem dX6_fits_266 : decode cX6_fits 266 = .ok (.iaload, 1) := dk_46 (dk_at dksX6_fits_11 9 rfl rfl)
theorem dX6_fits_267 : decode cX6_fits 267 = .ok (.invokestatic 252, 3) := dk_184 0 252 (dk_at dksX6_fits_11 10 rfl rfl)
theorem dX6_fits_270 : decode cX6_fits 270 = .ok (.aload_n 0, 1) := dk_42 (dk_at dksX6_fits_11 13 rfl rfl)
theorem dX6_fits_271 : decode cX6_fits 271 = .ok (.getfield 16, 3) := dk_180 0 16 (dk_at dksX6_fits_11 14 rfl rfl)
theorem dX6_fits_274 : decode cX6_fits 274 = .ok (.bipush 40, 2) := dk_16 40 (dk_at dksX6_fits_11 17 rfl rfl)
theorem dX6_fits_276 : decode cX6_fits 276 = .ok (.iload_n 3, 1) := dk_29 (dk_at dksX6_fits_11 19 rfl rfl)
theorem dX6_fits_277 : decode cX6_fits 277 = .ok (.imul, 1) := dk_104 (dk_at dksX6_fits_11 20 rfl rfl)
theorem dX6_fits_278 : decode cX6_fits 278 = .ok (.iload 12, 2) := dk_21 12 (dk_at dksX6_fits_11 21 rfl rfl)
theorem dX6_fits_280 : decode cX6_fits 280 = .ok (.iadd, 1) := dk_96 (dk_at dksX6_fits_11 23 rfl rfl)
theorem dX6_fits_281 : decode cX6_fits 281 = .ok (.iaload, 1) := dk_46 (dk_at dksX6_fits_12 0 rfl rfl)
theorem dX6_fits_282 : decode cX6_fits 282 = .ok (.if_icmp .ne 7, 3) := dk_160 0 7 (dk_at dksX6_fits_12 1 rfl rfl)
theorem dX6_fits_285 : decode cX6_fits 285 = .ok (.iconst 1, 1) := dk_4 (dk_at dksX6_fits_12 4 rfl rfl)
theorem dX6_fits_286 : decode cX6_fits 286 = .ok (.goto 4, 3) := dk_167 0 4 (dk_at dksX6_fits_12 5 rfl rfl)
theorem dX6_fits_289 : decode cX6_fits 289 = .ok (.iconst 0, 1) := dk_3 (dk_at dksX6_fits_12 8 rfl rfl)
theorem dX6_fits_290 : decode cX6_fits 290 = .ok (.istore 11, 2) := dk_54 11 (dk_at dksX6_fits_12 9 rfl rfl)
theorem dX6_fits_292 : decode cX6_fits 292 = .ok (.iinc 12 1, 3) := dk_132 12 1 (dk_at dksX6_fits_12 11 rfl rfl)
theorem dX6_fits_295 : decode cX6_fits 295 = .ok (.goto (-47), 3) := dk_167 255 209 (dk_at dksX6_fits_12 14 rfl rfl)
theorem dX6_fits_298 : decode cX6_fits 298 = .ok (.iload 9, 2) := dk_21 9 (dk_at dksX6_fits_12 17 rfl rfl)
theorem dX6_fits_300 : decode cX6_fits 300 = .ok (.iload 11, 2) := dk_21 11 (dk_at dksX6_fits_12 19 rfl rfl)
theorem dX6_fits_302 : decode cX6_fits 302 = .ok (.ifCond .eq 10, 3) := dk_153 0 10 (dk_at dksX6_fits_12 21 rfl rfl)
theorem dX6_fits_305 : decode cX6_fits 305 = .ok (.iconst 1, 1) := dk_4 (dk_at dksX6_fits_13 0 rfl rfl)
theorem dX6_fits_306 : decode cX6_fits 306 = .ok (.iload 10, 2) := dk_21 10 (dk_at dksX6_fits_13 1 rfl rfl)
theorem dX6_fits_308 : decode cX6_fits 308 = .ok (.ishl, 1) := dk_120 (dk_at dksX6_fits_13 3 rfl rfl)
theorem dX6_fits_309 : decode cX6_fits 309 = .ok (.goto 4, 3) := dk_167 0 4 (dk_at dksX6_fits_13 4 rfl rfl)
theorem dX6_fits_312 : decode cX6_fits 312 = .ok (.iconst 0, 1) := dk_3 (dk_at dksX6_fits_13 7 rfl rfl)
theorem dX6_fits_313 : decode cX6_fits 313 = .ok (.ior, 1) := dk_128 (dk_at dksX6_fits_13 8 rfl rfl)
theorem dX6_fits_314 : decode cX6_fits 314 = .ok (.istore 9, 2) := dk_54 9 (dk_at dksX6_fits_13 9 rfl rfl)
theorem dX6_fits_316 : decode cX6_fits 316 = .ok (.iinc 10 1, 3) := dk_132 10 1 (dk_at dksX6_fits_13 11 rfl rfl)
theorem dX6_fits_319 : decode cX6_fits 319 = .ok (.goto (-104), 3) := dk_167 255 152 (dk_at dksX6_fits_13 14 rfl rfl)
theorem dX6_fits_322 : decode cX6_fits 322 = .ok (.aload_n 0, 1) := dk_42 (dk_at dksX6_fits_13 17 rfl rfl)
theorem dX6_fits_323 : decode cX6_fits 323 = .ok (.iload 9, 2) := dk_21 9 (dk_at dksX6_fits_13 18 rfl rfl)
theorem dX6_fits_325 : decode cX6_fits 325 = .ok (.invokevirtual 81, 3) := dk_182 0 81 (dk_at dksX6_fits_13 20 rfl rfl)
theorem dX6_fits_328 : decode cX6_fits 328 = .ok (.ireturn, 1) := dk_172 (dk_at dksX6_fits_13 23 rfl rfl)
abbrev cX6_firstOf : ByteArray := prog_21_method_71_code
def yX6_firstOf : MethodName := ⟨RX6, "firstOf", "(I)I"⟩
def dkwX6_firstOf_1 : List UInt8 := [16, 31, 162, 0, 7, 27, 167, 0, 4, 2, 172]
abbrev dktX6_firstOf_1 : List UInt8 := dkwX6_firstOf_1 ++ []
def dkwX6_firstOf_0 : List UInt8 := [3, 60, 27, 16, 31, 162, 0, 17, 26, 27, 184, 0, 167, 154, 0, 9, 132, 1, 1, 167, 255, 239, 27]
abbrev dktX6_firstOf_0 : List UInt8 := dkwX6_firstOf_0 ++ dktX6_firstOf_1
theorem dksX6_firstOf_0 : cX6_firstOf.data.toList.drop 0 = dktX6_firstOf_0 := by decide +kernel
theorem dksX6_firstOf_1 : cX6_firstOf.data.toList.drop 23 = dktX6_firstOf_1 := dk_seg dksX6_firstOf_0 23 rfl rfl
theorem dX6_firstOf_0 : decode cX6_firstOf 0 = .ok (.iconst 0, 1) := dk_3 (dk_at dksX6_firstOf_0 0 rfl rfl)
theorem dX6_firstOf_1 : decode cX6_firstOf 1 = .ok (.istore_n 1, 1) := dk_60 (dk_at dksX6_firstOf_0 1 rfl rfl)
theorem dX6_firstOf_2 : decode cX6_firstOf 2 = .ok (.iload_n 1, 1) := dk_27 (dk_at dksX6_firstOf_0 2 rfl rfl)
theorem dX6_firstOf_3 : decode cX6_firstOf 3 = .ok (.bipush 31, 2) := dk_16 31 (dk_at dksX6_firstOf_0 3 rfl rfl)
theorem dX6_firstOf_5 : decode cX6_firstOf 5 = .ok (.if_icmp .ge 17, 3) := dk_162 0 17 (dk_at dksX6_firstOf_0 5 rfl rfl)
theorem dX6_firstOf_8 : decode cX6_firstOf 8 = .ok (.iload_n 0, 1) := dk_26 (dk_at dksX6_firstOf_0 8 rfl rfl)
theorem dX6_firstOf_9 : decode cX6_firstOf 9 = .ok (.iload_n 1, 1) := dk_27 (dk_at dksX6_firstOf_0 9 rfl rfl)
theorem dX6_firstOf_10 : decode cX6_firstOf 10 = .ok (.invokestatic 167, 3) := dk_184 0 167 (dk_at dksX6_firstOf_0 10 rfl rfl)
theorem dX6_firstOf_13 : decode cX6_firstOf 13 = .ok (.ifCond .ne 9, 3) := dk_154 0 9 (dk_at dksX6_firstOf_0 13 rfl rfl)
theorem dX6_firstOf_16 : decode cX6_firstOf 16 = .ok (.iinc 1 1, 3) := dk_132 1 1 (dk_at dksX6_firstOf_0 16 rfl rfl)
theorem dX6_firstOf_19 : decode cX6_firstOf 19 = .ok (.goto (-17), 3) := dk_167 255 239 (dk_at dksX6_firstOf_0 19 rfl rfl)
theorem dX6_firstOf_22 : decode cX6_firstOf 22 = .ok (.iload_n 1, 1) := dk_27 (dk_at dksX6_firstOf_0 22 rfl rfl)
theorem dX6_firstOf_23 : decode cX6_firstOf 23 = .ok (.bipush 31, 2) := dk_16 31 (dk_at dksX6_firstOf_1 0 rfl rfl)
theorem dX6_firstOf_25 : decode cX6_firstOf 25 = .ok (.if_icmp .ge 7, 3) := dk_162 0 7 (dk_at dksX6_firstOf_1 2 rfl rfl)
theorem dX6_firstOf_28 : decode cX6_firstOf 28 = .ok (.iload_n 1, 1) := dk_27 (dk_at dksX6_firstOf_1 5 rfl rfl)
theorem dX6_firstOf_29 : decode cX6_firstOf 29 = .ok (.goto 4, 3) := dk_167 0 4 (dk_at dksX6_firstOf_1 6 rfl rfl)
theorem dX6_firstOf_32 : decode cX6_firstOf 32 = .ok (.iconst (-1), 1) := dk_2 (dk_at dksX6_firstOf_1 9 rfl rfl)
theorem dX6_firstOf_33 : decode cX6_firstOf 33 = .ok (.ireturn, 1) := dk_172 (dk_at dksX6_firstOf_1 10 rfl rfl)
abbrev cX6_tell : ByteArray := prog_21_method_73_code
def yX6_tell : MethodName := ⟨RX6, "tell", "(III)I"⟩
def dkwX6_tell_4 : List UInt8 := [167, 255, 209, 42, 21, 4, 182, 0, 81, 172]
abbrev dktX6_tell_4 : List UInt8 := dkwX6_tell_4 ++ []
def dkwX6_tell_3 : List UInt8 := [180, 0, 16, 16, 40, 29, 104, 21, 4, 96, 42, 180, 0, 44, 21, 4, 46, 184, 0, 252, 79, 132, 4, 1]
abbrev dktX6_tell_3 : List UInt8 := dkwX6_tell_3 ++ dktX6_tell_4
def dkwX6_tell_2 : List UInt8 := [21, 4, 42, 180, 0, 25, 3, 46, 162, 0, 42, 21, 4, 42, 180, 0, 13, 29, 46, 162, 0, 31, 42]
abbrev dktX6_tell_2 : List UInt8 := dkwX6_tell_2 ++ dktX6_tell_3
def dkwX6_tell_1 : List UInt8 := [153, 0, 9, 42, 4, 182, 0, 77, 172, 42, 42, 180, 0, 25, 27, 28, 3, 182, 0, 206, 3, 54, 4]
abbrev dktX6_tell_1 : List UInt8 := dkwX6_tell_1 ++ dktX6_tell_2
def dkwX6_tell_0 : List UInt8 := [42, 27, 28, 182, 0, 203, 153, 0, 10, 29, 184, 0, 72, 154, 0, 6, 18, 76, 172, 42, 29, 182, 0, 84]
abbrev dktX6_tell_0 : List UInt8 := dkwX6_tell_0 ++ dktX6_tell_1
theorem dksX6_tell_0 : cX6_tell.data.toList.drop 0 = dktX6_tell_0 := by decide +kernel
theorem dksX6_tell_1 : cX6_tell.data.toList.drop 24 = dktX6_tell_1 := dk_seg dksX6_tell_0 24 rfl rfl
theorem dksX6_tell_2 : cX6_tell.data.toList.drop 47 = dktX6_tell_2 := dk_seg dksX6_tell_1 23 rfl rfl
theorem dksX6_tell_3 : cX6_tell.data.toList.drop 70 = dktX6_tell_3 := dk_seg dksX6_tell_2 23 rfl rfl
theorem dksX6_tell_4 : cX6_tell.data.toList.drop 94 = dktX6_tell_4 := dk_seg dksX6_tell_3 24 rfl rfl
theorem dX6_tell_0 : decode cX6_tell 0 = .ok (.aload_n 0, 1) := dk_42 (dk_at dksX6_tell_0 0 rfl rfl)
theorem dX6_tell_1 : decode cX6_tell 1 = .ok (.iload_n 1, 1) := dk_27 (dk_at dksX6_tell_0 1 rfl rfl)
theorem dX6_tell_2 : decode cX6_tell 2 = .ok (.iload_n 2, 1) := dk_28 (dk_at dksX6_tell_0 2 rfl rfl)
theorem dX6_tell_3 : decode cX6_tell 3 = .ok (.invokevirtual 203, 3) := dk_182 0 203 (dk_at dksX6_tell_0 3 rfl rfl)
theorem dX6_tell_6 : decode cX6_tell 6 = .ok (.ifCond .eq 10, 3) := dk_153 0 10 (dk_at dksX6_tell_0 6 rfl rfl)
theorem dX6_tell_9 : decode cX6_tell 9 = .ok (.iload_n 3, 1) := dk_29 (dk_at dksX6_tell_0 9 rfl rfl)
theorem dX6_tell_10 : decode cX6_tell 10 = .ok (.invokestatic 72, 3) := dk_184 0 72 (dk_at dksX6_tell_0 10 rfl rfl)
theorem dX6_tell_13 : decode cX6_tell 13 = .ok (.ifCond .ne 6, 3) := dk_154 0 6 (dk_at dksX6_tell_0 13 rfl rfl)
theorem dX6_tell_16 : decode cX6_tell 16 = .ok (.ldc 76, 2) := dk_18 76 (dk_at dksX6_tell_0 16 rfl rfl)
theorem dX6_tell_18 : decode cX6_tell 18 = .ok (.ireturn, 1) := dk_172 (dk_at dksX6_tell_0 18 rfl rfl)
theorem dX6_tell_19 : decode cX6_tell 19 = .ok (.aload_n 0, 1) := dk_42 (dk_at dksX6_tell_0 19 rfl rfl)
theorem dX6_tell_20 : decode cX6_tell 20 = .ok (.iload_n 3, 1) := dk_29 (dk_at dksX6_tell_0 20 rfl rfl)
theorem dX6_tell_21 : decode cX6_tell 21 = .ok (.invokevirtual 84, 3) := dk_182 0 84 (dk_at dksX6_tell_0 21 rfl rfl)
theorem dX6_tell_24 : decode cX6_tell 24 = .ok (.ifCond .eq 9, 3) := dk_153 0 9 (dk_at dksX6_tell_1 0 rfl rfl)
theorem dX6_tell_27 : decode cX6_tell 27 = .ok (.aload_n 0, 1) := dk_42 (dk_at dksX6_tell_1 3 rfl rfl)
theorem dX6_tell_28 : decode cX6_tell 28 = .ok (.iconst 1, 1) := dk_4 (dk_at dksX6_tell_1 4 rfl rfl)
theorem dX6_tell_29 : decode cX6_tell 29 = .ok (.invokevirtual 77, 3) := dk_182 0 77 (dk_at dksX6_tell_1 5 rfl rfl)
theorem dX6_tell_32 : decode cX6_tell 32 = .ok (.ireturn, 1) := dk_172 (dk_at dksX6_tell_1 8 rfl rfl)
theorem dX6_tell_33 : decode cX6_tell 33 = .ok (.aload_n 0, 1) := dk_42 (dk_at dksX6_tell_1 9 rfl rfl)
theorem dX6_tell_34 : decode cX6_tell 34 = .ok (.aload_n 0, 1) := dk_42 (dk_at dksX6_tell_1 10 rfl rfl)
theorem dX6_tell_35 : decode cX6_tell 35 = .ok (.getfield 25, 3) := dk_180 0 25 (dk_at dksX6_tell_1 11 rfl rfl)
theorem dX6_tell_38 : decode cX6_tell 38 = .ok (.iload_n 1, 1) := dk_27 (dk_at dksX6_tell_1 14 rfl rfl)
theorem dX6_tell_39 : decode cX6_tell 39 = .ok (.iload_n 2, 1) := dk_28 (dk_at dksX6_tell_1 15 rfl rfl)
theorem dX6_tell_40 : decode cX6_tell 40 = .ok (.iconst 0, 1) := dk_3 (dk_at dksX6_tell_1 16 rfl rfl)
theorem dX6_tell_41 : decode cX6_tell 41 = .ok (.invokevirtual 206, 3) := dk_182 0 206 (dk_at dksX6_tell_1 17 rfl rfl)
theorem dX6_tell_44 : decode cX6_tell 44 = .ok (.iconst 0, 1) := dk_3 (dk_at dksX6_tell_1 20 rfl rfl)
theorem dX6_tell_45 : decode cX6_tell 45 = .ok (.istore 4, 2) := dk_54 4 (dk_at dksX6_tell_1 21 rfl rfl)
theorem dX6_tell_47 : decode cX6_tell 47 = .ok (.iload 4, 2) := dk_21 4 (dk_at dksX6_tell_2 0 rfl rfl)
theorem dX6_tell_49 : decode cX6_tell 49 = .ok (.aload_n 0, 1) := dk_42 (dk_at dksX6_tell_2 2 rfl rfl)
theorem dX6_tell_50 : decode cX6_tell 50 = .ok (.getfield 25, 3) := dk_180 0 25 (dk_at dksX6_tell_2 3 rfl rfl)
theorem dX6_tell_53 : decode cX6_tell 53 = .ok (.iconst 0, 1) := dk_3 (dk_at dksX6_tell_2 6 rfl rfl)
theorem dX6_tell_54 : decode cX6_tell 54 = .ok (.iaload, 1) := dk_46 (dk_at dksX6_tell_2 7 rfl rfl)
theorem dX6_tell_55 : decode cX6_tell 55 = .ok (.if_icmp .ge 42, 3) := dk_162 0 42 (dk_at dksX6_tell_2 8 rfl rfl)
theorem dX6_tell_58 : decode cX6_tell 58 = .ok (.iload 4, 2) := dk_21 4 (dk_at dksX6_tell_2 11 rfl rfl)
theorem dX6_tell_60 : decode cX6_tell 60 = .ok (.aload_n 0, 1) := dk_42 (dk_at dksX6_tell_2 13 rfl rfl)
theorem dX6_tell_61 : decode cX6_tell 61 = .ok (.getfield 13, 3) := dk_180 0 13 (dk_at dksX6_tell_2 14 rfl rfl)
theorem dX6_tell_64 : decode cX6_tell 64 = .ok (.iload_n 3, 1) := dk_29 (dk_at dksX6_tell_2 17 rfl rfl)
theorem dX6_tell_65 : decode cX6_tell 65 = .ok (.iaload, 1) := dk_46 (dk_at dksX6_tell_2 18 rfl rfl)
theorem dX6_tell_66 : decode cX6_tell 66 = .ok (.if_icmp .ge 31, 3) := dk_162 0 31 (dk_at dksX6_tell_2 19 rfl rfl)
theorem dX6_tell_69 : decode cX6_tell 69 = .ok (.aload_n 0, 1) := dk_42 (dk_at dksX6_tell_2 22 rfl rfl)
theorem dX6_tell_70 : decode cX6_tell 70 = .ok (.getfield 16, 3) := dk_180 0 16 (dk_at dksX6_tell_3 0 rfl rfl)
theorem dX6_tell_73 : decode cX6_tell 73 = .ok (.bipush 40, 2) := dk_16 40 (dk_at dksX6_tell_3 3 rfl rfl)
theorem dX6_tell_75 : decode cX6_tell 75 = .ok (.iload_n 3, 1) := dk_29 (dk_at dksX6_tell_3 5 rfl rfl)
theorem dX6_tell_76 : decode cX6_tell 76 = .ok (.imul, 1) := dk_104 (dk_at dksX6_tell_3 6 rfl rfl)
theorem dX6_tell_77 : decode cX6_tell 77 = .ok (.iload 4, 2) := dk_21 4 (dk_at dksX6_tell_3 7 rfl rfl)
theorem dX6_tell_79 : decode cX6_tell 79 = .ok (.iadd, 1) := dk_96 (dk_at dksX6_tell_3 9 rfl rfl)
theorem dX6_tell_80 : decode cX6_tell 80 = .ok (.aload_n 0, 1) := dk_42 (dk_at dksX6_tell_3 10 rfl rfl)
theorem dX6_tell_81 : decode cX6_tell 81 = .ok (.getfield 44, 3) := dk_180 0 44 (dk_at dksX6_tell_3 11 rfl rfl)
theorem dX6_tell_84 : decode cX6_tell 84 = .ok (.iload 4, 2) := dk_21 4 (dk_at dksX6_tell_3 14 rfl rfl)
theorem dX6_tell_86 : decode cX6_tell 86 = .ok (.iaload, 1) := dk_46 (dk_at dksX6_tell_3 16 rfl rfl)
theorem dX6_tell_87 : decode cX6_tell 87 = .ok (.invokestatic 252, 3) := dk_184 0 252 (dk_at dksX6_tell_3 17 rfl rfl)
theorem dX6_tell_90 : decode cX6_tell 90 = .ok (.iastore, 1) := dk_79 (dk_at dksX6_tell_3 20 rfl rfl)
theorem dX6_tell_91 : decode cX6_tell 91 = .ok (.iinc 4 1, 3) := dk_132 4 1 (dk_at dksX6_tell_3 21 rfl rfl)
theorem dX6_tell_94 : decode cX6_tell 94 = .ok (.goto (-47), 3) := dk_167 255 209 (dk_at dksX6_tell_4 0 rfl rfl)
theorem dX6_tell_97 : decode cX6_tell 97 = .ok (.aload_n 0, 1) := dk_42 (dk_at dksX6_tell_4 3 rfl rfl)
theorem dX6_tell_98 : decode cX6_tell 98 = .ok (.iload 4, 2) := dk_21 4 (dk_at dksX6_tell_4 4 rfl rfl)
theorem dX6_tell_100 : decode cX6_tell 100 = .ok (.invokevirtual 81, 3) := dk_182 0 81 (dk_at dksX6_tell_4 6 rfl rfl)
theorem dX6_tell_103 : decode cX6_tell 103 = .ok (.ireturn, 1) := dk_172 (dk_at dksX6_tell_4 9 rfl rfl)
abbrev cX6_drawn : ByteArray := prog_21_method_74_code
def yX6_drawn : MethodName := ⟨RX6, "drawn", "(III)I"⟩
def dkwX6_drawn_7 : List UInt8 := [167, 255, 222, 132, 7, 1, 167, 255, 141, 21, 6, 172]
abbrev dktX6_drawn_7 : List UInt8 := dkwX6_drawn_7 ++ []
def dkwX6_drawn_6 : List UInt8 := [21, 6, 42, 180, 0, 44, 21, 8, 46, 153, 0, 7, 4, 167, 0, 4, 3, 96, 54, 6, 132, 8, 1]
abbrev dktX6_drawn_6 : List UInt8 := dkwX6_drawn_6 ++ dktX6_drawn_7
def dkwX6_drawn_5 : List UInt8 := [180, 0, 31, 27, 3, 3, 182, 0, 206, 3, 54, 8, 21, 8, 42, 180, 0, 31, 3, 46, 162, 0, 29]
abbrev dktX6_drawn_5 : List UInt8 := dkwX6_drawn_5 ++ dktX6_drawn_6
def dkwX6_drawn_4 : List UInt8 := [4, 46, 133, 113, 136, 104, 96, 5, 96, 22, 4, 20, 1, 4, 109, 20, 1, 6, 113, 136, 79, 42, 42]
abbrev dktX6_drawn_4 : List UInt8 := dkwX6_drawn_4 ++ dktX6_drawn_5
def dkwX6_drawn_3 : List UInt8 := [55, 4, 42, 180, 0, 31, 4, 46, 158, 0, 37, 42, 180, 0, 31, 16, 22, 6, 22, 4, 42, 180, 0, 31]
abbrev dktX6_drawn_3 : List UInt8 := dkwX6_drawn_3 ++ dktX6_drawn_4
def dkwX6_drawn_2 : List UInt8 := [55, 4, 3, 54, 6, 3, 54, 7, 21, 7, 28, 162, 0, 115, 22, 4, 20, 1, 0, 105, 20, 1, 2, 113]
abbrev dktX6_drawn_2 : List UInt8 := dkwX6_drawn_2 ++ dktX6_drawn_3
def dkwX6_drawn_1 : List UInt8 := [184, 0, 68, 154, 0, 6, 18, 76, 172, 42, 180, 0, 25, 3, 42, 180, 0, 31, 3, 184, 0, 156, 29, 133]
abbrev dktX6_drawn_1 : List UInt8 := dkwX6_drawn_1 ++ dktX6_drawn_2
def dkwX6_drawn_0 : List UInt8 := [42, 27, 182, 0, 186, 153, 0, 23, 28, 3, 16, 30, 184, 0, 68, 153, 0, 13, 29, 4, 18, 255]
abbrev dktX6_drawn_0 : List UInt8 := dkwX6_drawn_0 ++ dktX6_drawn_1
theorem dksX6_drawn_0 : cX6_drawn.data.toList.drop 0 = dktX6_drawn_0 := by decide +kernel
theorem dksX6_drawn_1 : cX6_drawn.data.toList.drop 22 = dktX6_drawn_1 := dk_seg dksX6_drawn_0 22 rfl rfl
theorem dksX6_drawn_2 : cX6_drawn.data.toList.drop 46 = dktX6_drawn_2 := dk_seg dksX6_drawn_1 24 rfl rfl
theorem dksX6_drawn_3 : cX6_drawn.data.toList.drop 70 = dktX6_drawn_3 := dk_seg dksX6_drawn_2 24 rfl rfl
theorem dksX6_drawn_4 : cX6_drawn.data.toList.drop 94 = dktX6_drawn_4 := dk_seg dksX6_drawn_3 24 rfl rfl
theorem dksX6_drawn_5 : cX6_drawn.data.toList.drop 117 = dktX6_drawn_5 := dk_seg dksX6_drawn_4 23 rfl rfl
theorem dksX6_drawn_6 : cX6_drawn.data.toList.drop 140 = dktX6_drawn_6 := dk_seg dksX6_drawn_5 23 rfl rfl
theorem dksX6_drawn_7 : cX6_drawn.data.toList.drop 163 = dktX6_drawn_7 := dk_seg dksX6_drawn_6 23 rfl rfl
theorem dX6_drawn_0 : decode cX6_drawn 0 = .ok (.aload_n 0, 1) := dk_42 (dk_at dksX6_drawn_0 0 rfl rfl)
theorem dX6_drawn_1 : decode cX6_drawn 1 = .ok (.iload_n 1, 1) := dk_27 (dk_at dksX6_drawn_0 1 rfl rfl)
theorem dX6_drawn_2 : decode cX6_drawn 2 = .ok (.invokevirtual 186, 3) := dk_182 0 186 (dk_at dksX6_drawn_0 2 rfl rfl)
theorem dX6_drawn_5 : decode cX6_drawn 5 = .ok (.ifCond .eq 23, 3) := dk_153 0 23 (dk_at dksX6_drawn_0 5 rfl rfl)
theorem dX6_drawn_8 : decode cX6_drawn 8 = .ok (.iload_n 2, 1) := dk_28 (dk_at dksX6_drawn_0 8 rfl rfl)
theorem dX6_drawn_9 : decode cX6_drawn 9 = .ok (.iconst 0, 1) := dk_3 (dk_at dksX6_drawn_0 9 rfl rfl)
theorem dX6_drawn_10 : decode cX6_drawn 10 = .ok (.bipush 30, 2) := dk_16 30 (dk_at dksX6_drawn_0 10 rfl rfl)
theorem dX6_drawn_12 : decode cX6_drawn 12 = .ok (.invokestatic 68, 3) := dk_184 0 68 (dk_at dksX6_drawn_0 12 rfl rfl)
theorem dX6_drawn_15 : decode cX6_drawn 15 = .ok (.ifCond .eq 13, 3) := dk_153 0 13 (dk_at dksX6_drawn_0 15 rfl rfl)
theorem dX6_drawn_18 : decode cX6_drawn 18 = .ok (.iload_n 3, 1) := dk_29 (dk_at dksX6_drawn_0 18 rfl rfl)
theorem dX6_drawn_19 : decode cX6_drawn 19 = .ok (.iconst 1, 1) := dk_4 (dk_at dksX6_drawn_0 19 rfl rfl)
theorem dX6_drawn_20 : decode cX6_drawn 20 = .ok (.ldc 255, 2) := dk_18 255 (dk_at dksX6_drawn_0 20 rfl rfl)
theorem dX6_drawn_22 : decode cX6_drawn 22 = .ok (.invokestatic 68, 3) := dk_184 0 68 (dk_at dksX6_drawn_1 0 rfl rfl)
theorem dX6_drawn_25 : decode cX6_drawn 25 = .ok (.ifCond .ne 6, 3) := dk_154 0 6 (dk_at dksX6_drawn_1 3 rfl rfl)
theorem dX6_drawn_28 : decode cX6_drawn 28 = .ok (.ldc 76, 2) := dk_18 76 (dk_at dksX6_drawn_1 6 rfl rfl)
theorem dX6_drawn_30 : decode cX6_drawn 30 = .ok (.ireturn, 1) := dk_172 (dk_at dksX6_drawn_1 8 rfl rfl)
theorem dX6_drawn_31 : decode cX6_drawn 31 = .ok (.aload_n 0, 1) := dk_42 (dk_at dksX6_drawn_1 9 rfl rfl)
theorem dX6_drawn_32 : decode cX6_drawn 32 = .ok (.getfield 25, 3) := dk_180 0 25 (dk_at dksX6_drawn_1 10 rfl rfl)
theorem dX6_drawn_35 : decode cX6_drawn 35 = .ok (.iconst 0, 1) := dk_3 (dk_at dksX6_drawn_1 13 rfl rfl)
theorem dX6_drawn_36 : decode cX6_drawn 36 = .ok (.aload_n 0, 1) := dk_42 (dk_at dksX6_drawn_1 14 rfl rfl)
theorem dX6_drawn_37 : decode cX6_drawn 37 = .ok (.getfield 31, 3) := dk_180 0 31 (dk_at dksX6_drawn_1 15 rfl rfl)
theorem dX6_drawn_40 : decode cX6_drawn 40 = .ok (.iconst 0, 1) := dk_3 (dk_at dksX6_drawn_1 18 rfl rfl)
theorem dX6_drawn_41 : decode cX6_drawn 41 = .ok (.invokestatic 156, 3) := dk_184 0 156 (dk_at dksX6_drawn_1 19 rfl rfl)
theorem dX6_drawn_44 : decode cX6_drawn 44 = .ok (.iload_n 3, 1) := dk_29 (dk_at dksX6_drawn_1 22 rfl rfl)
theorem dX6_drawn_45 : decode cX6_drawn 45 = .ok (.i2l, 1) := dk_133 (dk_at dksX6_drawn_1 23 rfl rfl)
theorem dX6_drawn_46 : decode cX6_drawn 46 = .ok (.lstore 4, 2) := dk_55 4 (dk_at dksX6_drawn_2 0 rfl rfl)
theorem dX6_drawn_48 : decode cX6_drawn 48 = .ok (.iconst 0, 1) := dk_3 (dk_at dksX6_drawn_2 2 rfl rfl)
theorem dX6_drawn_49 : decode cX6_drawn 49 = .ok (.istore 6, 2) := dk_54 6 (dk_at dksX6_drawn_2 3 rfl rfl)
theorem dX6_drawn_51 : decode cX6_drawn 51 = .ok (.iconst 0, 1) := dk_3 (dk_at dksX6_drawn_2 5 rfl rfl)
theorem dX6_drawn_52 : decode cX6_drawn 52 = .ok (.istore 7, 2) := dk_54 7 (dk_at dksX6_drawn_2 6 rfl rfl)
theorem dX6_drawn_54 : decode cX6_drawn 54 = .ok (.iload 7, 2) := dk_21 7 (dk_at dksX6_drawn_2 8 rfl rfl)
theorem dX6_drawn_56 : decode cX6_drawn 56 = .ok (.iload_n 2, 1) := dk_28 (dk_at dksX6_drawn_2 10 rfl rfl)
theorem dX6_drawn_57 : decode cX6_drawn 57 = .ok (.if_icmp .ge 115, 3) := dk_162 0 115 (dk_at dksX6_drawn_2 11 rfl rfl)
theorem dX6_drawn_60 : decode cX6_drawn 60 = .ok (.lload 4, 2) := dk_22 4 (dk_at dksX6_drawn_2 14 rfl rfl)
theorem dX6_drawn_62 : decode cX6_drawn 62 = .ok (.ldc2_w 256, 3) := dk_20 1 0 (dk_at dksX6_drawn_2 16 rfl rfl)
theorem dX6_drawn_65 : decode cX6_drawn 65 = .ok (.lmul, 1) := dk_105 (dk_at dksX6_drawn_2 19 rfl rfl)
theorem dX6_drawn_66 : decode cX6_drawn 66 = .ok (.ldc2_w 258, 3) := dk_20 1 2 (dk_at dksX6_drawn_2 20 rfl rfl)
theorem dX6_drawn_69 : decode cX6_drawn 69 = .ok (.lrem, 1) := dk_113 (dk_at dksX6_drawn_2 23 rfl rfl)
theorem dX6_drawn_70 : decode cX6_drawn 70 = .ok (.lstore 4, 2) := dk_55 4 (dk_at dksX6_drawn_3 0 rfl rfl)
theorem dX6_drawn_72 : decode cX6_drawn 72 = .ok (.aload_n 0, 1) := dk_42 (dk_at dksX6_drawn_3 2 rfl rfl)
theorem dX6_drawn_73 : decode cX6_drawn 73 = .ok (.getfield 31, 3) := dk_180 0 31 (dk_at dksX6_drawn_3 3 rfl rfl)
theorem dX6_drawn_76 : decode cX6_drawn 76 = .ok (.iconst 1, 1) := dk_4 (dk_at dksX6_drawn_3 6 rfl rfl)
theorem dX6_drawn_77 : decode cX6_drawn 77 = .ok (.iaload, 1) := dk_46 (dk_at dksX6_drawn_3 7 rfl rfl)
theorem dX6_drawn_78 : decode cX6_drawn 78 = .ok (.ifCond .le 37, 3) := dk_158 0 37 (dk_at dksX6_drawn_3 8 rfl rfl)
theorem dX6_drawn_81 : decode cX6_drawn 81 = .ok (.aload_n 0, 1) := dk_42 (dk_at dksX6_drawn_3 11 rfl rfl)
theorem dX6_drawn_82 : decode cX6_drawn 82 = .ok (.getfield 31, 3) := dk_180 0 31 (dk_at dksX6_drawn_3 12 rfl rfl)
theorem dX6_drawn_85 : decode cX6_drawn 85 = .ok (.bipush 22, 2) := dk_16 22 (dk_at dksX6_drawn_3 15 rfl rfl)
theorem dX6_drawn_87 : decode cX6_drawn 87 = .ok (.iconst 3, 1) := dk_6 (dk_at dksX6_drawn_3 17 rfl rfl)
theorem dX6_drawn_88 : decode cX6_drawn 88 = .ok (.lload 4, 2) := dk_22 4 (dk_at dksX6_drawn_3 18 rfl rfl)
theorem dX6_drawn_90 : decode cX6_drawn 90 = .ok (.aload_n 0, 1) := dk_42 (dk_at dksX6_drawn_3 20 rfl rfl)
theorem dX6_drawn_91 : decode cX6_drawn 91 = .ok (.getfield 31, 3) := dk_180 0 31 (dk_at dksX6_drawn_3 21 rfl rfl)
theorem dX6_drawn_94 : decode cX6_drawn 94 = .ok (.iconst 1, 1) := dk_4 (dk_at dksX6_drawn_4 0 rfl rfl)
theorem dX6_drawn_95 : decode cX6_drawn 95 = .ok (.iaload, 1) := dk_46 (dk_at dksX6_drawn_4 1 rfl rfl)
theorem dX6_drawn_96 : decode cX6_drawn 96 = .ok (.i2l, 1) := dk_133 (dk_at dksX6_drawn_4 2 rfl rfl)
theorem dX6_drawn_97 : decode cX6_drawn 97 = .ok (.lrem, 1) := dk_113 (dk_at dksX6_drawn_4 3 rfl rfl)
theorem dX6_drawn_98 : decode cX6_drawn 98 = .ok (.l2i, 1) := dk_136 (dk_at dksX6_drawn_4 4 rfl rfl)
theorem dX6_drawn_99 : decode cX6_drawn 99 = .ok (.imul, 1) := dk_104 (dk_at dksX6_drawn_4 5 rfl rfl)
theorem dX6_drawn_100 : decode cX6_drawn 100 = .ok (.iadd, 1) := dk_96 (dk_at dksX6_drawn_4 6 rfl rfl)
theorem dX6_drawn_101 : decode cX6_drawn 101 = .ok (.iconst 2, 1) := dk_5 (dk_at dksX6_drawn_4 7 rfl rfl)
theorem dX6_drawn_102 : decode cX6_drawn 102 = .ok (.iadd, 1) := dk_96 (dk_at dksX6_drawn_4 8 rfl rfl)
theorem dX6_drawn_103 : decode cX6_drawn 103 = .ok (.lload 4, 2) := dk_22 4 (dk_at dksX6_drawn_4 9 rfl rfl)
theorem dX6_drawn_105 : decode cX6_drawn 105 = .ok (.ldc2_w 260, 3) := dk_20 1 4 (dk_at dksX6_drawn_4 11 rfl rfl)
theorem dX6_drawn_108 : decode cX6_drawn 108 = .ok (.ldiv, 1) := dk_109 (dk_at dksX6_drawn_4 14 rfl rfl)
theorem dX6_drawn_109 : decode cX6_drawn 109 = .ok (.ldc2_w 262, 3) := dk_20 1 6 (dk_at dksX6_drawn_4 15 rfl rfl)
theorem dX6_drawn_112 : decode cX6_drawn 112 = .ok (.lrem, 1) := dk_113 (dk_at dksX6_drawn_4 18 rfl rfl)
theorem dX6_drawn_113 : decode cX6_drawn 113 = .ok (.l2i, 1) := dk_136 (dk_at dksX6_drawn_4 19 rfl rfl)
theorem dX6_drawn_114 : decode cX6_drawn 114 = .ok (.iastore, 1) := dk_79 (dk_at dksX6_drawn_4 20 rfl rfl)
theorem dX6_drawn_115 : decode cX6_drawn 115 = .ok (.aload_n 0, 1) := dk_42 (dk_at dksX6_drawn_4 21 rfl rfl)
theorem dX6_drawn_116 : decode cX6_drawn 116 = .ok (.aload_n 0, 1) := dk_42 (dk_at dksX6_drawn_4 22 rfl rfl)
theorem dX6_drawn_117 : decode cX6_drawn 117 = .ok (.getfield 31, 3) := dk_180 0 31 (dk_at dksX6_drawn_5 0 rfl rfl)
theorem dX6_drawn_120 : decode cX6_drawn 120 = .ok (.iload_n 1, 1) := dk_27 (dk_at dksX6_drawn_5 3 rfl rfl)
theorem dX6_drawn_121 : decode cX6_drawn 121 = .ok (.iconst 0, 1) := dk_3 (dk_at dksX6_drawn_5 4 rfl rfl)
theorem dX6_drawn_122 : decode cX6_drawn 122 = .ok (.iconst 0, 1) := dk_3 (dk_at dksX6_drawn_5 5 rfl rfl)
theorem dX6_drawn_123 : decode cX6_drawn 123 = .ok (.invokevirtual 206, 3) := dk_182 0 206 (dk_at dksX6_drawn_5 6 rfl rfl)
theorem dX6_drawn_126 : decode cX6_drawn 126 = .ok (.iconst 0, 1) := dk_3 (dk_at dksX6_drawn_5 9 rfl rfl)
theorem dX6_drawn_127 : decode cX6_drawn 127 = .ok (.istore 8, 2) := dk_54 8 (dk_at dksX6_drawn_5 10 rfl rfl)
theorem dX6_drawn_129 : decode cX6_drawn 129 = .ok (.iload 8, 2) := dk_21 8 (dk_at dksX6_drawn_5 12 rfl rfl)
theorem dX6_drawn_131 : decode cX6_drawn 131 = .ok (.aload_n 0, 1) := dk_42 (dk_at dksX6_drawn_5 14 rfl rfl)
theorem dX6_drawn_132 : decode cX6_drawn 132 = .ok (.getfield 31, 3) := dk_180 0 31 (dk_at dksX6_drawn_5 15 rfl rfl)
theorem dX6_drawn_135 : decode cX6_drawn 135 = .ok (.iconst 0, 1) := dk_3 (dk_at dksX6_drawn_5 18 rfl rfl)
theorem dX6_drawn_136 : decode cX6_drawn 136 = .ok (.iaload, 1) := dk_46 (dk_at dksX6_drawn_5 19 rfl rfl)
theorem dX6_drawn_137 : decode cX6_drawn 137 = .ok (.if_icmp .ge 29, 3) := dk_162 0 29 (dk_at dksX6_drawn_5 20 rfl rfl)
theorem dX6_drawn_140 : decode cX6_drawn 140 = .ok (.iload 6, 2) := dk_21 6 (dk_at dksX6_drawn_6 0 rfl rfl)
theorem dX6_drawn_142 : decode cX6_drawn 142 = .ok (.aload_n 0, 1) := dk_42 (dk_at dksX6_drawn_6 2 rfl rfl)
theorem dX6_drawn_143 : decode cX6_drawn 143 = .ok (.getfield 44, 3) := dk_180 0 44 (dk_at dksX6_drawn_6 3 rfl rfl)
theorem dX6_drawn_146 : decode cX6_drawn 146 = .ok (.iload 8, 2) := dk_21 8 (dk_at dksX6_drawn_6 6 rfl rfl)
theorem dX6_drawn_148 : decode cX6_drawn 148 = .ok (.iaload, 1) := dk_46 (dk_at dksX6_drawn_6 8 rfl rfl)
theorem dX6_drawn_149 : decode cX6_drawn 149 = .ok (.ifCond .eq 7, 3) := dk_153 0 7 (dk_at dksX6_drawn_6 9 rfl rfl)
theorem dX6_drawn_152 : decode cX6_drawn 152 = .ok (.iconst 1, 1) := dk_4 (dk_at dksX6_drawn_6 12 rfl rfl)
theorem dX6_drawn_153 : decode cX6_drawn 153 = .ok (.goto 4, 3) := dk_167 0 4 (dk_at dksX6_drawn_6 13 rfl rfl)
theorem dX6_drawn_156 : decode cX6_drawn 156 = .ok (.iconst 0, 1) := dk_3 (dk_at dksX6_drawn_6 16 rfl rfl)
theorem dX6_drawn_157 : decode cX6_drawn 157 = .ok (.iadd, 1) := dk_96 (dk_at dksX6_drawn_6 17 rfl rfl)
theorem dX6_drawn_158 : decode cX6_drawn 158 = .ok (.istore 6, 2) := dk_54 6 (dk_at dksX6_drawn_6 18 rfl rfl)
theorem dX6_drawn_160 : decode cX6_drawn 160 = .ok (.iinc 8 1, 3) := dk_132 8 1 (dk_at dksX6_drawn_6 20 rfl rfl)
theorem dX6_drawn_163 : decode cX6_drawn 163 = .ok (.goto (-34), 3) := dk_167 255 222 (dk_at dksX6_drawn_7 0 rfl rfl)
theorem dX6_drawn_166 : decode cX6_drawn 166 = .ok (.iinc 7 1, 3) := dk_132 7 1 (dk_at dksX6_drawn_7 3 rfl rfl)
theorem dX6_drawn_169 : decode cX6_drawn 169 = .ok (.goto (-115), 3) := dk_167 255 141 (dk_at dksX6_drawn_7 6 rfl rfl)
theorem dX6_drawn_172 : decode cX6_drawn 172 = .ok (.iload 6, 2) := dk_21 6 (dk_at dksX6_drawn_7 9 rfl rfl)
theorem dX6_drawn_174 : decode cX6_drawn 174 = .ok (.ireturn, 1) := dk_172 (dk_at dksX6_drawn_7 11 rfl rfl)
abbrev cX6_image : ByteArray := prog_21_method_75_code
def yX6_image : MethodName := ⟨RX6, "image", "(I)I"⟩
def dkwX6_image_1 : List UInt8 := [180, 0, 25, 3, 42, 180, 0, 37, 16, 52, 27, 104, 184, 0, 156, 42, 180, 0, 40, 27, 4, 84, 4, 172]
abbrev dktX6_image_1 : List UInt8 := dkwX6_image_1 ++ []
def dkwX6_image_0 : List UInt8 := [27, 3, 4, 184, 0, 68, 154, 0, 6, 18, 76, 172, 42, 182, 0, 196, 154, 0, 6, 18, 192, 172, 42]
abbrev dktX6_image_0 : List UInt8 := dkwX6_image_0 ++ dktX6_image_1
theorem dksX6_image_0 : cX6_image.data.toList.drop 0 = dktX6_image_0 := by decide +kernel
theorem dksX6_image_1 : cX6_image.data.toList.drop 23 = dktX6_image_1 := dk_seg dksX6_image_0 23 rfl rfl
theorem dX6_image_0 : decode cX6_image 0 = .ok (.iload_n 1, 1) := dk_27 (dk_at dksX6_image_0 0 rfl rfl)
theorem dX6_image_1 : decode cX6_image 1 = .ok (.iconst 0, 1) := dk_3 (dk_at dksX6_image_0 1 rfl rfl)
theorem dX6_image_2 : decode cX6_image 2 = .ok (.iconst 1, 1) := dk_4 (dk_at dksX6_image_0 2 rfl rfl)
theorem dX6_image_3 : decode cX6_image 3 = .ok (.invokestatic 68, 3) := dk_184 0 68 (dk_at dksX6_image_0 3 rfl rfl)
theorem dX6_image_6 : decode cX6_image 6 = .ok (.ifCond .ne 6, 3) := dk_154 0 6 (dk_at dksX6_image_0 6 rfl rfl)
theorem dX6_image_9 : decode cX6_image 9 = .ok (.ldc 76, 2) := dk_18 76 (dk_at dksX6_image_0 9 rfl rfl)
theorem dX6_image_11 : decode cX6_image 11 = .ok (.ireturn, 1) := dk_172 (dk_at dksX6_image_0 11 rfl rfl)
theorem dX6_image_12 : decode cX6_image 12 = .ok (.aload_n 0, 1) := dk_42 (dk_at dksX6_image_0 12 rfl rfl)
theorem dX6_image_13 : decode cX6_image 13 = .ok (.invokevirtual 196, 3) := dk_182 0 196 (dk_at dksX6_image_0 13 rfl rfl)
theorem dX6_image_16 : decode cX6_image 16 = .ok (.ifCond .ne 6, 3) := dk_154 0 6 (dk_at dksX6_image_0 16 rfl rfl)
theorem dX6_image_19 : decode cX6_image 19 = .ok (.ldc 192, 2) := dk_18 192 (dk_at dksX6_image_0 19 rfl rfl)
theorem dX6_image_21 : decode cX6_image 21 = .ok (.ireturn, 1) := dk_172 (dk_at dksX6_image_0 21 rfl rfl)
theorem dX6_image_22 : decode cX6_image 22 = .ok (.aload_n 0, 1) := dk_42 (dk_at dksX6_image_0 22 rfl rfl)
theorem dX6_image_23 : decode cX6_image 23 = .ok (.getfield 25, 3) := dk_180 0 25 (dk_at dksX6_image_1 0 rfl rfl)
theorem dX6_image_26 : decode cX6_image 26 = .ok (.iconst 0, 1) := dk_3 (dk_at dksX6_image_1 3 rfl rfl)
theorem dX6_image_27 : decode cX6_image 27 = .ok (.aload_n 0, 1) := dk_42 (dk_at dksX6_image_1 4 rfl rfl)
theorem dX6_image_28 : decode cX6_image 28 = .ok (.getfield 37, 3) := dk_180 0 37 (dk_at dksX6_image_1 5 rfl rfl)
theorem dX6_image_31 : decode cX6_image 31 = .ok (.bipush 52, 2) := dk_16 52 (dk_at dksX6_image_1 8 rfl rfl)
theorem dX6_image_33 : decode cX6_image 33 = .ok (.iload_n 1, 1) := dk_27 (dk_at dksX6_image_1 10 rfl rfl)
theorem dX6_image_34 : decode cX6_image 34 = .ok (.imul, 1) := dk_104 (dk_at dksX6_image_1 11 rfl rfl)
theorem dX6_image_35 : decode cX6_image 35 = .ok (.invokestatic 156, 3) := dk_184 0 156 (dk_at dksX6_image_1 12 rfl rfl)
theorem dX6_image_38 : decode cX6_image 38 = .ok (.aload_n 0, 1) := dk_42 (dk_at dksX6_image_1 15 rfl rfl)
theorem dX6_image_39 : decode cX6_image 39 = .ok (.getfield 40, 3) := dk_180 0 40 (dk_at dksX6_image_1 16 rfl rfl)
theorem dX6_image_42 : decode cX6_image 42 = .ok (.iload_n 1, 1) := dk_27 (dk_at dksX6_image_1 19 rfl rfl)
theorem dX6_image_43 : decode cX6_image 43 = .ok (.iconst 1, 1) := dk_4 (dk_at dksX6_image_1 20 rfl rfl)
theorem dX6_image_44 : decode cX6_image 44 = .ok (.bastore, 1) := dk_84 (dk_at dksX6_image_1 21 rfl rfl)
theorem dX6_image_45 : decode cX6_image 45 = .ok (.iconst 1, 1) := dk_4 (dk_at dksX6_image_1 22 rfl rfl)
theorem dX6_image_46 : decode cX6_image 46 = .ok (.ireturn, 1) := dk_172 (dk_at dksX6_image_1 23 rfl rfl)
abbrev cX6_restore : ByteArray := prog_21_method_76_code
def yX6_restore : MethodName := ⟨RX6, "restore", "(I)I"⟩
def dkwX6_restore_1 : List UInt8 := [42, 180, 0, 37, 16, 52, 27, 104, 42, 180, 0, 25, 3, 184, 0, 156, 42, 3, 181, 0, 160, 4, 172]
abbrev dktX6_restore_1 : List UInt8 := dkwX6_restore_1 ++ []
def dkwX6_restore_0 : List UInt8 := [27, 3, 4, 184, 0, 68, 154, 0, 6, 18, 76, 172, 42, 180, 0, 40, 27, 51, 154, 0, 6, 18, 192, 172]
abbrev dktX6_restore_0 : List UInt8 := dkwX6_restore_0 ++ dktX6_restore_1
theorem dksX6_restore_0 : cX6_restore.data.toList.drop 0 = dktX6_restore_0 := by decide +kernel
theorem dksX6_restore_1 : cX6_restore.data.toList.drop 24 = dktX6_restore_1 := dk_seg dksX6_restore_0 24 rfl rfl
theorem dX6_restore_0 : decode cX6_restore 0 = .ok (.iload_n 1, 1) := dk_27 (dk_at dksX6_restore_0 0 rfl rfl)
theorem dX6_restore_1 : decode cX6_restore 1 = .ok (.iconst 0, 1) := dk_3 (dk_at dksX6_restore_0 1 rfl rfl)
theorem dX6_restore_2 : decode cX6_restore 2 = .ok (.iconst 1, 1) := dk_4 (dk_at dksX6_restore_0 2 rfl rfl)
theorem dX6_restore_3 : decode cX6_restore 3 = .ok (.invokestatic 68, 3) := dk_184 0 68 (dk_at dksX6_restore_0 3 rfl rfl)
theorem dX6_restore_6 : decode cX6_restore 6 = .ok (.ifCond .ne 6, 3) := dk_154 0 6 (dk_at dksX6_restore_0 6 rfl rfl)
theorem dX6_restore_9 : decode cX6_restore 9 = .ok (.ldc 76, 2) := dk_18 76 (dk_at dksX6_restore_0 9 rfl rfl)
theorem dX6_restore_11 : decode cX6_restore 11 = .ok (.ireturn, 1) := dk_172 (dk_at dksX6_restore_0 11 rfl rfl)
theorem dX6_restore_12 : decode cX6_restore 12 = .ok (.aload_n 0, 1) := dk_42 (dk_at dksX6_restore_0 12 rfl rfl)
theorem dX6_restore_13 : decode cX6_restore 13 = .ok (.getfield 40, 3) := dk_180 0 40 (dk_at dksX6_restore_0 13 rfl rfl)
theorem dX6_restore_16 : decode cX6_restore 16 = .ok (.iload_n 1, 1) := dk_27 (dk_at dksX6_restore_0 16 rfl rfl)
theorem dX6_restore_17 : decode cX6_restore 17 = .ok (.baload, 1) := dk_51 (dk_at dksX6_restore_0 17 rfl rfl)
theorem dX6_restore_18 : decode cX6_restore 18 = .ok (.ifCond .ne 6, 3) := dk_154 0 6 (dk_at dksX6_restore_0 18 rfl rfl)
theorem dX6_restore_21 : decode cX6_restore 21 = .ok (.ldc 192, 2) := dk_18 192 (dk_at dksX6_restore_0 21 rfl rfl)
theorem dX6_restore_23 : decode cX6_restore 23 = .ok (.ireturn, 1) := dk_172 (dk_at dksX6_restore_0 23 rfl rfl)
theorem dX6_restore_24 : decode cX6_restore 24 = .ok (.aload_n 0, 1) := dk_42 (dk_at dksX6_restore_1 0 rfl rfl)
theorem dX6_restore_25 : decode cX6_restore 25 = .ok (.getfield 37, 3) := dk_180 0 37 (dk_at dksX6_restore_1 1 rfl rfl)
theorem dX6_restore_28 : decode cX6_restore 28 = .ok (.bipush 52, 2) := dk_16 52 (dk_at dksX6_restore_1 4 rfl rfl)
theorem dX6_restore_30 : decode cX6_restore 30 = .ok (.iload_n 1, 1) := dk_27 (dk_at dksX6_restore_1 6 rfl rfl)
theorem dX6_restore_31 : decode cX6_restore 31 = .ok (.imul, 1) := dk_104 (dk_at dksX6_restore_1 7 rfl rfl)
theorem dX6_restore_32 : decode cX6_restore 32 = .ok (.aload_n 0, 1) := dk_42 (dk_at dksX6_restore_1 8 rfl rfl)
theorem dX6_restore_33 : decode cX6_restore 33 = .ok (.getfield 25, 3) := dk_180 0 25 (dk_at dksX6_restore_1 9 rfl rfl)
theorem dX6_restore_36 : decode cX6_restore 36 = .ok (.iconst 0, 1) := dk_3 (dk_at dksX6_restore_1 12 rfl rfl)
theorem dX6_restore_37 : decode cX6_restore 37 = .ok (.invokestatic 156, 3) := dk_184 0 156 (dk_at dksX6_restore_1 13 rfl rfl)
theorem dX6_restore_40 : decode cX6_restore 40 = .ok (.aload_n 0, 1) := dk_42 (dk_at dksX6_restore_1 16 rfl rfl)
theorem dX6_restore_41 : decode cX6_restore 41 = .ok (.iconst 0, 1) := dk_3 (dk_at dksX6_restore_1 17 rfl rfl)
theorem dX6_restore_42 : decode cX6_restore 42 = .ok (.putfield 160, 3) := dk_181 0 160 (dk_at dksX6_restore_1 18 rfl rfl)
theorem dX6_restore_45 : decode cX6_restore 45 = .ok (.iconst 1, 1) := dk_4 (dk_at dksX6_restore_1 21 rfl rfl)
theorem dX6_restore_46 : decode cX6_restore 46 = .ok (.ireturn, 1) := dk_172 (dk_at dksX6_restore_1 22 rfl rfl)
abbrev cX6_kind : ByteArray := prog_21_method_79_code
def yX6_kind : MethodName := ⟨RX6, "kind", "(I)I"⟩
def dkwX6_kind_0 : List UInt8 := [42, 27, 182, 0, 186, 153, 0, 11, 42, 27, 182, 1, 8, 167, 0, 5, 18, 76, 172]
abbrev dktX6_kind_0 : List UInt8 := dkwX6_kind_0 ++ []
theorem dksX6_kind_0 : cX6_kind.data.toList.drop 0 = dktX6_kind_0 := by decide +kernel
theorem dX6_kind_0 : decode cX6_kind 0 = .ok (.aload_n 0, 1) := dk_42 (dk_at dksX6_kind_0 0 rfl rfl)
theorem dX6_kind_1 : decode cX6_kind 1 = .ok (.iload_n 1, 1) := dk_27 (dk_at dksX6_kind_0 1 rfl rfl)
theorem dX6_kind_2 : decode cX6_kind 2 = .ok (.invokevirtual 186, 3) := dk_182 0 186 (dk_at dksX6_kind_0 2 rfl rfl)
theorem dX6_kind_5 : decode cX6_kind 5 = .ok (.ifCond .eq 11, 3) := dk_153 0 11 (dk_at dksX6_kind_0 5 rfl rfl)
theorem dX6_kind_8 : decode cX6_kind 8 = .ok (.aload_n 0, 1) := dk_42 (dk_at dksX6_kind_0 8 rfl rfl)
theorem dX6_kind_9 : decode cX6_kind 9 = .ok (.iload_n 1, 1) := dk_27 (dk_at dksX6_kind_0 9 rfl rfl)
theorem dX6_kind_10 : decode cX6_kind 10 = .ok (.invokevirtual 264, 3) := dk_182 1 8 (dk_at dksX6_kind_0 10 rfl rfl)
theorem dX6_kind_13 : decode cX6_kind 13 = .ok (.goto 5, 3) := dk_167 0 5 (dk_at dksX6_kind_0 13 rfl rfl)
theorem dX6_kind_16 : decode cX6_kind 16 = .ok (.ldc 76, 2) := dk_18 76 (dk_at dksX6_kind_0 16 rfl rfl)
theorem dX6_kind_18 : decode cX6_kind 18 = .ok (.ireturn, 1) := dk_172 (dk_at dksX6_kind_0 18 rfl rfl)
abbrev cX6_kindIn : ByteArray := prog_21_method_77_code
def yX6_kindIn : MethodName := ⟨RX6, "kindIn", "(I)I"⟩
def dkwX6_kindIn_0 : List UInt8 := [42, 180, 0, 25, 7, 5, 27, 104, 96, 46, 172]
abbrev dktX6_kindIn_0 : List UInt8 := dkwX6_kindIn_0 ++ []
theorem dksX6_kindIn_0 : cX6_kindIn.data.toList.drop 0 = dktX6_kindIn_0 := by decide +kernel
theorem dX6_kindIn_0 : decode cX6_kindIn 0 = .ok (.aload_n 0, 1) := dk_42 (dk_at dksX6_kindIn_0 0 rfl rfl)
theorem dX6_kindIn_1 : decode cX6_kindIn 1 = .ok (.getfield 25, 3) := dk_180 0 25 (dk_at dksX6_kindIn_0 1 rfl rfl)
theorem dX6_kindIn_4 : decode cX6_kindIn 4 = .ok (.iconst 4, 1) := dk_7 (dk_at dksX6_kindIn_0 4 rfl rfl)
theorem dX6_kindIn_5 : decode cX6_kindIn 5 = .ok (.iconst 2, 1) := dk_5 (dk_at dksX6_kindIn_0 5 rfl rfl)
theorem dX6_kindIn_6 : decode cX6_kindIn 6 = .ok (.iload_n 1, 1) := dk_27 (dk_at dksX6_kindIn_0 6 rfl rfl)
theorem dX6_kindIn_7 : decode cX6_kindIn 7 = .ok (.imul, 1) := dk_104 (dk_at dksX6_kindIn_0 7 rfl rfl)
theorem dX6_kindIn_8 : decode cX6_kindIn 8 = .ok (.iadd, 1) := dk_96 (dk_at dksX6_kindIn_0 8 rfl rfl)
theorem dX6_kindIn_9 : decode cX6_kindIn 9 = .ok (.iaload, 1) := dk_46 (dk_at dksX6_kindIn_0 9 rfl rfl)
theorem dX6_kindIn_10 : decode cX6_kindIn 10 = .ok (.ireturn, 1) := dk_172 (dk_at dksX6_kindIn_0 10 rfl rfl)
abbrev cX6_as : ByteArray := prog_21_method_80_code
def yX6_as : MethodName := ⟨RX6, "as", "(II)I"⟩
def dkwX6_as_3 : List UInt8 := [182, 0, 81, 167, 0, 8, 42, 6, 182, 0, 77, 172]
abbrev dktX6_as_3 : List UInt8 := dkwX6_as_3 ++ []
def dkwX6_as_2 : List UInt8 := [7, 160, 0, 12, 29, 8, 160, 0, 7, 4, 167, 0, 4, 3, 54, 4, 21, 4, 153, 0, 11, 42, 27]
abbrev dktX6_as_2 : List UInt8 := dkwX6_as_2 ++ dktX6_as_3
def dkwX6_as_1 : List UInt8 := [182, 1, 8, 62, 28, 153, 0, 28, 28, 29, 159, 0, 23, 28, 4, 160, 0, 8, 29, 7, 161, 0, 13, 28]
abbrev dktX6_as_1 : List UInt8 := dkwX6_as_1 ++ dktX6_as_2
def dkwX6_as_0 : List UInt8 := [42, 27, 182, 0, 186, 153, 0, 12, 28, 3, 8, 184, 0, 68, 154, 0, 6, 18, 76, 172, 42, 27]
abbrev dktX6_as_0 : List UInt8 := dkwX6_as_0 ++ dktX6_as_1
theorem dksX6_as_0 : cX6_as.data.toList.drop 0 = dktX6_as_0 := by decide +kernel
theorem dksX6_as_1 : cX6_as.data.toList.drop 22 = dktX6_as_1 := dk_seg dksX6_as_0 22 rfl rfl
theorem dksX6_as_2 : cX6_as.data.toList.drop 46 = dktX6_as_2 := dk_seg dksX6_as_1 24 rfl rfl
theorem dksX6_as_3 : cX6_as.data.toList.drop 69 = dktX6_as_3 := dk_seg dksX6_as_2 23 rfl rfl
theorem dX6_as_0 : decode cX6_as 0 = .ok (.aload_n 0, 1) := dk_42 (dk_at dksX6_as_0 0 rfl rfl)
theorem dX6_as_1 : decode cX6_as 1 = .ok (.iload_n 1, 1) := dk_27 (dk_at dksX6_as_0 1 rfl rfl)
theorem dX6_as_2 : decode cX6_as 2 = .ok (.invokevirtual 186, 3) := dk_182 0 186 (dk_at dksX6_as_0 2 rfl rfl)
theorem dX6_as_5 : decode cX6_as 5 = .ok (.ifCond .eq 12, 3) := dk_153 0 12 (dk_at dksX6_as_0 5 rfl rfl)
theorem dX6_as_8 : decode cX6_as 8 = .ok (.iload_n 2, 1) := dk_28 (dk_at dksX6_as_0 8 rfl rfl)
theorem dX6_as_9 : decode cX6_as 9 = .ok (.iconst 0, 1) := dk_3 (dk_at dksX6_as_0 9 rfl rfl)
theorem dX6_as_10 : decode cX6_as 10 = .ok (.iconst 5, 1) := dk_8 (dk_at dksX6_as_0 10 rfl rfl)
theorem dX6_as_11 : decode cX6_as 11 = .ok (.invokestatic 68, 3) := dk_184 0 68 (dk_at dksX6_as_0 11 rfl rfl)
theorem dX6_as_14 : decode cX6_as 14 = .ok (.ifCond .ne 6, 3) := dk_154 0 6 (dk_at dksX6_as_0 14 rfl rfl)
theorem dX6_as_17 : decode cX6_as 17 = .ok (.ldc 76, 2) := dk_18 76 (dk_at dksX6_as_0 17 rfl rfl)
theorem dX6_as_19 : decode cX6_as 19 = .ok (.ireturn, 1) := dk_172 (dk_at dksX6_as_0 19 rfl rfl)
theorem dX6_as_20 : decode cX6_as 20 = .ok (.aload_n 0, 1) := dk_42 (dk_at dksX6_as_0 20 rfl rfl)
theorem dX6_as_21 : decode cX6_as 21 = .ok (.iload_n 1, 1) := dk_27 (dk_at dksX6_as_0 21 rfl rfl)
theorem dX6_as_22 : decode cX6_as 22 = .ok (.invokevirtual 264, 3) := dk_182 1 8 (dk_at dksX6_as_1 0 rfl rfl)
theorem dX6_as_25 : decode cX6_as 25 = .ok (.istore_n 3, 1) := dk_62 (dk_at dksX6_as_1 3 rfl rfl)
theorem dX6_as_26 : decode cX6_as 26 = .ok (.iload_n 2, 1) := dk_28 (dk_at dksX6_as_1 4 rfl rfl)
theorem dX6_as_27 : decode cX6_as 27 = .ok (.ifCond .eq 28, 3) := dk_153 0 28 (dk_at dksX6_as_1 5 rfl rfl)
theorem dX6_as_30 : decode cX6_as 30 = .ok (.iload_n 2, 1) := dk_28 (dk_at dksX6_as_1 8 rfl rfl)
theorem dX6_as_31 : decode cX6_as 31 = .ok (.iload_n 3, 1) := dk_29 (dk_at dksX6_as_1 9 rfl rfl)
theorem dX6_as_32 : decode cX6_as 32 = .ok (.if_icmp .eq 23, 3) := dk_159 0 23 (dk_at dksX6_as_1 10 rfl rfl)
theorem dX6_as_35 : decode cX6_as 35 = .ok (.iload_n 2, 1) := dk_28 (dk_at dksX6_as_1 13 rfl rfl)
theorem dX6_as_36 : decode cX6_as 36 = .ok (.iconst 1, 1) := dk_4 (dk_at dksX6_as_1 14 rfl rfl)
theorem dX6_as_37 : decode cX6_as 37 = .ok (.if_icmp .ne 8, 3) := dk_160 0 8 (dk_at dksX6_as_1 15 rfl rfl)
theorem dX6_as_40 : decode cX6_as 40 = .ok (.iload_n 3, 1) := dk_29 (dk_at dksX6_as_1 18 rfl rfl)
theorem dX6_as_41 : decode cX6_as 41 = .ok (.iconst 4, 1) := dk_7 (dk_at dksX6_as_1 19 rfl rfl)
theorem dX6_as_42 : decode cX6_as 42 = .ok (.if_icmp .lt 13, 3) := dk_161 0 13 (dk_at dksX6_as_1 20 rfl rfl)
theorem dX6_as_45 : decode cX6_as 45 = .ok (.iload_n 2, 1) := dk_28 (dk_at dksX6_as_1 23 rfl rfl)
theorem dX6_as_46 : decode cX6_as 46 = .ok (.iconst 4, 1) := dk_7 (dk_at dksX6_as_2 0 rfl rfl)
theorem dX6_as_47 : decode cX6_as 47 = .ok (.if_icmp .ne 12, 3) := dk_160 0 12 (dk_at dksX6_as_2 1 rfl rfl)
theorem dX6_as_50 : decode cX6_as 50 = .ok (.iload_n 3, 1) := dk_29 (dk_at dksX6_as_2 4 rfl rfl)
theorem dX6_as_51 : decode cX6_as 51 = .ok (.iconst 5, 1) := dk_8 (dk_at dksX6_as_2 5 rfl rfl)
theorem dX6_as_52 : decode cX6_as 52 = .ok (.if_icmp .ne 7, 3) := dk_160 0 7 (dk_at dksX6_as_2 6 rfl rfl)
theorem dX6_as_55 : decode cX6_as 55 = .ok (.iconst 1, 1) := dk_4 (dk_at dksX6_as_2 9 rfl rfl)
theorem dX6_as_56 : decode cX6_as 56 = .ok (.goto 4, 3) := dk_167 0 4 (dk_at dksX6_as_2 10 rfl rfl)
theorem dX6_as_59 : decode cX6_as 59 = .ok (.iconst 0, 1) := dk_3 (dk_at dksX6_as_2 13 rfl rfl)
theorem dX6_as_60 : decode cX6_as 60 = .ok (.istore 4, 2) := dk_54 4 (dk_at dksX6_as_2 14 rfl rfl)
theorem dX6_as_62 : decode cX6_as 62 = .ok (.iload 4, 2) := dk_21 4 (dk_at dksX6_as_2 16 rfl rfl)
theorem dX6_as_64 : decode cX6_as 64 = .ok (.ifCond .eq 11, 3) := dk_153 0 11 (dk_at dksX6_as_2 18 rfl rfl)
theorem dX6_as_67 : decode cX6_as 67 = .ok (.aload_n 0, 1) := dk_42 (dk_at dksX6_as_2 21 rfl rfl)
theorem dX6_as_68 : decode cX6_as 68 = .ok (.iload_n 1, 1) := dk_27 (dk_at dksX6_as_2 22 rfl rfl)
theorem dX6_as_69 : decode cX6_as 69 = .ok (.invokevirtual 81, 3) := dk_182 0 81 (dk_at dksX6_as_3 0 rfl rfl)
theorem dX6_as_72 : decode cX6_as 72 = .ok (.goto 8, 3) := dk_167 0 8 (dk_at dksX6_as_3 3 rfl rfl)
theorem dX6_as_75 : decode cX6_as 75 = .ok (.aload_n 0, 1) := dk_42 (dk_at dksX6_as_3 6 rfl rfl)
theorem dX6_as_76 : decode cX6_as 76 = .ok (.iconst 3, 1) := dk_6 (dk_at dksX6_as_3 7 rfl rfl)
theorem dX6_as_77 : decode cX6_as 77 = .ok (.invokevirtual 77, 3) := dk_182 0 77 (dk_at dksX6_as_3 8 rfl rfl)
theorem dX6_as_80 : decode cX6_as 80 = .ok (.ireturn, 1) := dk_172 (dk_at dksX6_as_3 11 rfl rfl)
abbrev cX6_ask : ByteArray := prog_21_method_86_code
def yX6_ask : MethodName := ⟨RX6, "ask", "(II)I"⟩
def dkwX6_ask_3 : List UInt8 := [182, 1, 29, 167, 0, 8, 42, 27, 182, 1, 20, 172]
abbrev dktX6_ask_3 : List UInt8 := dkwX6_ask_3 ++ []
def dkwX6_ask_2 : List UInt8 := [153, 0, 11, 42, 27, 182, 1, 23, 167, 0, 8, 42, 27, 182, 1, 26, 172, 29, 153, 0, 11, 42, 27]
abbrev dktX6_ask_2 : List UInt8 := dkwX6_ask_2 ++ dktX6_ask_3
def dkwX6_ask_1 : List UInt8 := [181, 1, 11, 42, 27, 182, 1, 8, 7, 161, 0, 7, 4, 167, 0, 4, 3, 62, 28, 154, 0, 21, 29]
abbrev dktX6_ask_1 : List UInt8 := dkwX6_ask_1 ++ dktX6_ask_2
def dkwX6_ask_0 : List UInt8 := [42, 27, 182, 0, 186, 153, 0, 12, 28, 3, 4, 184, 0, 68, 154, 0, 6, 18, 76, 172, 42, 3]
abbrev dktX6_ask_0 : List UInt8 := dkwX6_ask_0 ++ dktX6_ask_1
theorem dksX6_ask_0 : cX6_ask.data.toList.drop 0 = dktX6_ask_0 := by decide +kernel
theorem dksX6_ask_1 : cX6_ask.data.toList.drop 22 = dktX6_ask_1 := dk_seg dksX6_ask_0 22 rfl rfl
theorem dksX6_ask_2 : cX6_ask.data.toList.drop 45 = dktX6_ask_2 := dk_seg dksX6_ask_1 23 rfl rfl
theorem dksX6_ask_3 : cX6_ask.data.toList.drop 68 = dktX6_ask_3 := dk_seg dksX6_ask_2 23 rfl rfl
theorem dX6_ask_0 : decode cX6_ask 0 = .ok (.aload_n 0, 1) := dk_42 (dk_at dksX6_ask_0 0 rfl rfl)
theorem dX6_ask_1 : decode cX6_ask 1 = .ok (.iload_n 1, 1) := dk_27 (dk_at dksX6_ask_0 1 rfl rfl)
theorem dX6_ask_2 : decode cX6_ask 2 = .ok (.invokevirtual 186, 3) := dk_182 0 186 (dk_at dksX6_ask_0 2 rfl rfl)
theorem dX6_ask_5 : decode cX6_ask 5 = .ok (.ifCond .eq 12, 3) := dk_153 0 12 (dk_at dksX6_ask_0 5 rfl rfl)
theorem dX6_ask_8 : decode cX6_ask 8 = .ok (.iload_n 2, 1) := dk_28 (dk_at dksX6_ask_0 8 rfl rfl)
theorem dX6_ask_9 : decode cX6_ask 9 = .ok (.iconst 0, 1) := dk_3 (dk_at dksX6_ask_0 9 rfl rfl)
theorem dX6_ask_10 : decode cX6_ask 10 = .ok (.iconst 1, 1) := dk_4 (dk_at dksX6_ask_0 10 rfl rfl)
theorem dX6_ask_11 : decode cX6_ask 11 = .ok (.invokestatic 68, 3) := dk_184 0 68 (dk_at dksX6_ask_0 11 rfl rfl)
theorem dX6_ask_14 : decode cX6_ask 14 = .ok (.ifCond .ne 6, 3) := dk_154 0 6 (dk_at dksX6_ask_0 14 rfl rfl)
theorem dX6_ask_17 : decode cX6_ask 17 = .ok (.ldc 76, 2) := dk_18 76 (dk_at dksX6_ask_0 17 rfl rfl)
theorem dX6_ask_19 : decode cX6_ask 19 = .ok (.ireturn, 1) := dk_172 (dk_at dksX6_ask_0 19 rfl rfl)
theorem dX6_ask_20 : decode cX6_ask 20 = .ok (.aload_n 0, 1) := dk_42 (dk_at dksX6_ask_0 20 rfl rfl)
theorem dX6_ask_21 : decode cX6_ask 21 = .ok (.iconst 0, 1) := dk_3 (dk_at dksX6_ask_0 21 rfl rfl)
theorem dX6_ask_22 : decode cX6_ask 22 = .ok (.putfield 267, 3) := dk_181 1 11 (dk_at dksX6_ask_1 0 rfl rfl)
theorem dX6_ask_25 : decode cX6_ask 25 = .ok (.aload_n 0, 1) := dk_42 (dk_at dksX6_ask_1 3 rfl rfl)
theorem dX6_ask_26 : decode cX6_ask 26 = .ok (.iload_n 1, 1) := dk_27 (dk_at dksX6_ask_1 4 rfl rfl)
theorem dX6_ask_27 : decode cX6_ask 27 = .ok (.invokevirtual 264, 3) := dk_182 1 8 (dk_at dksX6_ask_1 5 rfl rfl)
theorem dX6_ask_30 : decode cX6_ask 30 = .ok (.iconst 4, 1) := dk_7 (dk_at dksX6_ask_1 8 rfl rfl)
theorem dX6_ask_31 : decode cX6_ask 31 = .ok (.if_icmp .lt 7, 3) := dk_161 0 7 (dk_at dksX6_ask_1 9 rfl rfl)
theorem dX6_ask_34 : decode cX6_ask 34 = .ok (.iconst 1, 1) := dk_4 (dk_at dksX6_ask_1 12 rfl rfl)
theorem dX6_ask_35 : decode cX6_ask 35 = .ok (.goto 4, 3) := dk_167 0 4 (dk_at dksX6_ask_1 13 rfl rfl)
theorem dX6_ask_38 : decode cX6_ask 38 = .ok (.iconst 0, 1) := dk_3 (dk_at dksX6_ask_1 16 rfl rfl)
theorem dX6_ask_39 : decode cX6_ask 39 = .ok (.istore_n 3, 1) := dk_62 (dk_at dksX6_ask_1 17 rfl rfl)
theorem dX6_ask_40 : decode cX6_ask 40 = .ok (.iload_n 2, 1) := dk_28 (dk_at dksX6_ask_1 18 rfl rfl)
theorem dX6_ask_41 : decode cX6_ask 41 = .ok (.ifCond .ne 21, 3) := dk_154 0 21 (dk_at dksX6_ask_1 19 rfl rfl)
theorem dX6_ask_44 : decode cX6_ask 44 = .ok (.iload_n 3, 1) := dk_29 (dk_at dksX6_ask_1 22 rfl rfl)
theorem dX6_ask_45 : decode cX6_ask 45 = .ok (.ifCond .eq 11, 3) := dk_153 0 11 (dk_at dksX6_ask_2 0 rfl rfl)
theorem dX6_ask_48 : decode cX6_ask 48 = .ok (.aload_n 0, 1) := dk_42 (dk_at dksX6_ask_2 3 rfl rfl)
theorem dX6_ask_49 : decode cX6_ask 49 = .ok (.iload_n 1, 1) := dk_27 (dk_at dksX6_ask_2 4 rfl rfl)
theorem dX6_ask_50 : decode cX6_ask 50 = .ok (.invokevirtual 279, 3) := dk_182 1 23 (dk_at dksX6_ask_2 5 rfl rfl)
theorem dX6_ask_53 : decode cX6_ask 53 = .ok (.goto 8, 3) := dk_167 0 8 (dk_at dksX6_ask_2 8 rfl rfl)
theorem dX6_ask_56 : decode cX6_ask 56 = .ok (.aload_n 0, 1) := dk_42 (dk_at dksX6_ask_2 11 rfl rfl)
theorem dX6_ask_57 : decode cX6_ask 57 = .ok (.iload_n 1, 1) := dk_27 (dk_at dksX6_ask_2 12 rfl rfl)
theorem dX6_ask_58 : decode cX6_ask 58 = .ok (.invokevirtual 282, 3) := dk_182 1 26 (dk_at dksX6_ask_2 13 rfl rfl)
theorem dX6_ask_61 : decode cX6_ask 61 = .ok (.ireturn, 1) := dk_172 (dk_at dksX6_ask_2 16 rfl rfl)
theorem dX6_ask_62 : decode cX6_ask 62 = .ok (.iload_n 3, 1) := dk_29 (dk_at dksX6_ask_2 17 rfl rfl)
theorem dX6_ask_63 : decode cX6_ask 63 = .ok (.ifCond .eq 11, 3) := dk_153 0 11 (dk_at dksX6_ask_2 18 rfl rfl)
theorem dX6_ask_66 : decode cX6_ask 66 = .ok (.aload_n 0, 1) := dk_42 (dk_at dksX6_ask_2 21 rfl rfl)
theorem dX6_ask_67 : decode cX6_ask 67 = .ok (.iload_n 1, 1) := dk_27 (dk_at dksX6_ask_2 22 rfl rfl)
theorem dX6_ask_68 : decode cX6_ask 68 = .ok (.invokevirtual 285, 3) := dk_182 1 29 (dk_at dksX6_ask_3 0 rfl rfl)
theorem dX6_ask_71 : decode cX6_ask 71 = .ok (.goto 8, 3) := dk_167 0 8 (dk_at dksX6_ask_3 3 rfl rfl)
theorem dX6_ask_74 : decode cX6_ask 74 = .ok (.aload_n 0, 1) := dk_42 (dk_at dksX6_ask_3 6 rfl rfl)
theorem dX6_ask_75 : decode cX6_ask 75 = .ok (.iload_n 1, 1) := dk_27 (dk_at dksX6_ask_3 7 rfl rfl)
theorem dX6_ask_76 : decode cX6_ask 76 = .ok (.invokevirtual 276, 3) := dk_182 1 20 (dk_at dksX6_ask_3 8 rfl rfl)
theorem dX6_ask_79 : decode cX6_ask 79 = .ok (.ireturn, 1) := dk_172 (dk_at dksX6_ask_3 11 rfl rfl)
abbrev cX6_wardSize : ByteArray := prog_21_method_83_code
def yX6_wardSize : MethodName := ⟨RX6, "wardSize", "(I)I"⟩
def dkwX6_wardSize_2 : List UInt8 := [184, 0, 241, 16, 100, 100, 62, 28, 153, 0, 9, 5, 29, 104, 167, 0, 4, 29, 172]
abbrev dktX6_wardSize_2 : List UInt8 := dkwX6_wardSize_2 ++ []
def dkwX6_wardSize_1 : List UInt8 := [182, 1, 14, 42, 16, 13, 182, 1, 14, 42, 16, 10, 182, 1, 14, 42, 42, 180, 0, 25, 27, 182, 0, 199]
abbrev dktX6_wardSize_1 : List UInt8 := dkwX6_wardSize_1 ++ dktX6_wardSize_2
def dkwX6_wardSize_0 : List UInt8 := [42, 27, 182, 1, 8, 8, 160, 0, 7, 4, 167, 0, 4, 3, 61, 28, 153, 0, 9, 42, 16, 14]
abbrev dktX6_wardSize_0 : List UInt8 := dkwX6_wardSize_0 ++ dktX6_wardSize_1
theorem dksX6_wardSize_0 : cX6_wardSize.data.toList.drop 0 = dktX6_wardSize_0 := by decide +kernel
theorem dksX6_wardSize_1 : cX6_wardSize.data.toList.drop 22 = dktX6_wardSize_1 := dk_seg dksX6_wardSize_0 22 rfl rfl
theorem dksX6_wardSize_2 : cX6_wardSize.data.toList.drop 46 = dktX6_wardSize_2 := dk_seg dksX6_wardSize_1 24 rfl rfl
theorem dX6_wardSize_0 : decode cX6_wardSize 0 = .ok (.aload_n 0, 1) := dk_42 (dk_at dksX6_wardSize_0 0 rfl rfl)
theorem dX6_wardSize_1 : decode cX6_wardSize 1 = .ok (.iload_n 1, 1) := dk_27 (dk_at dksX6_wardSize_0 1 rfl rfl)
theorem dX6_wardSize_2 : decode cX6_wardSize 2 = .ok (.invokevirtual 264, 3) := dk_182 1 8 (dk_at dksX6_wardSize_0 2 rfl rfl)
theorem dX6_wardSize_5 : decode cX6_wardSize 5 = .ok (.iconst 5, 1) := dk_8 (dk_at dksX6_wardSize_0 5 rfl rfl)
theorem dX6_wardSize_6 : decode cX6_wardSize 6 = .ok (.if_icmp .ne 7, 3) := dk_160 0 7 (dk_at dksX6_wardSize_0 6 rfl rfl)
theorem dX6_wardSize_9 : decode cX6_wardSize 9 = .ok (.iconst 1, 1) := dk_4 (dk_at dksX6_wardSize_0 9 rfl rfl)
theorem dX6_wardSize_10 : decode cX6_wardSize 10 = .ok (.goto 4, 3) := dk_167 0 4 (dk_at dksX6_wardSize_0 10 rfl rfl)
theorem dX6_wardSize_13 : decode cX6_wardSize 13 = .ok (.iconst 0, 1) := dk_3 (dk_at dksX6_wardSize_0 13 rfl rfl)
theorem dX6_wardSize_14 : decode cX6_wardSize 14 = .ok (.istore_n 2, 1) := dk_61 (dk_at dksX6_wardSize_0 14 rfl rfl)
theorem dX6_wardSize_15 : decode cX6_wardSize 15 = .ok (.iload_n 2, 1) := dk_28 (dk_at dksX6_wardSize_0 15 rfl rfl)
theorem dX6_wardSize_16 : decode cX6_wardSize 16 = .ok (.ifCond .eq 9, 3) := dk_153 0 9 (dk_at dksX6_wardSize_0 16 rfl rfl)
theorem dX6_wardSize_19 : decode cX6_wardSize 19 = .ok (.aload_n 0, 1) := dk_42 (dk_at dksX6_wardSize_0 19 rfl rfl)
theorem dX6_wardSize_20 : decode cX6_wardSize 20 = .ok (.bipush 14, 2) := dk_16 14 (dk_at dksX6_wardSize_0 20 rfl rfl)
theorem dX6_wardSize_22 : decode cX6_wardSize 22 = .ok (.invokevirtual 270, 3) := dk_182 1 14 (dk_at dksX6_wardSize_1 0 rfl rfl)
theorem dX6_wardSize_25 : decode cX6_wardSize 25 = .ok (.aload_n 0, 1) := dk_42 (dk_at dksX6_wardSize_1 3 rfl rfl)
theorem dX6_wardSize_26 : decode cX6_wardSize 26 = .ok (.bipush 13, 2) := dk_16 13 (dk_at dksX6_wardSize_1 4 rfl rfl)
theorem dX6_wardSize_28 : decode cX6_wardSize 28 = .ok (.invokevirtual 270, 3) := dk_182 1 14 (dk_at dksX6_wardSize_1 6 rfl rfl)
theorem dX6_wardSize_31 : decode cX6_wardSize 31 = .ok (.aload_n 0, 1) := dk_42 (dk_at dksX6_wardSize_1 9 rfl rfl)
theorem dX6_wardSize_32 : decode cX6_wardSize 32 = .ok (.bipush 10, 2) := dk_16 10 (dk_at dksX6_wardSize_1 10 rfl rfl)
theorem dX6_wardSize_34 : decode cX6_wardSize 34 = .ok (.invokevirtual 270, 3) := dk_182 1 14 (dk_at dksX6_wardSize_1 12 rfl rfl)
theorem dX6_wardSize_37 : decode cX6_wardSize 37 = .ok (.aload_n 0, 1) := dk_42 (dk_at dksX6_wardSize_1 15 rfl rfl)
theorem dX6_wardSize_38 : decode cX6_wardSize 38 = .ok (.aload_n 0, 1) := dk_42 (dk_at dksX6_wardSize_1 16 rfl rfl)
theorem dX6_wardSize_39 : decode cX6_wardSize 39 = .ok (.getfield 25, 3) := dk_180 0 25 (dk_at dksX6_wardSize_1 17 rfl rfl)
theorem dX6_wardSize_42 : decode cX6_wardSize 42 = .ok (.iload_n 1, 1) := dk_27 (dk_at dksX6_wardSize_1 20 rfl rfl)
theorem dX6_wardSize_43 : decode cX6_wardSize 43 = .ok (.invokevirtual 199, 3) := dk_182 0 199 (dk_at dksX6_wardSize_1 21 rfl rfl)
theorem dX6_wardSize_46 : decode cX6_wardSize 46 = .ok (.invokestatic 241, 3) := dk_184 0 241 (dk_at dksX6_wardSize_2 0 rfl rfl)
theorem dX6_wardSize_49 : decode cX6_wardSize 49 = .ok (.bipush 100, 2) := dk_16 100 (dk_at dksX6_wardSize_2 3 rfl rfl)
theorem dX6_wardSize_51 : decode cX6_wardSize 51 = .ok (.isub, 1) := dk_100 (dk_at dksX6_wardSize_2 5 rfl rfl)
theorem dX6_wardSize_52 : decode cX6_wardSize 52 = .ok (.istore_n 3, 1) := dk_62 (dk_at dksX6_wardSize_2 6 rfl rfl)
theorem dX6_wardSize_53 : decode cX6_wardSize 53 = .ok (.iload_n 2, 1) := dk_28 (dk_at dksX6_wardSize_2 7 rfl rfl)
theorem dX6_wardSize_54 : decode cX6_wardSize 54 = .ok (.ifCond .eq 9, 3) := dk_153 0 9 (dk_at dksX6_wardSize_2 8 rfl rfl)
theorem dX6_wardSize_57 : decode cX6_wardSize 57 = .ok (.iconst 2, 1) := dk_5 (dk_at dksX6_wardSize_2 11 rfl rfl)
theorem dX6_wardSize_58 : decode cX6_wardSize 58 = .ok (.iload_n 3, 1) := dk_29 (dk_at dksX6_wardSize_2 12 rfl rfl)
theorem dX6_wardSize_59 : decode cX6_wardSize 59 = .ok (.imul, 1) := dk_104 (dk_at dksX6_wardSize_2 13 rfl rfl)
theorem dX6_wardSize_60 : decode cX6_wardSize 60 = .ok (.goto 4, 3) := dk_167 0 4 (dk_at dksX6_wardSize_2 14 rfl rfl)
theorem dX6_wardSize_63 : decode cX6_wardSize 63 = .ok (.iload_n 3, 1) := dk_29 (dk_at dksX6_wardSize_2 17 rfl rfl)
theorem dX6_wardSize_64 : decode cX6_wardSize 64 = .ok (.ireturn, 1) := dk_172 (dk_at dksX6_wardSize_2 18 rfl rfl)
abbrev cX6_begins : ByteArray := prog_21_method_81_code
def yX6_begins : MethodName := ⟨RX6, "begins", "(I)V"⟩
def dkwX6_begins_1 : List UInt8 := [4, 96, 181, 1, 11, 177]
abbrev dktX6_begins_1 : List UInt8 := dkwX6_begins_1 ++ []
def dkwX6_begins_0 : List UInt8 := [42, 180, 1, 11, 16, 16, 162, 0, 23, 42, 180, 0, 59, 42, 180, 1, 11, 27, 79, 42, 89, 180, 1, 11]
abbrev dktX6_begins_0 : List UInt8 := dkwX6_begins_0 ++ dktX6_begins_1
theorem dksX6_begins_0 : cX6_begins.data.toList.drop 0 = dktX6_begins_0 := by decide +kernel
theorem dksX6_begins_1 : cX6_begins.data.toList.drop 24 = dktX6_begins_1 := dk_seg dksX6_begins_0 24 rfl rfl
theorem dX6_begins_0 : decode cX6_begins 0 = .ok (.aload_n 0, 1) := dk_42 (dk_at dksX6_begins_0 0 rfl rfl)
theorem dX6_begins_1 : decode cX6_begins 1 = .ok (.getfield 267, 3) := dk_180 1 11 (dk_at dksX6_begins_0 1 rfl rfl)
theorem dX6_begins_4 : decode cX6_begins 4 = .ok (.bipush 16, 2) := dk_16 16 (dk_at dksX6_begins_0 4 rfl rfl)
theorem dX6_begins_6 : decode cX6_begins 6 = .ok (.if_icmp .ge 23, 3) := dk_162 0 23 (dk_at dksX6_begins_0 6 rfl rfl)
theorem dX6_begins_9 : decode cX6_begins 9 = .ok (.aload_n 0, 1) := dk_42 (dk_at dksX6_begins_0 9 rfl rfl)
theorem dX6_begins_10 : decode cX6_begins 10 = .ok (.getfield 59, 3) := dk_180 0 59 (dk_at dksX6_begins_0 10 rfl rfl)
theorem dX6_begins_13 : decode cX6_begins 13 = .ok (.aload_n 0, 1) := dk_42 (dk_at dksX6_begins_0 13 rfl rfl)
theorem dX6_begins_14 : decode cX6_begins 14 = .ok (.getfield 267, 3) := dk_180 1 11 (dk_at dksX6_begins_0 14 rfl rfl)
theorem dX6_begins_17 : decode cX6_begins 17 = .ok (.iload_n 1, 1) := dk_27 (dk_at dksX6_begins_0 17 rfl rfl)
theorem dX6_begins_18 : decode cX6_begins 18 = .ok (.iastore, 1) := dk_79 (dk_at dksX6_begins_0 18 rfl rfl)
theorem dX6_begins_19 : decode cX6_begins 19 = .ok (.aload_n 0, 1) := dk_42 (dk_at dksX6_begins_0 19 rfl rfl)
theorem dX6_begins_20 : decode cX6_begins 20 = .ok (.dup, 1) := dk_89 (dk_at dksX6_begins_0 20 rfl rfl)
theorem dX6_begins_21 : decode cX6_begins 21 = .ok (.getfield 267, 3) := dk_180 1 11 (dk_at dksX6_begins_0 21 rfl rfl)
theorem dX6_begins_24 : decode cX6_begins 24 = .ok (.iconst 1, 1) := dk_4 (dk_at dksX6_begins_1 0 rfl rfl)
theorem dX6_begins_25 : decode cX6_begins 25 = .ok (.iadd, 1) := dk_96 (dk_at dksX6_begins_1 1 rfl rfl)
theorem dX6_begins_26 : decode cX6_begins 26 = .ok (.putfield 267, 3) := dk_181 1 11 (dk_at dksX6_begins_1 2 rfl rfl)
theorem dX6_begins_29 : decode cX6_begins 29 = .ok (.return_, 1) := dk_177 (dk_at dksX6_begins_1 5 rfl rfl)
abbrev cX6_openSize : ByteArray := prog_21_method_84_code
def yX6_openSize : MethodName := ⟨RX6, "openSize", "(I)I"⟩
def dkwX6_openSize_2 : List UInt8 := [184, 0, 241, 42, 27, 182, 1, 20, 96, 62, 28, 153, 0, 8, 29, 116, 167, 0, 4, 29, 172]
abbrev dktX6_openSize_2 : List UInt8 := dkwX6_openSize_2 ++ []
def dkwX6_openSize_1 : List UInt8 := [182, 1, 14, 42, 16, 11, 182, 1, 14, 42, 16, 10, 182, 1, 14, 42, 42, 180, 0, 25, 27, 182, 0, 199]
abbrev dktX6_openSize_1 : List UInt8 := dkwX6_openSize_1 ++ dktX6_openSize_2
def dkwX6_openSize_0 : List UInt8 := [42, 27, 182, 1, 8, 5, 160, 0, 7, 4, 167, 0, 4, 3, 61, 28, 153, 0, 9, 42, 16, 12]
abbrev dktX6_openSize_0 : List UInt8 := dkwX6_openSize_0 ++ dktX6_openSize_1
theorem dksX6_openSize_0 : cX6_openSize.data.toList.drop 0 = dktX6_openSize_0 := by decide +kernel
theorem dksX6_openSize_1 : cX6_openSize.data.toList.drop 22 = dktX6_openSize_1 := dk_seg dksX6_openSize_0 22 rfl rfl
theorem dksX6_openSize_2 : cX6_openSize.data.toList.drop 46 = dktX6_openSize_2 := dk_seg dksX6_openSize_1 24 rfl rfl
theorem dX6_openSize_0 : decode cX6_openSize 0 = .ok (.aload_n 0, 1) := dk_42 (dk_at dksX6_openSize_0 0 rfl rfl)
theorem dX6_openSize_1 : decode cX6_openSize 1 = .ok (.iload_n 1, 1) := dk_27 (dk_at dksX6_openSize_0 1 rfl rfl)
theorem dX6_openSize_2 : decode cX6_openSize 2 = .ok (.invokevirtual 264, 3) := dk_182 1 8 (dk_at dksX6_openSize_0 2 rfl rfl)
theorem dX6_openSize_5 : decode cX6_openSize 5 = .ok (.iconst 2, 1) := dk_5 (dk_at dksX6_openSize_0 5 rfl rfl)
theorem dX6_openSize_6 : decode cX6_openSize 6 = .ok (.if_icmp .ne 7, 3) := dk_160 0 7 (dk_at dksX6_openSize_0 6 rfl rfl)
theorem dX6_openSize_9 : decode cX6_openSize 9 = .ok (.iconst 1, 1) := dk_4 (dk_at dksX6_openSize_0 9 rfl rfl)
theorem dX6_openSize_10 : decode cX6_openSize 10 = .ok (.goto 4, 3) := dk_167 0 4 (dk_at dksX6_openSize_0 10 rfl rfl)
theorem dX6_openSize_13 : decode cX6_openSize 13 = .ok (.iconst 0, 1) := dk_3 (dk_at dksX6_openSize_0 13 rfl rfl)
theorem dX6_openSize_14 : decode cX6_openSize 14 = .ok (.istore_n 2, 1) := dk_61 (dk_at dksX6_openSize_0 14 rfl rfl)
theorem dX6_openSize_15 : decode cX6_openSize 15 = .ok (.iload_n 2, 1) := dk_28 (dk_at dksX6_openSize_0 15 rfl rfl)
theorem dX6_openSize_16 : decode cX6_openSize 16 = .ok (.ifCond .eq 9, 3) := dk_153 0 9 (dk_at dksX6_openSize_0 16 rfl rfl)
theorem dX6_openSize_19 : decode cX6_openSize 19 = .ok (.aload_n 0, 1) := dk_42 (dk_at dksX6_openSize_0 19 rfl rfl)
theorem dX6_openSize_20 : decode cX6_openSize 20 = .ok (.bipush 12, 2) := dk_16 12 (dk_at dksX6_openSize_0 20 rfl rfl)
theorem dX6_openSize_22 : decode cX6_openSize 22 = .ok (.invokevirtual 270, 3) := dk_182 1 14 (dk_at dksX6_openSize_1 0 rfl rfl)
theorem dX6_openSize_25 : decode cX6_openSize 25 = .ok (.aload_n 0, 1) := dk_42 (dk_at dksX6_openSize_1 3 rfl rfl)
theorem dX6_openSize_26 : decode cX6_openSize 26 = .ok (.bipush 11, 2) := dk_16 11 (dk_at dksX6_openSize_1 4 rfl rfl)
theorem dX6_openSize_28 : decode cX6_openSize 28 = .ok (.invokevirtual 270, 3) := dk_182 1 14 (dk_at dksX6_openSize_1 6 rfl rfl)
theorem dX6_openSize_31 : decode cX6_openSize 31 = .ok (.aload_n 0, 1) := dk_42 (dk_at dksX6_openSize_1 9 rfl rfl)
theorem dX6_openSize_32 : decode cX6_openSize 32 = .ok (.bipush 10, 2) := dk_16 10 (dk_at dksX6_openSize_1 10 rfl rfl)
theorem dX6_openSize_34 : decode cX6_openSize 34 = .ok (.invokevirtual 270, 3) := dk_182 1 14 (dk_at dksX6_openSize_1 12 rfl rfl)
theorem dX6_openSize_37 : decode cX6_openSize 37 = .ok (.aload_n 0, 1) := dk_42 (dk_at dksX6_openSize_1 15 rfl rfl)
theorem dX6_openSize_38 : decode cX6_openSize 38 = .ok (.aload_n 0, 1) := dk_42 (dk_at dksX6_openSize_1 16 rfl rfl)
theorem dX6_openSize_39 : decode cX6_openSize 39 = .ok (.getfield 25, 3) := dk_180 0 25 (dk_at dksX6_openSize_1 17 rfl rfl)
theorem dX6_openSize_42 : decode cX6_openSize 42 = .ok (.iload_n 1, 1) := dk_27 (dk_at dksX6_openSize_1 20 rfl rfl)
theorem dX6_openSize_43 : decode cX6_openSize 43 = .ok (.invokevirtual 199, 3) := dk_182 0 199 (dk_at dksX6_openSize_1 21 rfl rfl)
theorem dX6_openSize_46 : decode cX6_openSize 46 = .ok (.invokestatic 241, 3) := dk_184 0 241 (dk_at dksX6_openSize_2 0 rfl rfl)
theorem dX6_openSize_49 : decode cX6_openSize 49 = .ok (.aload_n 0, 1) := dk_42 (dk_at dksX6_openSize_2 3 rfl rfl)
theorem dX6_openSize_50 : decode cX6_openSize 50 = .ok (.iload_n 1, 1) := dk_27 (dk_at dksX6_openSize_2 4 rfl rfl)
theorem dX6_openSize_51 : decode cX6_openSize 51 = .ok (.invokevirtual 276, 3) := dk_182 1 20 (dk_at dksX6_openSize_2 5 rfl rfl)
theorem dX6_openSize_54 : decode cX6_openSize 54 = .ok (.iadd, 1) := dk_96 (dk_at dksX6_openSize_2 8 rfl rfl)
theorem dX6_openSize_55 : decode cX6_openSize 55 = .ok (.istore_n 3, 1) := dk_62 (dk_at dksX6_openSize_2 9 rfl rfl)
theorem dX6_openSize_56 : decode cX6_openSize 56 = .ok (.iload_n 2, 1) := dk_28 (dk_at dksX6_openSize_2 10 rfl rfl)
theorem dX6_openSize_57 : decode cX6_openSize 57 = .ok (.ifCond .eq 8, 3) := dk_153 0 8 (dk_at dksX6_openSize_2 11 rfl rfl)
theorem dX6_openSize_60 : decode cX6_openSize 60 = .ok (.iload_n 3, 1) := dk_29 (dk_at dksX6_openSize_2 14 rfl rfl)
theorem dX6_openSize_61 : decode cX6_openSize 61 = .ok (.ineg, 1) := dk_116 (dk_at dksX6_openSize_2 15 rfl rfl)
theorem dX6_openSize_62 : decode cX6_openSize 62 = .ok (.goto 4, 3) := dk_167 0 4 (dk_at dksX6_openSize_2 16 rfl rfl)
theorem dX6_openSize_65 : decode cX6_openSize 65 = .ok (.iload_n 3, 1) := dk_29 (dk_at dksX6_openSize_2 19 rfl rfl)
theorem dX6_openSize_66 : decode cX6_openSize 66 = .ok (.ireturn, 1) := dk_172 (dk_at dksX6_openSize_2 20 rfl rfl)
abbrev cX6_openMark : ByteArray := prog_21_method_82_code
def yX6_openMark : MethodName := ⟨RX6, "openMark", "(I)I"⟩
def dkwX6_openMark_3 : List UInt8 := [172]
abbrev dktX6_openMark_3 : List UInt8 := dkwX6_openMark_3 ++ []
def dkwX6_openMark_2 : List UInt8 := [5, 160, 0, 9, 5, 29, 104, 167, 0, 17, 28, 6, 160, 0, 11, 29, 17, 3, 232, 100, 167, 0, 4, 29]
abbrev dktX6_openMark_2 : List UInt8 := dkwX6_openMark_2 ++ dktX6_openMark_3
def dkwX6_openMark_1 : List UInt8 := [182, 1, 14, 42, 16, 21, 182, 1, 14, 42, 16, 20, 182, 1, 14, 27, 42, 27, 182, 1, 17, 96, 62, 28]
abbrev dktX6_openMark_1 : List UInt8 := dkwX6_openMark_1 ++ dktX6_openMark_2
def dkwX6_openMark_0 : List UInt8 := [42, 27, 182, 1, 8, 61, 28, 4, 159, 0, 19, 42, 28, 5, 160, 0, 8, 16, 24, 167, 0, 5, 16, 22]
abbrev dktX6_openMark_0 : List UInt8 := dkwX6_openMark_0 ++ dktX6_openMark_1
theorem dksX6_openMark_0 : cX6_openMark.data.toList.drop 0 = dktX6_openMark_0 := by decide +kernel
theorem dksX6_openMark_1 : cX6_openMark.data.toList.drop 24 = dktX6_openMark_1 := dk_seg dksX6_openMark_0 24 rfl rfl
theorem dksX6_openMark_2 : cX6_openMark.data.toList.drop 48 = dktX6_openMark_2 := dk_seg dksX6_openMark_1 24 rfl rfl
theorem dksX6_openMark_3 : cX6_openMark.data.toList.drop 72 = dktX6_openMark_3 := dk_seg dksX6_openMark_2 24 rfl rfl
theorem dX6_openMark_0 : decode cX6_openMark 0 = .ok (.aload_n 0, 1) := dk_42 (dk_at dksX6_openMark_0 0 rfl rfl)
theorem dX6_openMark_1 : decode cX6_openMark 1 = .ok (.iload_n 1, 1) := dk_27 (dk_at dksX6_openMark_0 1 rfl rfl)
theorem dX6_openMark_2 : decode cX6_openMark 2 = .ok (.invokevirtual 264, 3) := dk_182 1 8 (dk_at dksX6_openMark_0 2 rfl rfl)
theorem dX6_openMark_5 : decode cX6_openMark 5 = .ok (.istore_n 2, 1) := dk_61 (dk_at dksX6_openMark_0 5 rfl rfl)
theorem dX6_openMark_6 : decode cX6_openMark 6 = .ok (.iload_n 2, 1) := dk_28 (dk_at dksX6_openMark_0 6 rfl rfl)
theorem dX6_openMark_7 : decode cX6_openMark 7 = .ok (.iconst 1, 1) := dk_4 (dk_at dksX6_openMark_0 7 rfl rfl)
theorem dX6_openMark_8 : decode cX6_openMark 8 = .ok (.if_icmp .eq 19, 3) := dk_159 0 19 (dk_at dksX6_openMark_0 8 rfl rfl)
theorem dX6_openMark_11 : decode cX6_openMark 11 = .ok (.aload_n 0, 1) := dk_42 (dk_at dksX6_openMark_0 11 rfl rfl)
theorem dX6_openMark_12 : decode cX6_openMark 12 = .ok (.iload_n 2, 1) := dk_28 (dk_at dksX6_openMark_0 12 rfl rfl)
theorem dX6_openMark_13 : decode cX6_openMark 13 = .ok (.iconst 2, 1) := dk_5 (dk_at dksX6_openMark_0 13 rfl rfl)
theorem dX6_openMark_14 : decode cX6_openMark 14 = .ok (.if_icmp .ne 8, 3) := dk_160 0 8 (dk_at dksX6_openMark_0 14 rfl rfl)
theorem dX6_openMark_17 : decode cX6_openMark 17 = .ok (.bipush 24, 2) := dk_16 24 (dk_at dksX6_openMark_0 17 rfl rfl)
theorem dX6_openMark_19 : decode cX6_openMark 19 = .ok (.goto 5, 3) := dk_167 0 5 (dk_at dksX6_openMark_0 19 rfl rfl)
theorem dX6_openMark_22 : decode cX6_openMark 22 = .ok (.bipush 22, 2) := dk_16 22 (dk_at dksX6_openMark_0 22 rfl rfl)
theorem dX6_openMark_24 : decode cX6_openMark 24 = .ok (.invokevirtual 270, 3) := dk_182 1 14 (dk_at dksX6_openMark_1 0 rfl rfl)
theorem dX6_openMark_27 : decode cX6_openMark 27 = .ok (.aload_n 0, 1) := dk_42 (dk_at dksX6_openMark_1 3 rfl rfl)
theorem dX6_openMark_28 : decode cX6_openMark 28 = .ok (.bipush 21, 2) := dk_16 21 (dk_at dksX6_openMark_1 4 rfl rfl)
theorem dX6_openMark_30 : decode cX6_openMark 30 = .ok (.invokevirtual 270, 3) := dk_182 1 14 (dk_at dksX6_openMark_1 6 rfl rfl)
theorem dX6_openMark_33 : decode cX6_openMark 33 = .ok (.aload_n 0, 1) := dk_42 (dk_at dksX6_openMark_1 9 rfl rfl)
theorem dX6_openMark_34 : decode cX6_openMark 34 = .ok (.bipush 20, 2) := dk_16 20 (dk_at dksX6_openMark_1 10 rfl rfl)
theorem dX6_openMark_36 : decode cX6_openMark 36 = .ok (.invokevirtual 270, 3) := dk_182 1 14 (dk_at dksX6_openMark_1 12 rfl rfl)
theorem dX6_openMark_39 : decode cX6_openMark 39 = .ok (.iload_n 1, 1) := dk_27 (dk_at dksX6_openMark_1 15 rfl rfl)
theorem dX6_openMark_40 : decode cX6_openMark 40 = .ok (.aload_n 0, 1) := dk_42 (dk_at dksX6_openMark_1 16 rfl rfl)
theorem dX6_openMark_41 : decode cX6_openMark 41 = .ok (.iload_n 1, 1) := dk_27 (dk_at dksX6_openMark_1 17 rfl rfl)
theorem dX6_openMark_42 : decode cX6_openMark 42 = .ok (.invokevirtual 273, 3) := dk_182 1 17 (dk_at dksX6_openMark_1 18 rfl rfl)
theorem dX6_openMark_45 : decode cX6_openMark 45 = .ok (.iadd, 1) := dk_96 (dk_at dksX6_openMark_1 21 rfl rfl)
theorem dX6_openMark_46 : decode cX6_openMark 46 = .ok (.istore_n 3, 1) := dk_62 (dk_at dksX6_openMark_1 22 rfl rfl)
theorem dX6_openMark_47 : decode cX6_openMark 47 = .ok (.iload_n 2, 1) := dk_28 (dk_at dksX6_openMark_1 23 rfl rfl)
theorem dX6_openMark_48 : decode cX6_openMark 48 = .ok (.iconst 2, 1) := dk_5 (dk_at dksX6_openMark_2 0 rfl rfl)
theorem dX6_openMark_49 : decode cX6_openMark 49 = .ok (.if_icmp .ne 9, 3) := dk_160 0 9 (dk_at dksX6_openMark_2 1 rfl rfl)
theorem dX6_openMark_52 : decode cX6_openMark 52 = .ok (.iconst 2, 1) := dk_5 (dk_at dksX6_openMark_2 4 rfl rfl)
theorem dX6_openMark_53 : decode cX6_openMark 53 = .ok (.iload_n 3, 1) := dk_29 (dk_at dksX6_openMark_2 5 rfl rfl)
theorem dX6_openMark_54 : decode cX6_openMark 54 = .ok (.imul, 1) := dk_104 (dk_at dksX6_openMark_2 6 rfl rfl)
theorem dX6_openMark_55 : decode cX6_openMark 55 = .ok (.goto 17, 3) := dk_167 0 17 (dk_at dksX6_openMark_2 7 rfl rfl)
theorem dX6_openMark_58 : decode cX6_openMark 58 = .ok (.iload_n 2, 1) := dk_28 (dk_at dksX6_openMark_2 10 rfl rfl)
theorem dX6_openMark_59 : decode cX6_openMark 59 = .ok (.iconst 3, 1) := dk_6 (dk_at dksX6_openMark_2 11 rfl rfl)
theorem dX6_openMark_60 : decode cX6_openMark 60 = .ok (.if_icmp .ne 11, 3) := dk_160 0 11 (dk_at dksX6_openMark_2 12 rfl rfl)
theorem dX6_openMark_63 : decode cX6_openMark 63 = .ok (.iload_n 3, 1) := dk_29 (dk_at dksX6_openMark_2 15 rfl rfl)
theorem dX6_openMark_64 : decode cX6_openMark 64 = .ok (.sipush 1000, 3) := dk_17 3 232 (dk_at dksX6_openMark_2 16 rfl rfl)
theorem dX6_openMark_67 : decode cX6_openMark 67 = .ok (.isub, 1) := dk_100 (dk_at dksX6_openMark_2 19 rfl rfl)
theorem dX6_openMark_68 : decode cX6_openMark 68 = .ok (.goto 4, 3) := dk_167 0 4 (dk_at dksX6_openMark_2 20 rfl rfl)
theorem dX6_openMark_71 : decode cX6_openMark 71 = .ok (.iload_n 3, 1) := dk_29 (dk_at dksX6_openMark_2 23 rfl rfl)
theorem dX6_openMark_72 : decode cX6_openMark 72 = .ok (.ireturn, 1) := dk_172 (dk_at dksX6_openMark_3 0 rfl rfl)
abbrev cX6_illOf : ByteArray := prog_21_method_78_code
def yX6_illOf : MethodName := ⟨RX6, "illOf", "(I)I"⟩
def dkwX6_illOf_0 : List UInt8 := [42, 180, 0, 25, 7, 5, 27, 104, 96, 4, 96, 46, 61, 28, 156, 0, 7, 3, 167, 0, 4, 28, 172]
abbrev dktX6_illOf_0 : List UInt8 := dkwX6_illOf_0 ++ []
theorem dksX6_illOf_0 : cX6_illOf.data.toList.drop 0 = dktX6_illOf_0 := by decide +kernel
theorem dX6_illOf_0 : decode cX6_illOf 0 = .ok (.aload_n 0, 1) := dk_42 (dk_at dksX6_illOf_0 0 rfl rfl)
theorem dX6_illOf_1 : decode cX6_illOf 1 = .ok (.getfield 25, 3) := dk_180 0 25 (dk_at dksX6_illOf_0 1 rfl rfl)
theorem dX6_illOf_4 : decode cX6_illOf 4 = .ok (.iconst 4, 1) := dk_7 (dk_at dksX6_illOf_0 4 rfl rfl)
theorem dX6_illOf_5 : decode cX6_illOf 5 = .ok (.iconst 2, 1) := dk_5 (dk_at dksX6_illOf_0 5 rfl rfl)
theorem dX6_illOf_6 : decode cX6_illOf 6 = .ok (.iload_n 1, 1) := dk_27 (dk_at dksX6_illOf_0 6 rfl rfl)
theorem dX6_illOf_7 : decode cX6_illOf 7 = .ok (.imul, 1) := dk_104 (dk_at dksX6_illOf_0 7 rfl rfl)
theorem dX6_illOf_8 : decode cX6_illOf 8 = .ok (.iadd, 1) := dk_96 (dk_at dksX6_illOf_0 8 rfl rfl)
theorem dX6_illOf_9 : decode cX6_illOf 9 = .ok (.iconst 1, 1) := dk_4 (dk_at dksX6_illOf_0 9 rfl rfl)
theorem dX6_illOf_10 : decode cX6_illOf 10 = .ok (.iadd, 1) := dk_96 (dk_at dksX6_illOf_0 10 rfl rfl)
theorem dX6_illOf_11 : decode cX6_illOf 11 = .ok (.iaload, 1) := dk_46 (dk_at dksX6_illOf_0 11 rfl rfl)
theorem dX6_illOf_12 : decode cX6_illOf 12 = .ok (.istore_n 2, 1) := dk_61 (dk_at dksX6_illOf_0 12 rfl rfl)
theorem dX6_illOf_13 : decode cX6_illOf 13 = .ok (.iload_n 2, 1) := dk_28 (dk_at dksX6_illOf_0 13 rfl rfl)
theorem dX6_illOf_14 : decode cX6_illOf 14 = .ok (.ifCond .ge 7, 3) := dk_156 0 7 (dk_at dksX6_illOf_0 14 rfl rfl)
theorem dX6_illOf_17 : decode cX6_illOf 17 = .ok (.iconst 0, 1) := dk_3 (dk_at dksX6_illOf_0 17 rfl rfl)
theorem dX6_illOf_18 : decode cX6_illOf 18 = .ok (.goto 4, 3) := dk_167 0 4 (dk_at dksX6_illOf_0 18 rfl rfl)
theorem dX6_illOf_21 : decode cX6_illOf 21 = .ok (.iload_n 2, 1) := dk_28 (dk_at dksX6_illOf_0 21 rfl rfl)
theorem dX6_illOf_22 : decode cX6_illOf 22 = .ok (.ireturn, 1) := dk_172 (dk_at dksX6_illOf_0 22 rfl rfl)
abbrev cX6_wardMark : ByteArray := prog_21_method_85_code
def yX6_wardMark : MethodName := ⟨RX6, "wardMark", "(I)I"⟩
def dkwX6_wardMark_0 : List UInt8 := [42, 16, 23, 182, 1, 14, 42, 16, 20, 182, 1, 14, 27, 42, 27, 182, 1, 23, 100, 172]
abbrev dktX6_wardMark_0 : List UInt8 := dkwX6_wardMark_0 ++ []
theorem dksX6_wardMark_0 : cX6_wardMark.data.toList.drop 0 = dktX6_wardMark_0 := by decide +kernel
theorem dX6_wardMark_0 : decode cX6_wardMark 0 = .ok (.aload_n 0, 1) := dk_42 (dk_at dksX6_wardMark_0 0 rfl rfl)
theorem dX6_wardMark_1 : decode cX6_wardMark 1 = .ok (.bipush 23, 2) := dk_16 23 (dk_at dksX6_wardMark_0 1 rfl rfl)
theorem dX6_wardMark_3 : decode cX6_wardMark 3 = .ok (.invokevirtual 270, 3) := dk_182 1 14 (dk_at dksX6_wardMark_0 3 rfl rfl)
theorem dX6_wardMark_6 : decode cX6_wardMark 6 = .ok (.aload_n 0, 1) := dk_42 (dk_at dksX6_wardMark_0 6 rfl rfl)
theorem dX6_wardMark_7 : decode cX6_wardMark 7 = .ok (.bipush 20, 2) := dk_16 20 (dk_at dksX6_wardMark_0 7 rfl rfl)
theorem dX6_wardMark_9 : decode cX6_wardMark 9 = .ok (.invokevirtual 270, 3) := dk_182 1 14 (dk_at dksX6_wardMark_0 9 rfl rfl)
theorem dX6_wardMark_12 : decode cX6_wardMark 12 = .ok (.iload_n 1, 1) := dk_27 (dk_at dksX6_wardMark_0 12 rfl rfl)
theorem dX6_wardMark_13 : decode cX6_wardMark 13 = .ok (.aload_n 0, 1) := dk_42 (dk_at dksX6_wardMark_0 13 rfl rfl)
theorem dX6_wardMark_14 : decode cX6_wardMark 14 = .ok (.iload_n 1, 1) := dk_27 (dk_at dksX6_wardMark_0 14 rfl rfl)
theorem dX6_wardMark_15 : decode cX6_wardMark 15 = .ok (.invokevirtual 279, 3) := dk_182 1 23 (dk_at dksX6_wardMark_0 15 rfl rfl)
theorem dX6_wardMark_18 : decode cX6_wardMark 18 = .ok (.isub, 1) := dk_100 (dk_at dksX6_wardMark_0 18 rfl rfl)
theorem dX6_wardMark_19 : decode cX6_wardMark 19 = .ok (.ireturn, 1) := dk_172 (dk_at dksX6_wardMark_0 19 rfl rfl)
abbrev cX6_trace : ByteArray := prog_21_method_87_code
def yX6_trace : MethodName := ⟨RX6, "trace", "(I)I"⟩
def dkwX6_trace_1 : List UInt8 := [18, 62, 172]
abbrev dktX6_trace_1 : List UInt8 := dkwX6_trace_1 ++ []
def dkwX6_trace_0 : List UInt8 := [27, 3, 42, 180, 1, 11, 4, 100, 184, 0, 68, 153, 0, 12, 42, 180, 0, 59, 27, 46, 167, 0, 5]
abbrev dktX6_trace_0 : List UInt8 := dkwX6_trace_0 ++ dktX6_trace_1
theorem dksX6_trace_0 : cX6_trace.data.toList.drop 0 = dktX6_trace_0 := by decide +kernel
theorem dksX6_trace_1 : cX6_trace.data.toList.drop 23 = dktX6_trace_1 := dk_seg dksX6_trace_0 23 rfl rfl
theorem dX6_trace_0 : decode cX6_trace 0 = .ok (.iload_n 1, 1) := dk_27 (dk_at dksX6_trace_0 0 rfl rfl)
theorem dX6_trace_1 : decode cX6_trace 1 = .ok (.iconst 0, 1) := dk_3 (dk_at dksX6_trace_0 1 rfl rfl)
theorem dX6_trace_2 : decode cX6_trace 2 = .ok (.aload_n 0, 1) := dk_42 (dk_at dksX6_trace_0 2 rfl rfl)
theorem dX6_trace_3 : decode cX6_trace 3 = .ok (.getfield 267, 3) := dk_180 1 11 (dk_at dksX6_trace_0 3 rfl rfl)
theorem dX6_trace_6 : decode cX6_trace 6 = .ok (.iconst 1, 1) := dk_4 (dk_at dksX6_trace_0 6 rfl rfl)
theorem dX6_trace_7 : decode cX6_trace 7 = .ok (.isub, 1) := dk_100 (dk_at dksX6_trace_0 7 rfl rfl)
theorem dX6_trace_8 : decode cX6_trace 8 = .ok (.invokestatic 68, 3) := dk_184 0 68 (dk_at dksX6_trace_0 8 rfl rfl)
theorem dX6_trace_11 : decode cX6_trace 11 = .ok (.ifCond .eq 12, 3) := dk_153 0 12 (dk_at dksX6_trace_0 11 rfl rfl)
theorem dX6_trace_14 : decode cX6_trace 14 = .ok (.aload_n 0, 1) := dk_42 (dk_at dksX6_trace_0 14 rfl rfl)
theorem dX6_trace_15 : decode cX6_trace 15 = .ok (.getfield 59, 3) := dk_180 0 59 (dk_at dksX6_trace_0 15 rfl rfl)
theorem dX6_trace_18 : decode cX6_trace 18 = .ok (.iload_n 1, 1) := dk_27 (dk_at dksX6_trace_0 18 rfl rfl)
theorem dX6_trace_19 : decode cX6_trace 19 = .ok (.iaload, 1) := dk_46 (dk_at dksX6_trace_0 19 rfl rfl)
theorem dX6_trace_20 : decode cX6_trace 20 = .ok (.goto 5, 3) := dk_167 0 5 (dk_at dksX6_trace_0 20 rfl rfl)
theorem dX6_trace_23 : decode cX6_trace 23 = .ok (.ldc 62, 2) := dk_18 62 (dk_at dksX6_trace_1 0 rfl rfl)
theorem dX6_trace_25 : decode cX6_trace 25 = .ok (.ireturn, 1) := dk_172 (dk_at dksX6_trace_1 2 rfl rfl)
abbrev cX6_count : ByteArray := prog_21_method_88_code
def yX6_count : MethodName := ⟨RX6, "count", "(I)I"⟩
def dkwX6_count_6 : List UInt8 := [172, 42, 180, 0, 25, 6, 46, 172, 42, 180, 0, 160, 172, 42, 180, 0, 94, 172, 18, 76, 172]
abbrev dktX6_count_6 : List UInt8 := dkwX6_count_6 ++ []
def dkwX6_count_5 : List UInt8 := [156, 0, 7, 3, 167, 0, 4, 4, 96, 61, 132, 3, 1, 167, 255, 220, 28, 172, 42, 180, 0, 25, 5, 46]
abbrev dktX6_count_5 : List UInt8 := dkwX6_count_5 ++ dktX6_count_6
def dkwX6_count_4 : List UInt8 := [29, 42, 180, 0, 25, 3, 46, 162, 0, 32, 28, 42, 180, 0, 25, 7, 5, 29, 104, 96, 4, 96, 46]
abbrev dktX6_count_4 : List UInt8 := dkwX6_count_4 ++ dktX6_count_5
def dkwX6_count_3 : List UInt8 := [132, 3, 1, 167, 255, 231, 28, 172, 42, 180, 0, 25, 3, 46, 172, 42, 180, 0, 25, 4, 46, 172, 3, 62]
abbrev dktX6_count_3 : List UInt8 := dkwX6_count_3 ++ dktX6_count_4
def dkwX6_count_2 : List UInt8 := [3, 62, 29, 16, 8, 162, 0, 25, 28, 42, 29, 182, 0, 84, 153, 0, 7, 3, 167, 0, 4, 4, 96, 61]
abbrev dktX6_count_2 : List UInt8 := dkwX6_count_2 ++ dktX6_count_3
def dkwX6_count_1 : List UInt8 := [170, 0, 0, 0, 158, 0, 0, 0, 0, 0, 0, 0, 7, 0, 0, 0, 45, 0, 0, 0, 77, 0, 0, 0, 84, 0, 0, 0, 91, 0, 0, 0, 134, 0, 0, 0, 141, 0, 0, 0, 148, 0, 0, 0, 153]
abbrev dktX6_count_1 : List UInt8 := dkwX6_count_1 ++ dktX6_count_2
def dkwX6_count_0 : List UInt8 := [3, 61, 27]
abbrev dktX6_count_0 : List UInt8 := dkwX6_count_0 ++ dktX6_count_1
theorem dksX6_count_0 : cX6_count.data.toList.drop 0 = dktX6_count_0 := by decide +kernel
theorem dksX6_count_1 : cX6_count.data.toList.drop 3 = dktX6_count_1 := dk_seg dksX6_count_0 3 rfl rfl
theorem dksX6_count_2 : cX6_count.data.toList.drop 48 = dktX6_count_2 := dk_seg dksX6_count_1 45 rfl rfl
theorem dksX6_count_3 : cX6_count.data.toList.drop 72 = dktX6_count_3 := dk_seg dksX6_count_2 24 rfl rfl
theorem dksX6_count_4 : cX6_count.data.toList.drop 96 = dktX6_count_4 := dk_seg dksX6_count_3 24 rfl rfl
theorem dksX6_count_5 : cX6_count.data.toList.drop 119 = dktX6_count_5 := dk_seg dksX6_count_4 23 rfl rfl
theorem dksX6_count_6 : cX6_count.data.toList.drop 143 = dktX6_count_6 := dk_seg dksX6_count_5 24 rfl rfl
theorem dX6_count_0 : decode cX6_count 0 = .ok (.iconst 0, 1) := dk_3 (dk_at dksX6_count_0 0 rfl rfl)
theorem dX6_count_1 : decode cX6_count 1 = .ok (.istore_n 2, 1) := dk_61 (dk_at dksX6_count_0 1 rfl rfl)
theorem dX6_count_2 : decode cX6_count 2 = .ok (.iload_n 1, 1) := dk_27 (dk_at dksX6_count_0 2 rfl rfl)
theorem dX6_count_3 : decode cX6_count 3 = .ok (.tableswitch 158 0 7 #[45, 77, 84, 91, 134, 141, 148, 153], 45) := by decide +kernel
theorem dX6_count_48 : decode cX6_count 48 = .ok (.iconst 0, 1) := dk_3 (dk_at dksX6_count_2 0 rfl rfl)
theorem dX6_count_49 : decode cX6_count 49 = .ok (.istore_n 3, 1) := dk_62 (dk_at dksX6_count_2 1 rfl rfl)
theorem dX6_count_50 : decode cX6_count 50 = .ok (.iload_n 3, 1) := dk_29 (dk_at dksX6_count_2 2 rfl rfl)
theorem dX6_count_51 : decode cX6_count 51 = .ok (.bipush 8, 2) := dk_16 8 (dk_at dksX6_count_2 3 rfl rfl)
theorem dX6_count_53 : decode cX6_count 53 = .ok (.if_icmp .ge 25, 3) := dk_162 0 25 (dk_at dksX6_count_2 5 rfl rfl)
theorem dX6_count_56 : decode cX6_count 56 = .ok (.iload_n 2, 1) := dk_28 (dk_at dksX6_count_2 8 rfl rfl)
theorem dX6_count_57 : decode cX6_count 57 = .ok (.aload_n 0, 1) := dk_42 (dk_at dksX6_count_2 9 rfl rfl)
theorem dX6_count_58 : decode cX6_count 58 = .ok (.iload_n 3, 1) := dk_29 (dk_at dksX6_count_2 10 rfl rfl)
theorem dX6_count_59 : decode cX6_count 59 = .ok (.invokevirtual 84, 3) := dk_182 0 84 (dk_at dksX6_count_2 11 rfl rfl)
theorem dX6_count_62 : decode cX6_count 62 = .ok (.ifCond .eq 7, 3) := dk_153 0 7 (dk_at dksX6_count_2 14 rfl rfl)
theorem dX6_count_65 : decode cX6_count 65 = .ok (.iconst 0, 1) := dk_3 (dk_at dksX6_count_2 17 rfl rfl)
theorem dX6_count_66 : decode cX6_count 66 = .ok (.goto 4, 3) := dk_167 0 4 (dk_at dksX6_count_2 18 rfl rfl)
theorem dX6_count_69 : decode cX6_count 69 = .ok (.iconst 1, 1) := dk_4 (dk_at dksX6_count_2 21 rfl rfl)
theorem dX6_count_70 : decode cX6_count 70 = .ok (.iadd, 1) := dk_96 (dk_at dksX6_count_2 22 rfl rfl)
theorem dX6_count_71 : decode cX6_count 71 = .ok (.istore_n 2, 1) := dk_61 (dk_at dksX6_count_2 23 rfl rfl)
theorem dX6_count_72 : decode cX6_count 72 = .ok (.iinc 3 1, 3) := dk_132 3 1 (dk_at dksX6_count_3 0 rfl rfl)
theorem dX6_count_75 : decode cX6_count 75 = .ok (.goto (-25), 3) := dk_167 255 231 (dk_at dksX6_count_3 3 rfl rfl)
theorem dX6_count_78 : decode cX6_count 78 = .ok (.iload_n 2, 1) := dk_28 (dk_at dksX6_count_3 6 rfl rfl)
theorem dX6_count_79 : decode cX6_count 79 = .ok (.ireturn, 1) := dk_172 (dk_at dksX6_count_3 7 rfl rfl)
theorem dX6_count_80 : decode cX6_count 80 = .ok (.aload_n 0, 1) := dk_42 (dk_at dksX6_count_3 8 rfl rfl)
theorem dX6_count_81 : decode cX6_count 81 = .ok (.getfield 25, 3) := dk_180 0 25 (dk_at dksX6_count_3 9 rfl rfl)
theorem dX6_count_84 : decode cX6_count 84 = .ok (.iconst 0, 1) := dk_3 (dk_at dksX6_count_3 12 rfl rfl)
theorem dX6_count_85 : decode cX6_count 85 = .ok (.iaload, 1) := dk_46 (dk_at dksX6_count_3 13 rfl rfl)
theorem dX6_count_86 : decode cX6_count 86 = .ok (.ireturn, 1) := dk_172 (dk_at dksX6_count_3 14 rfl rfl)
theorem dX6_count_87 : decode cX6_count 87 = .ok (.aload_n 0, 1) := dk_42 (dk_at dksX6_count_3 15 rfl rfl)
theorem dX6_count_88 : decode cX6_count 88 = .ok (.getfield 25, 3) := dk_180 0 25 (dk_at dksX6_count_3 16 rfl rfl)
theorem dX6_count_91 : decode cX6_count 91 = .ok (.iconst 1, 1) := dk_4 (dk_at dksX6_count_3 19 rfl rfl)
theorem dX6_count_92 : decode cX6_count 92 = .ok (.iaload, 1) := dk_46 (dk_at dksX6_count_3 20 rfl rfl)
theorem dX6_count_93 : decode cX6_count 93 = .ok (.ireturn, 1) := dk_172 (dk_at dksX6_count_3 21 rfl rfl)
theorem dX6_count_94 : decode cX6_count 94 = .ok (.iconst 0, 1) := dk_3 (dk_at dksX6_count_3 22 rfl rfl)
theorem dX6_count_95 : decode cX6_count 95 = .ok (.istore_n 3, 1) := dk_62 (dk_at dksX6_count_3 23 rfl rfl)
theorem dX6_count_96 : decode cX6_count 96 = .ok (.iload_n 3, 1) := dk_29 (dk_at dksX6_count_4 0 rfl rfl)
theorem dX6_count_97 : decode cX6_count 97 = .ok (.aload_n 0, 1) := dk_42 (dk_at dksX6_count_4 1 rfl rfl)
theorem dX6_count_98 : decode cX6_count 98 = .ok (.getfield 25, 3) := dk_180 0 25 (dk_at dksX6_count_4 2 rfl rfl)
theorem dX6_count_101 : decode cX6_count 101 = .ok (.iconst 0, 1) := dk_3 (dk_at dksX6_count_4 5 rfl rfl)
theorem dX6_count_102 : decode cX6_count 102 = .ok (.iaload, 1) := dk_46 (dk_at dksX6_count_4 6 rfl rfl)
theorem dX6_count_103 : decode cX6_count 103 = .ok (.if_icmp .ge 32, 3) := dk_162 0 32 (dk_at dksX6_count_4 7 rfl rfl)
theorem dX6_count_106 : decode cX6_count 106 = .ok (.iload_n 2, 1) := dk_28 (dk_at dksX6_count_4 10 rfl rfl)
theorem dX6_count_107 : decode cX6_count 107 = .ok (.aload_n 0, 1) := dk_42 (dk_at dksX6_count_4 11 rfl rfl)
theorem dX6_count_108 : decode cX6_count 108 = .ok (.getfield 25, 3) := dk_180 0 25 (dk_at dksX6_count_4 12 rfl rfl)
theorem dX6_count_111 : decode cX6_count 111 = .ok (.iconst 4, 1) := dk_7 (dk_at dksX6_count_4 15 rfl rfl)
theorem dX6_count_112 : decode cX6_count 112 = .ok (.iconst 2, 1) := dk_5 (dk_at dksX6_count_4 16 rfl rfl)
theorem dX6_count_113 : decode cX6_count 113 = .ok (.iload_n 3, 1) := dk_29 (dk_at dksX6_count_4 17 rfl rfl)
theorem dX6_count_114 : decode cX6_count 114 = .ok (.imul, 1) := dk_104 (dk_at dksX6_count_4 18 rfl rfl)
theorem dX6_count_115 : decode cX6_count 115 = .ok (.iadd, 1) := dk_96 (dk_at dksX6_count_4 19 rfl rfl)
theorem dX6_count_116 : decode cX6_count 116 = .ok (.iconst 1, 1) := dk_4 (dk_at dksX6_count_4 20 rfl rfl)
theorem dX6_count_117 : decode cX6_count 117 = .ok (.iadd, 1) := dk_96 (dk_at dksX6_count_4 21 rfl rfl)
theorem dX6_count_118 : decode cX6_count 118 = .ok (.iaload, 1) := dk_46 (dk_at dksX6_count_4 22 rfl rfl)
theorem dX6_count_119 : decode cX6_count 119 = .ok (.ifCond .ge 7, 3) := dk_156 0 7 (dk_at dksX6_count_5 0 rfl rfl)
theorem dX6_count_122 : decode cX6_count 122 = .ok (.iconst 0, 1) := dk_3 (dk_at dksX6_count_5 3 rfl rfl)
theorem dX6_count_123 : decode cX6_count 123 = .ok (.goto 4, 3) := dk_167 0 4 (dk_at dksX6_count_5 4 rfl rfl)
theorem dX6_count_126 : decode cX6_count 126 = .ok (.iconst 1, 1) := dk_4 (dk_at dksX6_count_5 7 rfl rfl)
theorem dX6_count_127 : decode cX6_count 127 = .ok (.iadd, 1) := dk_96 (dk_at dksX6_count_5 8 rfl rfl)
theorem dX6_count_128 : decode cX6_count 128 = .ok (.istore_n 2, 1) := dk_61 (dk_at dksX6_count_5 9 rfl rfl)
theorem dX6_count_129 : decode cX6_count 129 = .ok (.iinc 3 1, 3) := dk_132 3 1 (dk_at dksX6_count_5 10 rfl rfl)
theorem dX6_count_132 : decode cX6_count 132 = .ok (.goto (-36), 3) := dk_167 255 220 (dk_at dksX6_count_5 13 rfl rfl)
theorem dX6_count_135 : decode cX6_count 135 = .ok (.iload_n 2, 1) := dk_28 (dk_at dksX6_count_5 16 rfl rfl)
theorem dX6_count_136 : decode cX6_count 136 = .ok (.ireturn, 1) := dk_172 (dk_at dksX6_count_5 17 rfl rfl)
theorem dX6_count_137 : decode cX6_count 137 = .ok (.aload_n 0, 1) := dk_42 (dk_at dksX6_count_5 18 rfl rfl)
theorem dX6_count_138 : decode cX6_count 138 = .ok (.getfield 25, 3) := dk_180 0 25 (dk_at dksX6_count_5 19 rfl rfl)
theorem dX6_count_141 : decode cX6_count 141 = .ok (.iconst 2, 1) := dk_5 (dk_at dksX6_count_5 22 rfl rfl)
theorem dX6_count_142 : decode cX6_count 142 = .ok (.iaload, 1) := dk_46 (dk_at dksX6_count_5 23 rfl rfl)
theorem dX6_count_143 : decode cX6_count 143 = .ok (.ireturn, 1) := dk_172 (dk_at dksX6_count_6 0 rfl rfl)
theorem dX6_count_144 : decode cX6_count 144 = .ok (.aload_n 0, 1) := dk_42 (dk_at dksX6_count_6 1 rfl rfl)
theorem dX6_count_145 : decode cX6_count 145 = .ok (.getfield 25, 3) := dk_180 0 25 (dk_at dksX6_count_6 2 rfl rfl)
theorem dX6_count_148 : decode cX6_count 148 = .ok (.iconst 3, 1) := dk_6 (dk_at dksX6_count_6 5 rfl rfl)
theorem dX6_count_149 : decode cX6_count 149 = .ok (.iaload, 1) := dk_46 (dk_at dksX6_count_6 6 rfl rfl)
theorem dX6_count_150 : decode cX6_count 150 = .ok (.ireturn, 1) := dk_172 (dk_at dksX6_count_6 7 rfl rfl)
theorem dX6_count_151 : decode cX6_count 151 = .ok (.aload_n 0, 1) := dk_42 (dk_at dksX6_count_6 8 rfl rfl)
theorem dX6_count_152 : decode cX6_count 152 = .ok (.getfield 160, 3) := dk_180 0 160 (dk_at dksX6_count_6 9 rfl rfl)
theorem dX6_count_155 : decode cX6_count 155 = .ok (.ireturn, 1) := dk_172 (dk_at dksX6_count_6 12 rfl rfl)
theorem dX6_count_156 : decode cX6_count 156 = .ok (.aload_n 0, 1) := dk_42 (dk_at dksX6_count_6 13 rfl rfl)
theorem dX6_count_157 : decode cX6_count 157 = .ok (.getfield 94, 3) := dk_180 0 94 (dk_at dksX6_count_6 14 rfl rfl)
theorem dX6_count_160 : decode cX6_count 160 = .ok (.ireturn, 1) := dk_172 (dk_at dksX6_count_6 17 rfl rfl)
theorem dX6_count_161 : decode cX6_count 161 = .ok (.ldc 76, 2) := dk_18 76 (dk_at dksX6_count_6 18 rfl rfl)
theorem dX6_count_163 : decode cX6_count 163 = .ok (.ireturn, 1) := dk_172 (dk_at dksX6_count_6 20 rfl rfl)
abbrev cX6_status : ByteArray := prog_21_method_89_code
def yX6_status : MethodName := ⟨RX6, "status", "()I"⟩
theorem dX6_status_0 : decode cX6_status 0 = .ok (.aload_n 0, 1) := by decide +kernel
theorem dX6_status_1 : decode cX6_status 1 = .ok (.getfield 63, 3) := by decide +kernel
theorem dX6_status_4 : decode cX6_status 4 = .ok (.ireturn, 1) := by decide +kernel
theorem q83 : (Jvm.Cond.initialized "DatedContactsModel") ∈ lw_all := lw_g (lw_at lw_m1 7 rfl) rfl
theorem q1609 : (Jvm.Cond.instantiable "DatedContactsModel" (29 : Nat)) ∈ lw_all := lw_g (lw_at lw_m7 93 rfl) rfl
theorem q1611 : (Jvm.Cond.instanceMethod ({ cls := "DatedContactsModel", name := "<init>", desc := "()V" } : Jvm.MethodName)) ∈ lw_all := lw_g (lw_at lw_m7 95 rfl) rfl
theorem q1612 : (Jvm.Cond.code ({ cls := "DatedContactsModel", name := "<init>", desc := "()V" } : Jvm.MethodName) prog_21_method_1_code (2 : Nat) (Option.none : Option Jvm.ClassFile.FieldType)) ∈ lw_all := lw_g (lw_at lw_m7 96 rfl) rfl
theorem q1613 : (Jvm.Cond.methodLink "DatedContactsModel" (1 : Nat) ({ cls := "java/lang/Object", name := "<init>", desc := "()V" } : Jvm.MethodName)) ∈ lw_all := lw_g (lw_at lw_m7 97 rfl) rfl
theorem q1614 : (Jvm.Cond.constant "DatedContactsModel" (62 : Nat) (-1000000 : Int32)) ∈ lw_all := lw_g (lw_at lw_m7 98 rfl) rfl
theorem q1615 : (Jvm.Cond.fieldLink "DatedContactsModel" (7 : Nat) "DatedContactsModel" "lane" "[I") ∈ lw_all := lw_g (lw_at lw_m7 99 rfl) rfl
theorem q1616 : (Jvm.Cond.fieldLink "DatedContactsModel" (13 : Nat) "DatedContactsModel" "many" "[I") ∈ lw_all := lw_g (lw_at lw_m7 100 rfl) rfl
theorem q1617 : (Jvm.Cond.fieldLink "DatedContactsModel" (16 : Nat) "DatedContactsModel" "items" "[I") ∈ lw_all := lw_g (lw_at lw_m7 101 rfl) rfl
theorem q1618 : (Jvm.Cond.fieldLink "DatedContactsModel" (19 : Nat) "DatedContactsModel" "spare" "[I") ∈ lw_all := lw_g (lw_at lw_m7 102 rfl) rfl
theorem q1619 : (Jvm.Cond.fieldLink "DatedContactsModel" (63 : Nat) "DatedContactsModel" "status" "I") ∈ lw_all := lw_g (lw_at lw_m7 103 rfl) rfl
theorem q1620 : (Jvm.Cond.fieldLink "DatedContactsModel" (22 : Nat) "DatedContactsModel" "tape" "[I") ∈ lw_all := lw_g (lw_at lw_m7 104 rfl) rfl
theorem q1621 : (Jvm.Cond.fieldLink "DatedContactsModel" (94 : Nat) "DatedContactsModel" "taped" "I") ∈ lw_all := lw_g (lw_at lw_m7 105 rfl) rfl
theorem q1622 : (Jvm.Cond.fieldLink "DatedContactsModel" (120 : Nat) "DatedContactsModel" "faultKind" "I") ∈ lw_all := lw_g (lw_at lw_m7 106 rfl) rfl
theorem q1623 : (Jvm.Cond.fieldLink "DatedContactsModel" (113 : Nat) "DatedContactsModel" "faultPlace" "I") ∈ lw_all := lw_g (lw_at lw_m7 107 rfl) rfl
theorem q1624 : (Jvm.Cond.fieldLink "DatedContactsModel" (98 : Nat) "DatedContactsModel" "at" "I") ∈ lw_all := lw_g (lw_at lw_m7 108 rfl) rfl
theorem q1625 : (Jvm.Cond.fieldLink "DatedContactsModel" (101 : Nat) "DatedContactsModel" "start" "I") ∈ lw_all := lw_g (lw_at lw_m7 109 rfl) rfl
theorem q1626 : (Jvm.Cond.fieldLink "DatedContactsModel" (110 : Nat) "DatedContactsModel" "token" "I") ∈ lw_all := lw_g (lw_at lw_m7 110 rfl) rfl
theorem q1627 : (Jvm.Cond.fieldLink "DatedContactsModel" (107 : Nat) "DatedContactsModel" "value" "I") ∈ lw_all := lw_g (lw_at lw_m7 111 rfl) rfl
theorem q1628 : (Jvm.Cond.fieldLink "DatedContactsModel" (25 : Nat) "DatedContactsModel" "now" "[I") ∈ lw_all := lw_g (lw_at lw_m7 112 rfl) rfl
theorem q1629 : (Jvm.Cond.fieldLink "DatedContactsModel" (28 : Nat) "DatedContactsModel" "draft" "[I") ∈ lw_all := lw_g (lw_at lw_m7 113 rfl) rfl
theorem q1630 : (Jvm.Cond.fieldLink "DatedContactsModel" (31 : Nat) "DatedContactsModel" "tried" "[I") ∈ lw_all := lw_g (lw_at lw_m7 114 rfl) rfl
theorem q1631 : (Jvm.Cond.fieldLink "DatedContactsModel" (34 : Nat) "DatedContactsModel" "past" "[I") ∈ lw_all := lw_g (lw_at lw_m7 115 rfl) rfl
theorem q1632 : (Jvm.Cond.fieldLink "DatedContactsModel" (160 : Nat) "DatedContactsModel" "acts" "I") ∈ lw_all := lw_g (lw_at lw_m7 116 rfl) rfl
theorem q1633 : (Jvm.Cond.fieldLink "DatedContactsModel" (37 : Nat) "DatedContactsModel" "images" "[I") ∈ lw_all := lw_g (lw_at lw_m7 117 rfl) rfl
theorem q1634 : (Jvm.Cond.fieldLink "DatedContactsModel" (40 : Nat) "DatedContactsModel" "kept" "[Z") ∈ lw_all := lw_g (lw_at lw_m7 118 rfl) rfl
theorem q1635 : (Jvm.Cond.fieldLink "DatedContactsModel" (44 : Nat) "DatedContactsModel" "days" "[I") ∈ lw_all := lw_g (lw_at lw_m7 119 rfl) rfl
theorem q1636 : (Jvm.Cond.fieldLink "DatedContactsModel" (47 : Nat) "DatedContactsModel" "givers" "[I") ∈ lw_all := lw_g (lw_at lw_m7 120 rfl) rfl
theorem q1637 : (Jvm.Cond.fieldLink "DatedContactsModel" (50 : Nat) "DatedContactsModel" "left" "[I") ∈ lw_all := lw_g (lw_at lw_m7 121 rfl) rfl
theorem q1638 : (Jvm.Cond.fieldLink "DatedContactsModel" (53 : Nat) "DatedContactsModel" "chain" "[I") ∈ lw_all := lw_g (lw_at lw_m7 122 rfl) rfl
theorem q1639 : (Jvm.Cond.fieldLink "DatedContactsModel" (220 : Nat) "DatedContactsModel" "links" "I") ∈ lw_all := lw_g (lw_at lw_m7 123 rfl) rfl
theorem q1640 : (Jvm.Cond.fieldLink "DatedContactsModel" (56 : Nat) "DatedContactsModel" "signs" "[I") ∈ lw_all := lw_g (lw_at lw_m7 124 rfl) rfl
theorem q1641 : (Jvm.Cond.fieldLink "DatedContactsModel" (226 : Nat) "DatedContactsModel" "written" "I") ∈ lw_all := lw_g (lw_at lw_m7 125 rfl) rfl
theorem q1642 : (Jvm.Cond.fieldLink "DatedContactsModel" (59 : Nat) "DatedContactsModel" "trace" "[I") ∈ lw_all := lw_g (lw_at lw_m7 126 rfl) rfl
theorem q1643 : (Jvm.Cond.fieldLink "DatedContactsModel" (267 : Nat) "DatedContactsModel" "traced" "I") ∈ lw_all := lw_g (lw_at lw_m7 127 rfl) rfl
theorem q1644 : (Jvm.Cond.laysFinal "DatedContactsModel" "DatedContactsModel" "lane" "[I") ∈ lw_all := lw_g (lw_at lw_m7 128 rfl) rfl
theorem q1645 : (Jvm.Cond.soleField "DatedContactsModel" "lane") ∈ lw_all := lw_g (lw_at lw_m7 129 rfl) rfl
theorem q1646 : (Jvm.Cond.laysFinal "DatedContactsModel" "DatedContactsModel" "many" "[I") ∈ lw_all := lw_g (lw_at lw_m7 130 rfl) rfl
theorem q1647 : (Jvm.Cond.soleField "DatedContactsModel" "many") ∈ lw_all := lw_g (lw_at lw_m7 131 rfl) rfl
theorem q1648 : (Jvm.Cond.laysFinal "DatedContactsModel" "DatedContactsModel" "items" "[I") ∈ lw_all := lw_g (lw_at lw_m7 132 rfl) rfl
theorem q1649 : (Jvm.Cond.soleField "DatedContactsModel" "items") ∈ lw_all := lw_g (lw_at lw_m7 133 rfl) rfl
theorem q1650 : (Jvm.Cond.laysFinal "DatedContactsModel" "DatedContactsModel" "spare" "[I") ∈ lw_all := lw_g (lw_at lw_m7 134 rfl) rfl
theorem q1651 : (Jvm.Cond.soleField "DatedContactsModel" "spare") ∈ lw_all := lw_g (lw_at lw_m7 135 rfl) rfl
theorem q1652 : (Jvm.Cond.lays "DatedContactsModel" "DatedContactsModel" "status" "I") ∈ lw_all := lw_g (lw_at lw_m7 136 rfl) rfl
theorem q1653 : (Jvm.Cond.soleField "DatedContactsModel" "status") ∈ lw_all := lw_g (lw_at lw_m7 137 rfl) rfl
theorem q1654 : (Jvm.Cond.laysFinal "DatedContactsModel" "DatedContactsModel" "tape" "[I") ∈ lw_all := lw_g (lw_at lw_m7 138 rfl) rfl
theorem q1655 : (Jvm.Cond.soleField "DatedContactsModel" "tape") ∈ lw_all := lw_g (lw_at lw_m7 139 rfl) rfl
theorem q1656 : (Jvm.Cond.lays "DatedContactsModel" "DatedContactsModel" "taped" "I") ∈ lw_all := lw_g (lw_at lw_m7 140 rfl) rfl
theorem q1657 : (Jvm.Cond.soleField "DatedContactsModel" "taped") ∈ lw_all := lw_g (lw_at lw_m7 141 rfl) rfl
theorem q1658 : (Jvm.Cond.lays "DatedContactsModel" "DatedContactsModel" "faultKind" "I") ∈ lw_all := lw_g (lw_at lw_m7 142 rfl) rfl
theorem q1659 : (Jvm.Cond.soleField "DatedContactsModel" "faultKind") ∈ lw_all := lw_g (lw_at lw_m7 143 rfl) rfl
theorem q1660 : (Jvm.Cond.lays "DatedContactsModel" "DatedContactsModel" "faultPlace" "I") ∈ lw_all := lw_g (lw_at lw_m7 144 rfl) rfl
theorem q1661 : (Jvm.Cond.soleField "DatedContactsModel" "faultPlace") ∈ lw_all := lw_g (lw_at lw_m7 145 rfl) rfl
theorem q1662 : (Jvm.Cond.lays "DatedContactsModel" "DatedContactsModel" "at" "I") ∈ lw_all := lw_g (lw_at lw_m7 146 rfl) rfl
theorem q1663 : (Jvm.Cond.soleField "DatedContactsModel" "at") ∈ lw_all := lw_g (lw_at lw_m7 147 rfl) rfl
theorem q1664 : (Jvm.Cond.lays "DatedContactsModel" "DatedContactsModel" "start" "I") ∈ lw_all := lw_g (lw_at lw_m7 148 rfl) rfl
theorem q1665 : (Jvm.Cond.soleField "DatedContactsModel" "start") ∈ lw_all := lw_g (lw_at lw_m7 149 rfl) rfl
theorem q1666 : (Jvm.Cond.lays "DatedContactsModel" "DatedContactsModel" "token" "I") ∈ lw_all := lw_g (lw_at lw_m7 150 rfl) rfl
theorem q1667 : (Jvm.Cond.soleField "DatedContactsModel" "token") ∈ lw_all := lw_g (lw_at lw_m7 151 rfl) rfl
theorem q1668 : (Jvm.Cond.lays "DatedContactsModel" "DatedContactsModel" "value" "I") ∈ lw_all := lw_g (lw_at lw_m7 152 rfl) rfl
theorem q1669 : (Jvm.Cond.soleField "DatedContactsModel" "value") ∈ lw_all := lw_g (lw_at lw_m7 153 rfl) rfl
theorem q1670 : (Jvm.Cond.laysFinal "DatedContactsModel" "DatedContactsModel" "now" "[I") ∈ lw_all := lw_g (lw_at lw_m7 154 rfl) rfl
theorem q1671 : (Jvm.Cond.soleField "DatedContactsModel" "now") ∈ lw_all := lw_g (lw_at lw_m7 155 rfl) rfl
theorem q1672 : (Jvm.Cond.laysFinal "DatedContactsModel" "DatedContactsModel" "draft" "[I") ∈ lw_all := lw_g (lw_at lw_m7 156 rfl) rfl
theorem q1673 : (Jvm.Cond.soleField "DatedContactsModel" "draft") ∈ lw_all := lw_g (lw_at lw_m7 157 rfl) rfl
theorem q1674 : (Jvm.Cond.laysFinal "DatedContactsModel" "DatedContactsModel" "tried" "[I") ∈ lw_all := lw_g (lw_at lw_m7 158 rfl) rfl
theorem q1675 : (Jvm.Cond.soleField "DatedContactsModel" "tried") ∈ lw_all := lw_g (lw_at lw_m7 159 rfl) rfl
theorem q1676 : (Jvm.Cond.laysFinal "DatedContactsModel" "DatedContactsModel" "past" "[I") ∈ lw_all := lw_g (lw_at lw_m7 160 rfl) rfl
theorem q1677 : (Jvm.Cond.soleField "DatedContactsModel" "past") ∈ lw_all := lw_g (lw_at lw_m7 161 rfl) rfl
theorem q1678 : (Jvm.Cond.lays "DatedContactsModel" "DatedContactsModel" "acts" "I") ∈ lw_all := lw_g (lw_at lw_m7 162 rfl) rfl
theorem q1679 : (Jvm.Cond.soleField "DatedContactsModel" "acts") ∈ lw_all := lw_g (lw_at lw_m7 163 rfl) rfl
theorem q1680 : (Jvm.Cond.laysFinal "DatedContactsModel" "DatedContactsModel" "images" "[I") ∈ lw_all := lw_g (lw_at lw_m7 164 rfl) rfl
theorem q1681 : (Jvm.Cond.soleField "DatedContactsModel" "images") ∈ lw_all := lw_g (lw_at lw_m7 165 rfl) rfl
theorem q1682 : (Jvm.Cond.laysFinal "DatedContactsModel" "DatedContactsModel" "kept" "[Z") ∈ lw_all := lw_g (lw_at lw_m7 166 rfl) rfl
theorem q1683 : (Jvm.Cond.soleField "DatedContactsModel" "kept") ∈ lw_all := lw_g (lw_at lw_m7 167 rfl) rfl
theorem q1684 : (Jvm.Cond.laysFinal "DatedContactsModel" "DatedContactsModel" "days" "[I") ∈ lw_all := lw_g (lw_at lw_m7 168 rfl) rfl
theorem q1685 : (Jvm.Cond.soleField "DatedContactsModel" "days") ∈ lw_all := lw_g (lw_at lw_m7 169 rfl) rfl
theorem q1686 : (Jvm.Cond.laysFinal "DatedContactsModel" "DatedContactsModel" "givers" "[I") ∈ lw_all := lw_g (lw_at lw_m7 170 rfl) rfl
theorem q1687 : (Jvm.Cond.soleField "DatedContactsModel" "givers") ∈ lw_all := lw_g (lw_at lw_m7 171 rfl) rfl
theorem q1688 : (Jvm.Cond.laysFinal "DatedContactsModel" "DatedContactsModel" "left" "[I") ∈ lw_all := lw_g (lw_at lw_m7 172 rfl) rfl
theorem q1689 : (Jvm.Cond.soleField "DatedContactsModel" "left") ∈ lw_all := lw_g (lw_at lw_m7 173 rfl) rfl
theorem q1690 : (Jvm.Cond.laysFinal "DatedContactsModel" "DatedContactsModel" "chain" "[I") ∈ lw_all := lw_g (lw_at lw_m7 174 rfl) rfl
theorem q1691 : (Jvm.Cond.soleField "DatedContactsModel" "chain") ∈ lw_all := lw_g (lw_at lw_m7 175 rfl) rfl
theorem q1692 : (Jvm.Cond.lays "DatedContactsModel" "DatedContactsModel" "links" "I") ∈ lw_all := lw_g (lw_at lw_m7 176 rfl) rfl
theorem q1693 : (Jvm.Cond.soleField "DatedContactsModel" "links") ∈ lw_all := lw_g (lw_at lw_m7 177 rfl) rfl
theorem q1694 : (Jvm.Cond.laysFinal "DatedContactsModel" "DatedContactsModel" "signs" "[I") ∈ lw_all := lw_g (lw_at lw_m7 178 rfl) rfl
theorem q1695 : (Jvm.Cond.soleField "DatedContactsModel" "signs") ∈ lw_all := lw_g (lw_at lw_m7 179 rfl) rfl
theorem q1696 : (Jvm.Cond.lays "DatedContactsModel" "DatedContactsModel" "written" "I") ∈ lw_all := lw_g (lw_at lw_m7 180 rfl) rfl
theorem q1697 : (Jvm.Cond.soleField "DatedContactsModel" "written") ∈ lw_all := lw_g (lw_at lw_m7 181 rfl) rfl
theorem q1698 : (Jvm.Cond.laysFinal "DatedContactsModel" "DatedContactsModel" "trace" "[I") ∈ lw_all := lw_g (lw_at lw_m7 182 rfl) rfl
theorem q1699 : (Jvm.Cond.soleField "DatedContactsModel" "trace") ∈ lw_all := lw_g (lw_at lw_m7 183 rfl) rfl
theorem q1700 : (Jvm.Cond.lays "DatedContactsModel" "DatedContactsModel" "traced" "I") ∈ lw_all := lw_g (lw_at lw_m7 184 rfl) rfl
theorem q1701 : (Jvm.Cond.soleField "DatedContactsModel" "traced") ∈ lw_all := lw_g (lw_at lw_m7 185 rfl) rfl
theorem q1702 : (Jvm.Cond.superclass "DatedContactsModel" "java/lang/Object") ∈ lw_all := lw_g (lw_at lw_m7 186 rfl) rfl
theorem q1705 : (Jvm.Cond.instanceMethod ({ cls := "DatedContactsModel", name := "row", desc := "(III)I" } : Jvm.MethodName)) ∈ lw_all := lw_g (lw_at lw_m7 189 rfl) rfl
theorem q1706 : (Jvm.Cond.selects "DatedContactsModel" ({ cls := "DatedContactsModel", name := "row", desc := "(III)I" } : Jvm.MethodName) ({ cls := "DatedContactsModel", name := "row", desc := "(III)I" } : Jvm.MethodName)) ∈ lw_all := lw_g (lw_at lw_m7 190 rfl) rfl
theorem q1707 : (Jvm.Cond.code ({ cls := "DatedContactsModel", name := "row", desc := "(III)I" } : Jvm.MethodName) prog_21_method_12_code (5 : Nat) (Option.some Jvm.ClassFile.FieldType.int)) ∈ lw_all := lw_g (lw_at lw_m7 191 rfl) rfl
theorem q1708 : (Jvm.Cond.methodLink "DatedContactsModel" (72 : Nat) ({ cls := "DatedContactsModel", name := "isRow", desc := "(I)Z" } : Jvm.MethodName)) ∈ lw_all := lw_g (lw_at lw_m7 192 rfl) rfl
theorem q1709 : (Jvm.Cond.static ({ cls := "DatedContactsModel", name := "isRow", desc := "(I)Z" } : Jvm.MethodName)) ∈ lw_all := lw_g (lw_at lw_m7 193 rfl) rfl
theorem q1710 : (Jvm.Cond.code ({ cls := "DatedContactsModel", name := "isRow", desc := "(I)Z" } : Jvm.MethodName) prog_21_method_9_code (1 : Nat) (Option.some Jvm.ClassFile.FieldType.boolean)) ∈ lw_all := lw_g (lw_at lw_m7 194 rfl) rfl
theorem q1711 : (Jvm.Cond.methodLink "DatedContactsModel" (68 : Nat) ({ cls := "DatedContactsModel", name := "in", desc := "(III)Z" } : Jvm.MethodName)) ∈ lw_all := lw_g (lw_at lw_m7 195 rfl) rfl
theorem q1712 : (Jvm.Cond.static ({ cls := "DatedContactsModel", name := "in", desc := "(III)Z" } : Jvm.MethodName)) ∈ lw_all := lw_g (lw_at lw_m7 196 rfl) rfl
theorem q1713 : (Jvm.Cond.code ({ cls := "DatedContactsModel", name := "in", desc := "(III)Z" } : Jvm.MethodName) prog_21_method_3_code (3 : Nat) (Option.some Jvm.ClassFile.FieldType.boolean)) ∈ lw_all := lw_g (lw_at lw_m7 197 rfl) rfl
theorem q1714 : (Jvm.Cond.constant "DatedContactsModel" (76 : Nat) (-1000001 : Int32)) ∈ lw_all := lw_g (lw_at lw_m7 198 rfl) rfl
theorem q1715 : (Jvm.Cond.methodLink "DatedContactsModel" (77 : Nat) ({ cls := "DatedContactsModel", name := "found", desc := "(I)I" } : Jvm.MethodName)) ∈ lw_all := lw_g (lw_at lw_m7 199 rfl) rfl
theorem q1716 : (Jvm.Cond.privateMethod ({ cls := "DatedContactsModel", name := "found", desc := "(I)I" } : Jvm.MethodName)) ∈ lw_tbl := lw_at lw_m7 200 rfl
theorem q1717 : (Jvm.Cond.instanceMethod ({ cls := "DatedContactsModel", name := "found", desc := "(I)I" } : Jvm.MethodName)) ∈ lw_all := lw_g (lw_at lw_m7 201 rfl) rfl
theorem q1718 : (Jvm.Cond.code ({ cls := "DatedContactsModel", name := "found", desc := "(I)I" } : Jvm.MethodName) prog_21_method_6_code (2 : Nat) (Option.some Jvm.ClassFile.FieldType.int)) ∈ lw_all := lw_g (lw_at lw_m7 202 rfl) rfl
theorem q1719 : (Jvm.Cond.constant "DatedContactsModel" (67 : Nat) (-1000010 : Int32)) ∈ lw_all := lw_g (lw_at lw_m7 203 rfl) rfl
theorem q1720 : (Jvm.Cond.methodLink "DatedContactsModel" (81 : Nat) ({ cls := "DatedContactsModel", name := "well", desc := "(I)I" } : Jvm.MethodName)) ∈ lw_all := lw_g (lw_at lw_m7 204 rfl) rfl
theorem q1721 : (Jvm.Cond.privateMethod ({ cls := "DatedContactsModel", name := "well", desc := "(I)I" } : Jvm.MethodName)) ∈ lw_tbl := lw_at lw_m7 205 rfl
theorem q1722 : (Jvm.Cond.instanceMethod ({ cls := "DatedContactsModel", name := "well", desc := "(I)I" } : Jvm.MethodName)) ∈ lw_all := lw_g (lw_at lw_m7 206 rfl) rfl
theorem q1723 : (Jvm.Cond.code ({ cls := "DatedContactsModel", name := "well", desc := "(I)I" } : Jvm.MethodName) prog_21_method_7_code (2 : Nat) (Option.some Jvm.ClassFile.FieldType.int)) ∈ lw_all := lw_g (lw_at lw_m7 207 rfl) rfl
theorem q1725 : (Jvm.Cond.instanceMethod ({ cls := "DatedContactsModel", name := "set", desc := "(III)I" } : Jvm.MethodName)) ∈ lw_all := lw_g (lw_at lw_m7 209 rfl) rfl
theorem q1726 : (Jvm.Cond.selects "DatedContactsModel" ({ cls := "DatedContactsModel", name := "set", desc := "(III)I" } : Jvm.MethodName) ({ cls := "DatedContactsModel", name := "set", desc := "(III)I" } : Jvm.MethodName)) ∈ lw_all := lw_g (lw_at lw_m7 210 rfl) rfl
theorem q1727 : (Jvm.Cond.code ({ cls := "DatedContactsModel", name := "set", desc := "(III)I" } : Jvm.MethodName) prog_21_method_13_code (4 : Nat) (Option.some Jvm.ClassFile.FieldType.int)) ∈ lw_all := lw_g (lw_at lw_m7 211 rfl) rfl
theorem q1728 : (Jvm.Cond.methodLink "DatedContactsModel" (84 : Nat) ({ cls := "DatedContactsModel", name := "isMissing", desc := "(I)Z" } : Jvm.MethodName)) ∈ lw_all := lw_g (lw_at lw_m7 212 rfl) rfl
theorem q1729 : (Jvm.Cond.privateMethod ({ cls := "DatedContactsModel", name := "isMissing", desc := "(I)Z" } : Jvm.MethodName)) ∈ lw_tbl := lw_at lw_m7 213 rfl
theorem q1730 : (Jvm.Cond.instanceMethod ({ cls := "DatedContactsModel", name := "isMissing", desc := "(I)Z" } : Jvm.MethodName)) ∈ lw_all := lw_g (lw_at lw_m7 214 rfl) rfl
theorem q1731 : (Jvm.Cond.code ({ cls := "DatedContactsModel", name := "isMissing", desc := "(I)Z" } : Jvm.MethodName) prog_21_method_10_code (2 : Nat) (Option.some Jvm.ClassFile.FieldType.boolean)) ∈ lw_all := lw_g (lw_at lw_m7 215 rfl) rfl
theorem q1732 : (Jvm.Cond.methodLink "DatedContactsModel" (87 : Nat) ({ cls := "DatedContactsModel", name := "lowest", desc := "(II)I" } : Jvm.MethodName)) ∈ lw_all := lw_g (lw_at lw_m7 216 rfl) rfl
theorem q1733 : (Jvm.Cond.static ({ cls := "DatedContactsModel", name := "lowest", desc := "(II)I" } : Jvm.MethodName)) ∈ lw_all := lw_g (lw_at lw_m7 217 rfl) rfl
theorem q1734 : (Jvm.Cond.code ({ cls := "DatedContactsModel", name := "lowest", desc := "(II)I" } : Jvm.MethodName) prog_21_method_11_code (2 : Nat) (Option.some Jvm.ClassFile.FieldType.int)) ∈ lw_all := lw_g (lw_at lw_m7 218 rfl) rfl
theorem q1736 : (Jvm.Cond.instanceMethod ({ cls := "DatedContactsModel", name := "copy", desc := "(IIIII)I" } : Jvm.MethodName)) ∈ lw_all := lw_g (lw_at lw_m7 220 rfl) rfl
theorem q1737 : (Jvm.Cond.selects "DatedContactsModel" ({ cls := "DatedContactsModel", name := "copy", desc := "(IIIII)I" } : Jvm.MethodName) ({ cls := "DatedContactsModel", name := "copy", desc := "(IIIII)I" } : Jvm.MethodName)) ∈ lw_all := lw_g (lw_at lw_m7 221 rfl) rfl
theorem q1738 : (Jvm.Cond.code ({ cls := "DatedContactsModel", name := "copy", desc := "(IIIII)I" } : Jvm.MethodName) prog_21_method_15_code (7 : Nat) (Option.some Jvm.ClassFile.FieldType.int)) ∈ lw_all := lw_g (lw_at lw_m7 222 rfl) rfl
theorem q1739 : (Jvm.Cond.methodLink "DatedContactsModel" (91 : Nat) ({ cls := "DatedContactsModel", name := "isPart", desc := "(III)Z" } : Jvm.MethodName)) ∈ lw_all := lw_g (lw_at lw_m7 223 rfl) rfl
theorem q1740 : (Jvm.Cond.privateMethod ({ cls := "DatedContactsModel", name := "isPart", desc := "(III)Z" } : Jvm.MethodName)) ∈ lw_tbl := lw_at lw_m7 224 rfl
theorem q1741 : (Jvm.Cond.instanceMethod ({ cls := "DatedContactsModel", name := "isPart", desc := "(III)Z" } : Jvm.MethodName)) ∈ lw_all := lw_g (lw_at lw_m7 225 rfl) rfl
theorem q1742 : (Jvm.Cond.code ({ cls := "DatedContactsModel", name := "isPart", desc := "(III)Z" } : Jvm.MethodName) prog_21_method_14_code (4 : Nat) (Option.some Jvm.ClassFile.FieldType.boolean)) ∈ lw_all := lw_g (lw_at lw_m7 226 rfl) rfl
theorem q1744 : (Jvm.Cond.instanceMethod ({ cls := "DatedContactsModel", name := "drop", desc := "(I)I" } : Jvm.MethodName)) ∈ lw_all := lw_g (lw_at lw_m7 228 rfl) rfl
theorem q1745 : (Jvm.Cond.selects "DatedContactsModel" ({ cls := "DatedContactsModel", name := "drop", desc := "(I)I" } : Jvm.MethodName) ({ cls := "DatedContactsModel", name := "drop", desc := "(I)I" } : Jvm.MethodName)) ∈ lw_all := lw_g (lw_at lw_m7 229 rfl) rfl
theorem q1746 : (Jvm.Cond.code ({ cls := "DatedContactsModel", name := "drop", desc := "(I)I" } : Jvm.MethodName) prog_21_method_16_code (2 : Nat) (Option.some Jvm.ClassFile.FieldType.int)) ∈ lw_all := lw_g (lw_at lw_m7 230 rfl) rfl
theorem q1748 : (Jvm.Cond.instanceMethod ({ cls := "DatedContactsModel", name := "feed", desc := "(I)I" } : Jvm.MethodName)) ∈ lw_all := lw_g (lw_at lw_m7 232 rfl) rfl
theorem q1749 : (Jvm.Cond.selects "DatedContactsModel" ({ cls := "DatedContactsModel", name := "feed", desc := "(I)I" } : Jvm.MethodName) ({ cls := "DatedContactsModel", name := "feed", desc := "(I)I" } : Jvm.MethodName)) ∈ lw_all := lw_g (lw_at lw_m7 233 rfl) rfl
theorem q1750 : (Jvm.Cond.code ({ cls := "DatedContactsModel", name := "feed", desc := "(I)I" } : Jvm.MethodName) prog_21_method_17_code (2 : Nat) (Option.some Jvm.ClassFile.FieldType.int)) ∈ lw_all := lw_g (lw_at lw_m7 234 rfl) rfl
theorem q1751 : (Jvm.Cond.constant "DatedContactsModel" (97 : Nat) (-1000003 : Int32)) ∈ lw_all := lw_g (lw_at lw_m7 235 rfl) rfl
theorem q1753 : (Jvm.Cond.instanceMethod ({ cls := "DatedContactsModel", name := "net", desc := "()I" } : Jvm.MethodName)) ∈ lw_all := lw_g (lw_at lw_m7 237 rfl) rfl
theorem q1754 : (Jvm.Cond.selects "DatedContactsModel" ({ cls := "DatedContactsModel", name := "net", desc := "()I" } : Jvm.MethodName) ({ cls := "DatedContactsModel", name := "net", desc := "()I" } : Jvm.MethodName)) ∈ lw_all := lw_g (lw_at lw_m7 238 rfl) rfl
theorem q1755 : (Jvm.Cond.code ({ cls := "DatedContactsModel", name := "net", desc := "()I" } : Jvm.MethodName) prog_21_method_30_code (2 : Nat) (Option.some Jvm.ClassFile.FieldType.int)) ∈ lw_all := lw_g (lw_at lw_m7 239 rfl) rfl
theorem q1756 : (Jvm.Cond.methodLink "DatedContactsModel" (123 : Nat) ({ cls := "DatedContactsModel", name := "advances", desc := "()V" } : Jvm.MethodName)) ∈ lw_all := lw_g (lw_at lw_m8 0 rfl) rfl
theorem q1757 : (Jvm.Cond.privateMethod ({ cls := "DatedContactsModel", name := "advances", desc := "()V" } : Jvm.MethodName)) ∈ lw_tbl := lw_at lw_m8 1 rfl
theorem q1758 : (Jvm.Cond.instanceMethod ({ cls := "DatedContactsModel", name := "advances", desc := "()V" } : Jvm.MethodName)) ∈ lw_all := lw_g (lw_at lw_m8 2 rfl) rfl
theorem q1759 : (Jvm.Cond.code ({ cls := "DatedContactsModel", name := "advances", desc := "()V" } : Jvm.MethodName) prog_21_method_19_code (2 : Nat) (Option.none : Option Jvm.ClassFile.FieldType)) ∈ lw_all := lw_g (lw_at lw_m8 3 rfl) rfl
theorem q1760 : (Jvm.Cond.methodLink "DatedContactsModel" (104 : Nat) ({ cls := "DatedContactsModel", name := "byteAt", desc := "(I)I" } : Jvm.MethodName)) ∈ lw_all := lw_g (lw_at lw_m8 4 rfl) rfl
theorem q1761 : (Jvm.Cond.privateMethod ({ cls := "DatedContactsModel", name := "byteAt", desc := "(I)I" } : Jvm.MethodName)) ∈ lw_tbl := lw_at lw_m8 5 rfl
theorem q1762 : (Jvm.Cond.instanceMethod ({ cls := "DatedContactsModel", name := "byteAt", desc := "(I)I" } : Jvm.MethodName)) ∈ lw_all := lw_g (lw_at lw_m8 6 rfl) rfl
theorem q1763 : (Jvm.Cond.code ({ cls := "DatedContactsModel", name := "byteAt", desc := "(I)I" } : Jvm.MethodName) prog_21_method_18_code (2 : Nat) (Option.some Jvm.ClassFile.FieldType.int)) ∈ lw_all := lw_g (lw_at lw_m8 7 rfl) rfl
theorem q1764 : (Jvm.Cond.methodLink "DatedContactsModel" (126 : Nat) ({ cls := "DatedContactsModel", name := "takes", desc := "(ZI)I" } : Jvm.MethodName)) ∈ lw_all := lw_g (lw_at lw_m8 8 rfl) rfl
theorem q1765 : (Jvm.Cond.privateMethod ({ cls := "DatedContactsModel", name := "takes", desc := "(ZI)I" } : Jvm.MethodName)) ∈ lw_tbl := lw_at lw_m8 9 rfl
theorem q1766 : (Jvm.Cond.instanceMethod ({ cls := "DatedContactsModel", name := "takes", desc := "(ZI)I" } : Jvm.MethodName)) ∈ lw_all := lw_g (lw_at lw_m8 10 rfl) rfl
theorem q1767 : (Jvm.Cond.code ({ cls := "DatedContactsModel", name := "takes", desc := "(ZI)I" } : Jvm.MethodName) prog_21_method_21_code (4 : Nat) (Option.some Jvm.ClassFile.FieldType.int)) ∈ lw_all := lw_g (lw_at lw_m8 11 rfl) rfl
theorem q1768 : (Jvm.Cond.methodLink "DatedContactsModel" (116 : Nat) ({ cls := "DatedContactsModel", name := "isWell", desc := "()Z" } : Jvm.MethodName)) ∈ lw_all := lw_g (lw_at lw_m8 12 rfl) rfl
theorem q1769 : (Jvm.Cond.privateMethod ({ cls := "DatedContactsModel", name := "isWell", desc := "()Z" } : Jvm.MethodName)) ∈ lw_tbl := lw_at lw_m8 13 rfl
theorem q1770 : (Jvm.Cond.instanceMethod ({ cls := "DatedContactsModel", name := "isWell", desc := "()Z" } : Jvm.MethodName)) ∈ lw_all := lw_g (lw_at lw_m8 14 rfl) rfl
theorem q1771 : (Jvm.Cond.code ({ cls := "DatedContactsModel", name := "isWell", desc := "()Z" } : Jvm.MethodName) prog_21_method_20_code (1 : Nat) (Option.some Jvm.ClassFile.FieldType.boolean)) ∈ lw_all := lw_g (lw_at lw_m8 15 rfl) rfl
theorem q1772 : (Jvm.Cond.methodLink "DatedContactsModel" (130 : Nat) ({ cls := "DatedContactsModel", name := "figure", desc := "(II)I" } : Jvm.MethodName)) ∈ lw_all := lw_g (lw_at lw_m8 16 rfl) rfl
theorem q1773 : (Jvm.Cond.privateMethod ({ cls := "DatedContactsModel", name := "figure", desc := "(II)I" } : Jvm.MethodName)) ∈ lw_tbl := lw_at lw_m8 17 rfl
theorem q1774 : (Jvm.Cond.instanceMethod ({ cls := "DatedContactsModel", name := "figure", desc := "(II)I" } : Jvm.MethodName)) ∈ lw_all := lw_g (lw_at lw_m8 18 rfl) rfl
theorem q1775 : (Jvm.Cond.code ({ cls := "DatedContactsModel", name := "figure", desc := "(II)I" } : Jvm.MethodName) prog_21_method_22_code (3 : Nat) (Option.some Jvm.ClassFile.FieldType.int)) ∈ lw_all := lw_g (lw_at lw_m8 19 rfl) rfl
theorem q1776 : (Jvm.Cond.methodLink "DatedContactsModel" (140 : Nat) ({ cls := "DatedContactsModel", name := "behind", desc := "(II)I" } : Jvm.MethodName)) ∈ lw_all := lw_g (lw_at lw_m8 20 rfl) rfl
theorem q1777 : (Jvm.Cond.privateMethod ({ cls := "DatedContactsModel", name := "behind", desc := "(II)I" } : Jvm.MethodName)) ∈ lw_tbl := lw_at lw_m8 21 rfl
theorem q1778 : (Jvm.Cond.instanceMethod ({ cls := "DatedContactsModel", name := "behind", desc := "(II)I" } : Jvm.MethodName)) ∈ lw_all := lw_g (lw_at lw_m8 22 rfl) rfl
theorem q1779 : (Jvm.Cond.code ({ cls := "DatedContactsModel", name := "behind", desc := "(II)I" } : Jvm.MethodName) prog_21_method_24_code (3 : Nat) (Option.some Jvm.ClassFile.FieldType.int)) ∈ lw_all := lw_g (lw_at lw_m8 23 rfl) rfl
theorem q1780 : (Jvm.Cond.methodLink "DatedContactsModel" (133 : Nat) ({ cls := "DatedContactsModel", name := "kindOf", desc := "(I)I" } : Jvm.MethodName)) ∈ lw_all := lw_g (lw_at lw_m8 24 rfl) rfl
theorem q1781 : (Jvm.Cond.static ({ cls := "DatedContactsModel", name := "kindOf", desc := "(I)I" } : Jvm.MethodName)) ∈ lw_all := lw_g (lw_at lw_m8 25 rfl) rfl
theorem q1782 : (Jvm.Cond.code ({ cls := "DatedContactsModel", name := "kindOf", desc := "(I)I" } : Jvm.MethodName) prog_21_method_23_code (1 : Nat) (Option.some Jvm.ClassFile.FieldType.int)) ∈ lw_all := lw_g (lw_at lw_m8 26 rfl) rfl
theorem q1783 : (Jvm.Cond.methodLink "DatedContactsModel" (143 : Nat) ({ cls := "DatedContactsModel", name := "readsPerson", desc := "()V" } : Jvm.MethodName)) ∈ lw_all := lw_g (lw_at lw_m8 27 rfl) rfl
theorem q1784 : (Jvm.Cond.privateMethod ({ cls := "DatedContactsModel", name := "readsPerson", desc := "()V" } : Jvm.MethodName)) ∈ lw_tbl := lw_at lw_m8 28 rfl
theorem q1785 : (Jvm.Cond.instanceMethod ({ cls := "DatedContactsModel", name := "readsPerson", desc := "()V" } : Jvm.MethodName)) ∈ lw_all := lw_g (lw_at lw_m8 29 rfl) rfl
theorem q1786 : (Jvm.Cond.code ({ cls := "DatedContactsModel", name := "readsPerson", desc := "()V" } : Jvm.MethodName) prog_21_method_27_code (3 : Nat) (Option.none : Option Jvm.ClassFile.FieldType)) ∈ lw_all := lw_g (lw_at lw_m8 30 rfl) rfl
theorem q1787 : (Jvm.Cond.methodLink "DatedContactsModel" (136 : Nat) ({ cls := "DatedContactsModel", name := "must", desc := "(ZI)V" } : Jvm.MethodName)) ∈ lw_all := lw_g (lw_at lw_m8 31 rfl) rfl
theorem q1788 : (Jvm.Cond.privateMethod ({ cls := "DatedContactsModel", name := "must", desc := "(ZI)V" } : Jvm.MethodName)) ∈ lw_tbl := lw_at lw_m8 32 rfl
theorem q1789 : (Jvm.Cond.instanceMethod ({ cls := "DatedContactsModel", name := "must", desc := "(ZI)V" } : Jvm.MethodName)) ∈ lw_all := lw_g (lw_at lw_m8 33 rfl) rfl
theorem q1790 : (Jvm.Cond.code ({ cls := "DatedContactsModel", name := "must", desc := "(ZI)V" } : Jvm.MethodName) prog_21_method_25_code (3 : Nat) (Option.none : Option Jvm.ClassFile.FieldType)) ∈ lw_all := lw_g (lw_at lw_m8 34 rfl) rfl
theorem q1791 : (Jvm.Cond.methodLink "DatedContactsModel" (146 : Nat) ({ cls := "DatedContactsModel", name := "isLetter", desc := "(I)Z" } : Jvm.MethodName)) ∈ lw_all := lw_g (lw_at lw_m8 35 rfl) rfl
theorem q1792 : (Jvm.Cond.privateMethod ({ cls := "DatedContactsModel", name := "isLetter", desc := "(I)Z" } : Jvm.MethodName)) ∈ lw_tbl := lw_at lw_m8 36 rfl
theorem q1793 : (Jvm.Cond.instanceMethod ({ cls := "DatedContactsModel", name := "isLetter", desc := "(I)Z" } : Jvm.MethodName)) ∈ lw_all := lw_g (lw_at lw_m8 37 rfl) rfl
theorem q1794 : (Jvm.Cond.code ({ cls := "DatedContactsModel", name := "isLetter", desc := "(I)Z" } : Jvm.MethodName) prog_21_method_26_code (2 : Nat) (Option.some Jvm.ClassFile.FieldType.boolean)) ∈ lw_all := lw_g (lw_at lw_m8 38 rfl) rfl
theorem q1795 : (Jvm.Cond.methodLink "DatedContactsModel" (149 : Nat) ({ cls := "DatedContactsModel", name := "readsContact", desc := "()V" } : Jvm.MethodName)) ∈ lw_all := lw_g (lw_at lw_m8 39 rfl) rfl
theorem q1796 : (Jvm.Cond.privateMethod ({ cls := "DatedContactsModel", name := "readsContact", desc := "()V" } : Jvm.MethodName)) ∈ lw_tbl := lw_at lw_m8 40 rfl
theorem q1797 : (Jvm.Cond.instanceMethod ({ cls := "DatedContactsModel", name := "readsContact", desc := "()V" } : Jvm.MethodName)) ∈ lw_all := lw_g (lw_at lw_m8 41 rfl) rfl
theorem q1798 : (Jvm.Cond.code ({ cls := "DatedContactsModel", name := "readsContact", desc := "()V" } : Jvm.MethodName) prog_21_method_28_code (5 : Nat) (Option.none : Option Jvm.ClassFile.FieldType)) ∈ lw_all := lw_g (lw_at lw_m8 42 rfl) rfl
theorem q1799 : (Jvm.Cond.methodLink "DatedContactsModel" (152 : Nat) ({ cls := "DatedContactsModel", name := "readsIll", desc := "()V" } : Jvm.MethodName)) ∈ lw_all := lw_g (lw_at lw_m8 43 rfl) rfl
theorem q1800 : (Jvm.Cond.privateMethod ({ cls := "DatedContactsModel", name := "readsIll", desc := "()V" } : Jvm.MethodName)) ∈ lw_tbl := lw_at lw_m8 44 rfl
theorem q1801 : (Jvm.Cond.instanceMethod ({ cls := "DatedContactsModel", name := "readsIll", desc := "()V" } : Jvm.MethodName)) ∈ lw_all := lw_g (lw_at lw_m8 45 rfl) rfl
theorem q1802 : (Jvm.Cond.code ({ cls := "DatedContactsModel", name := "readsIll", desc := "()V" } : Jvm.MethodName) prog_21_method_29_code (3 : Nat) (Option.none : Option Jvm.ClassFile.FieldType)) ∈ lw_all := lw_g (lw_at lw_m8 46 rfl) rfl
theorem q1803 : (Jvm.Cond.constant "DatedContactsModel" (155 : Nat) (-1000100 : Int32)) ∈ lw_all := lw_g (lw_at lw_m8 47 rfl) rfl
theorem q1804 : (Jvm.Cond.methodLink "DatedContactsModel" (156 : Nat) ({ cls := "DatedContactsModel", name := "copies", desc := "([II[II)V" } : Jvm.MethodName)) ∈ lw_all := lw_g (lw_at lw_m8 48 rfl) rfl
theorem q1805 : (Jvm.Cond.static ({ cls := "DatedContactsModel", name := "copies", desc := "([II[II)V" } : Jvm.MethodName)) ∈ lw_all := lw_g (lw_at lw_m8 49 rfl) rfl
theorem q1806 : (Jvm.Cond.code ({ cls := "DatedContactsModel", name := "copies", desc := "([II[II)V" } : Jvm.MethodName) prog_21_method_8_code (5 : Nat) (Option.none : Option Jvm.ClassFile.FieldType)) ∈ lw_all := lw_g (lw_at lw_m8 50 rfl) rfl
theorem q1808 : (Jvm.Cond.instanceMethod ({ cls := "DatedContactsModel", name := "fault", desc := "()I" } : Jvm.MethodName)) ∈ lw_all := lw_g (lw_at lw_m8 52 rfl) rfl
theorem q1809 : (Jvm.Cond.selects "DatedContactsModel" ({ cls := "DatedContactsModel", name := "fault", desc := "()I" } : Jvm.MethodName) ({ cls := "DatedContactsModel", name := "fault", desc := "()I" } : Jvm.MethodName)) ∈ lw_all := lw_g (lw_at lw_m8 53 rfl) rfl
theorem q1810 : (Jvm.Cond.code ({ cls := "DatedContactsModel", name := "fault", desc := "()I" } : Jvm.MethodName) prog_21_method_31_code (1 : Nat) (Option.some Jvm.ClassFile.FieldType.int)) ∈ lw_all := lw_g (lw_at lw_m8 54 rfl) rfl
theorem q1812 : (Jvm.Cond.instanceMethod ({ cls := "DatedContactsModel", name := "meet", desc := "(III)I" } : Jvm.MethodName)) ∈ lw_all := lw_g (lw_at lw_m8 56 rfl) rfl
theorem q1813 : (Jvm.Cond.selects "DatedContactsModel" ({ cls := "DatedContactsModel", name := "meet", desc := "(III)I" } : Jvm.MethodName) ({ cls := "DatedContactsModel", name := "meet", desc := "(III)I" } : Jvm.MethodName)) ∈ lw_all := lw_g (lw_at lw_m8 57 rfl) rfl
theorem q1814 : (Jvm.Cond.code ({ cls := "DatedContactsModel", name := "meet", desc := "(III)I" } : Jvm.MethodName) prog_21_method_43_code (5 : Nat) (Option.some Jvm.ClassFile.FieldType.int)) ∈ lw_all := lw_g (lw_at lw_m8 58 rfl) rfl
theorem q1815 : (Jvm.Cond.methodLink "DatedContactsModel" (186 : Nat) ({ cls := "DatedContactsModel", name := "isPerson", desc := "(I)Z" } : Jvm.MethodName)) ∈ lw_all := lw_g (lw_at lw_m8 59 rfl) rfl
theorem q1816 : (Jvm.Cond.privateMethod ({ cls := "DatedContactsModel", name := "isPerson", desc := "(I)Z" } : Jvm.MethodName)) ∈ lw_tbl := lw_at lw_m8 60 rfl
theorem q1817 : (Jvm.Cond.instanceMethod ({ cls := "DatedContactsModel", name := "isPerson", desc := "(I)Z" } : Jvm.MethodName)) ∈ lw_all := lw_g (lw_at lw_m8 61 rfl) rfl
theorem q1818 : (Jvm.Cond.code ({ cls := "DatedContactsModel", name := "isPerson", desc := "(I)Z" } : Jvm.MethodName) prog_21_method_33_code (2 : Nat) (Option.some Jvm.ClassFile.FieldType.boolean)) ∈ lw_all := lw_g (lw_at lw_m8 62 rfl) rfl
theorem q1819 : (Jvm.Cond.methodLink "DatedContactsModel" (183 : Nat) ({ cls := "DatedContactsModel", name := "notes", desc := "()V" } : Jvm.MethodName)) ∈ lw_all := lw_g (lw_at lw_m8 63 rfl) rfl
theorem q1820 : (Jvm.Cond.privateMethod ({ cls := "DatedContactsModel", name := "notes", desc := "()V" } : Jvm.MethodName)) ∈ lw_tbl := lw_at lw_m8 64 rfl
theorem q1821 : (Jvm.Cond.instanceMethod ({ cls := "DatedContactsModel", name := "notes", desc := "()V" } : Jvm.MethodName)) ∈ lw_all := lw_g (lw_at lw_m8 65 rfl) rfl
theorem q1822 : (Jvm.Cond.code ({ cls := "DatedContactsModel", name := "notes", desc := "()V" } : Jvm.MethodName) prog_21_method_41_code (2 : Nat) (Option.none : Option Jvm.ClassFile.FieldType)) ∈ lw_all := lw_g (lw_at lw_m8 66 rfl) rfl
theorem q1824 : (Jvm.Cond.instanceMethod ({ cls := "DatedContactsModel", name := "part", desc := "(I)I" } : Jvm.MethodName)) ∈ lw_all := lw_g (lw_at lw_m8 68 rfl) rfl
theorem q1825 : (Jvm.Cond.selects "DatedContactsModel" ({ cls := "DatedContactsModel", name := "part", desc := "(I)I" } : Jvm.MethodName) ({ cls := "DatedContactsModel", name := "part", desc := "(I)I" } : Jvm.MethodName)) ∈ lw_all := lw_g (lw_at lw_m8 69 rfl) rfl
theorem q1826 : (Jvm.Cond.code ({ cls := "DatedContactsModel", name := "part", desc := "(I)I" } : Jvm.MethodName) prog_21_method_44_code (3 : Nat) (Option.some Jvm.ClassFile.FieldType.int)) ∈ lw_all := lw_g (lw_at lw_m8 70 rfl) rfl
theorem q1827 : (Jvm.Cond.methodLink "DatedContactsModel" (189 : Nat) ({ cls := "DatedContactsModel", name := "isContact", desc := "(I)Z" } : Jvm.MethodName)) ∈ lw_all := lw_g (lw_at lw_m8 71 rfl) rfl
theorem q1828 : (Jvm.Cond.privateMethod ({ cls := "DatedContactsModel", name := "isContact", desc := "(I)Z" } : Jvm.MethodName)) ∈ lw_tbl := lw_at lw_m8 72 rfl
theorem q1829 : (Jvm.Cond.instanceMethod ({ cls := "DatedContactsModel", name := "isContact", desc := "(I)Z" } : Jvm.MethodName)) ∈ lw_all := lw_g (lw_at lw_m8 73 rfl) rfl
theorem q1830 : (Jvm.Cond.code ({ cls := "DatedContactsModel", name := "isContact", desc := "(I)Z" } : Jvm.MethodName) prog_21_method_34_code (2 : Nat) (Option.some Jvm.ClassFile.FieldType.boolean)) ∈ lw_all := lw_g (lw_at lw_m8 74 rfl) rfl
theorem q1832 : (Jvm.Cond.instanceMethod ({ cls := "DatedContactsModel", name := "date", desc := "(II)I" } : Jvm.MethodName)) ∈ lw_all := lw_g (lw_at lw_m8 76 rfl) rfl
theorem q1833 : (Jvm.Cond.selects "DatedContactsModel" ({ cls := "DatedContactsModel", name := "date", desc := "(II)I" } : Jvm.MethodName) ({ cls := "DatedContactsModel", name := "date", desc := "(II)I" } : Jvm.MethodName)) ∈ lw_all := lw_g (lw_at lw_m8 77 rfl) rfl
theorem q1834 : (Jvm.Cond.code ({ cls := "DatedContactsModel", name := "date", desc := "(II)I" } : Jvm.MethodName) prog_21_method_45_code (4 : Nat) (Option.some Jvm.ClassFile.FieldType.int)) ∈ lw_all := lw_g (lw_at lw_m8 78 rfl) rfl
theorem q1835 : (Jvm.Cond.constant "DatedContactsModel" (192 : Nat) (-1000002 : Int32)) ∈ lw_all := lw_g (lw_at lw_m8 79 rfl) rfl
theorem q1836 : (Jvm.Cond.methodLink "DatedContactsModel" (193 : Nat) ({ cls := "DatedContactsModel", name := "becomes", desc := "(II)I" } : Jvm.MethodName)) ∈ lw_all := lw_g (lw_at lw_m8 80 rfl) rfl
theorem q1837 : (Jvm.Cond.privateMethod ({ cls := "DatedContactsModel", name := "becomes", desc := "(II)I" } : Jvm.MethodName)) ∈ lw_tbl := lw_at lw_m8 81 rfl
theorem q1838 : (Jvm.Cond.instanceMethod ({ cls := "DatedContactsModel", name := "becomes", desc := "(II)I" } : Jvm.MethodName)) ∈ lw_all := lw_g (lw_at lw_m8 82 rfl) rfl
theorem q1839 : (Jvm.Cond.code ({ cls := "DatedContactsModel", name := "becomes", desc := "(II)I" } : Jvm.MethodName) prog_21_method_42_code (4 : Nat) (Option.some Jvm.ClassFile.FieldType.int)) ∈ lw_all := lw_g (lw_at lw_m8 83 rfl) rfl
theorem q1841 : (Jvm.Cond.instanceMethod ({ cls := "DatedContactsModel", name := "ill", desc := "(II)I" } : Jvm.MethodName)) ∈ lw_all := lw_g (lw_at lw_m8 85 rfl) rfl
theorem q1842 : (Jvm.Cond.selects "DatedContactsModel" ({ cls := "DatedContactsModel", name := "ill", desc := "(II)I" } : Jvm.MethodName) ({ cls := "DatedContactsModel", name := "ill", desc := "(II)I" } : Jvm.MethodName)) ∈ lw_all := lw_g (lw_at lw_m8 86 rfl) rfl
theorem q1843 : (Jvm.Cond.code ({ cls := "DatedContactsModel", name := "ill", desc := "(II)I" } : Jvm.MethodName) prog_21_method_46_code (4 : Nat) (Option.some Jvm.ClassFile.FieldType.int)) ∈ lw_all := lw_g (lw_at lw_m8 87 rfl) rfl
theorem q1845 : (Jvm.Cond.instanceMethod ({ cls := "DatedContactsModel", name := "window", desc := "(II)I" } : Jvm.MethodName)) ∈ lw_all := lw_g (lw_at lw_m8 89 rfl) rfl
theorem q1846 : (Jvm.Cond.selects "DatedContactsModel" ({ cls := "DatedContactsModel", name := "window", desc := "(II)I" } : Jvm.MethodName) ({ cls := "DatedContactsModel", name := "window", desc := "(II)I" } : Jvm.MethodName)) ∈ lw_all := lw_g (lw_at lw_m8 90 rfl) rfl
theorem q1847 : (Jvm.Cond.code ({ cls := "DatedContactsModel", name := "window", desc := "(II)I" } : Jvm.MethodName) prog_21_method_47_code (4 : Nat) (Option.some Jvm.ClassFile.FieldType.int)) ∈ lw_all := lw_g (lw_at lw_m8 91 rfl) rfl
theorem q1848 : (Jvm.Cond.methodLink "DatedContactsModel" (196 : Nat) ({ cls := "DatedContactsModel", name := "isNet", desc := "()Z" } : Jvm.MethodName)) ∈ lw_all := lw_g (lw_at lw_m8 92 rfl) rfl
theorem q1849 : (Jvm.Cond.privateMethod ({ cls := "DatedContactsModel", name := "isNet", desc := "()Z" } : Jvm.MethodName)) ∈ lw_tbl := lw_at lw_m8 93 rfl
theorem q1850 : (Jvm.Cond.instanceMethod ({ cls := "DatedContactsModel", name := "isNet", desc := "()Z" } : Jvm.MethodName)) ∈ lw_all := lw_g (lw_at lw_m8 94 rfl) rfl
theorem q1851 : (Jvm.Cond.code ({ cls := "DatedContactsModel", name := "isNet", desc := "()Z" } : Jvm.MethodName) prog_21_method_32_code (1 : Nat) (Option.some Jvm.ClassFile.FieldType.boolean)) ∈ lw_all := lw_g (lw_at lw_m8 95 rfl) rfl
theorem q1853 : (Jvm.Cond.instanceMethod ({ cls := "DatedContactsModel", name := "become", desc := "(II)I" } : Jvm.MethodName)) ∈ lw_all := lw_g (lw_at lw_m8 97 rfl) rfl
theorem q1854 : (Jvm.Cond.selects "DatedContactsModel" ({ cls := "DatedContactsModel", name := "become", desc := "(II)I" } : Jvm.MethodName) ({ cls := "DatedContactsModel", name := "become", desc := "(II)I" } : Jvm.MethodName)) ∈ lw_all := lw_g (lw_at lw_m8 98 rfl) rfl
theorem q1855 : (Jvm.Cond.code ({ cls := "DatedContactsModel", name := "become", desc := "(II)I" } : Jvm.MethodName) prog_21_method_48_code (3 : Nat) (Option.some Jvm.ClassFile.FieldType.int)) ∈ lw_all := lw_g (lw_at lw_m8 99 rfl) rfl
theorem q1857 : (Jvm.Cond.instanceMethod ({ cls := "DatedContactsModel", name := "undo", desc := "()I" } : Jvm.MethodName)) ∈ lw_all := lw_g (lw_at lw_m8 101 rfl) rfl
theorem q1858 : (Jvm.Cond.selects "DatedContactsModel" ({ cls := "DatedContactsModel", name := "undo", desc := "()I" } : Jvm.MethodName) ({ cls := "DatedContactsModel", name := "undo", desc := "()I" } : Jvm.MethodName)) ∈ lw_all := lw_g (lw_at lw_m8 102 rfl) rfl
theorem q1859 : (Jvm.Cond.code ({ cls := "DatedContactsModel", name := "undo", desc := "()I" } : Jvm.MethodName) prog_21_method_49_code (1 : Nat) (Option.some Jvm.ClassFile.FieldType.int)) ∈ lw_all := lw_g (lw_at lw_m8 103 rfl) rfl
theorem q1861 : (Jvm.Cond.instanceMethod ({ cls := "DatedContactsModel", name := "person", desc := "(II)I" } : Jvm.MethodName)) ∈ lw_all := lw_g (lw_at lw_m8 105 rfl) rfl
theorem q1862 : (Jvm.Cond.selects "DatedContactsModel" ({ cls := "DatedContactsModel", name := "person", desc := "(II)I" } : Jvm.MethodName) ({ cls := "DatedContactsModel", name := "person", desc := "(II)I" } : Jvm.MethodName)) ∈ lw_all := lw_g (lw_at lw_m8 106 rfl) rfl
theorem q1863 : (Jvm.Cond.code ({ cls := "DatedContactsModel", name := "person", desc := "(II)I" } : Jvm.MethodName) prog_21_method_50_code (3 : Nat) (Option.some Jvm.ClassFile.FieldType.int)) ∈ lw_all := lw_g (lw_at lw_m8 107 rfl) rfl
theorem q1864 : (Jvm.Cond.methodLink "DatedContactsModel" (163 : Nat) ({ cls := "DatedContactsModel", name := "windowOf", desc := "([III)I" } : Jvm.MethodName)) ∈ lw_all := lw_g (lw_at lw_m8 108 rfl) rfl
theorem q1865 : (Jvm.Cond.static ({ cls := "DatedContactsModel", name := "windowOf", desc := "([III)I" } : Jvm.MethodName)) ∈ lw_all := lw_g (lw_at lw_m8 109 rfl) rfl
theorem q1866 : (Jvm.Cond.code ({ cls := "DatedContactsModel", name := "windowOf", desc := "([III)I" } : Jvm.MethodName) prog_21_method_35_code (4 : Nat) (Option.some Jvm.ClassFile.FieldType.int)) ∈ lw_all := lw_g (lw_at lw_m8 110 rfl) rfl
theorem q1867 : (Jvm.Cond.methodLink "DatedContactsModel" (199 : Nat) ({ cls := "DatedContactsModel", name := "contactsOf", desc := "([II)I" } : Jvm.MethodName)) ∈ lw_all := lw_g (lw_at lw_m8 111 rfl) rfl
theorem q1868 : (Jvm.Cond.privateMethod ({ cls := "DatedContactsModel", name := "contactsOf", desc := "([II)I" } : Jvm.MethodName)) ∈ lw_tbl := lw_at lw_m8 112 rfl
theorem q1869 : (Jvm.Cond.instanceMethod ({ cls := "DatedContactsModel", name := "contactsOf", desc := "([II)I" } : Jvm.MethodName)) ∈ lw_all := lw_g (lw_at lw_m8 113 rfl) rfl
theorem q1870 : (Jvm.Cond.code ({ cls := "DatedContactsModel", name := "contactsOf", desc := "([II)I" } : Jvm.MethodName) prog_21_method_40_code (5 : Nat) (Option.some Jvm.ClassFile.FieldType.int)) ∈ lw_all := lw_g (lw_at lw_m8 114 rfl) rfl
theorem q1872 : (Jvm.Cond.instanceMethod ({ cls := "DatedContactsModel", name := "contact", desc := "(II)I" } : Jvm.MethodName)) ∈ lw_all := lw_g (lw_at lw_m8 116 rfl) rfl
theorem q1873 : (Jvm.Cond.selects "DatedContactsModel" ({ cls := "DatedContactsModel", name := "contact", desc := "(II)I" } : Jvm.MethodName) ({ cls := "DatedContactsModel", name := "contact", desc := "(II)I" } : Jvm.MethodName)) ∈ lw_all := lw_g (lw_at lw_m8 117 rfl) rfl
theorem q1874 : (Jvm.Cond.code ({ cls := "DatedContactsModel", name := "contact", desc := "(II)I" } : Jvm.MethodName) prog_21_method_51_code (3 : Nat) (Option.some Jvm.ClassFile.FieldType.int)) ∈ lw_all := lw_g (lw_at lw_m8 118 rfl) rfl
theorem q1876 : (Jvm.Cond.instanceMethod ({ cls := "DatedContactsModel", name := "days", desc := "(III)I" } : Jvm.MethodName)) ∈ lw_all := lw_g (lw_at lw_m8 120 rfl) rfl
theorem q1877 : (Jvm.Cond.selects "DatedContactsModel" ({ cls := "DatedContactsModel", name := "days", desc := "(III)I" } : Jvm.MethodName) ({ cls := "DatedContactsModel", name := "days", desc := "(III)I" } : Jvm.MethodName)) ∈ lw_all := lw_g (lw_at lw_m8 121 rfl) rfl
theorem q1878 : (Jvm.Cond.code ({ cls := "DatedContactsModel", name := "days", desc := "(III)I" } : Jvm.MethodName) prog_21_method_53_code (4 : Nat) (Option.some Jvm.ClassFile.FieldType.int)) ∈ lw_all := lw_g (lw_at lw_m8 122 rfl) rfl
theorem q1879 : (Jvm.Cond.methodLink "DatedContactsModel" (203 : Nat) ({ cls := "DatedContactsModel", name := "isFrom", desc := "(II)Z" } : Jvm.MethodName)) ∈ lw_all := lw_g (lw_at lw_m8 123 rfl) rfl
theorem q1880 : (Jvm.Cond.privateMethod ({ cls := "DatedContactsModel", name := "isFrom", desc := "(II)Z" } : Jvm.MethodName)) ∈ lw_tbl := lw_at lw_m8 124 rfl
theorem q1881 : (Jvm.Cond.instanceMethod ({ cls := "DatedContactsModel", name := "isFrom", desc := "(II)Z" } : Jvm.MethodName)) ∈ lw_all := lw_g (lw_at lw_m8 125 rfl) rfl
theorem q1882 : (Jvm.Cond.code ({ cls := "DatedContactsModel", name := "isFrom", desc := "(II)Z" } : Jvm.MethodName) prog_21_method_52_code (3 : Nat) (Option.some Jvm.ClassFile.FieldType.boolean)) ∈ lw_all := lw_g (lw_at lw_m8 126 rfl) rfl
theorem q1883 : (Jvm.Cond.methodLink "DatedContactsModel" (206 : Nat) ({ cls := "DatedContactsModel", name := "walks", desc := "([IIII)V" } : Jvm.MethodName)) ∈ lw_all := lw_g (lw_at lw_m8 127 rfl) rfl
theorem q1884 : (Jvm.Cond.privateMethod ({ cls := "DatedContactsModel", name := "walks", desc := "([IIII)V" } : Jvm.MethodName)) ∈ lw_tbl := lw_at lw_m8 128 rfl
theorem q1885 : (Jvm.Cond.instanceMethod ({ cls := "DatedContactsModel", name := "walks", desc := "([IIII)V" } : Jvm.MethodName)) ∈ lw_all := lw_g (lw_at lw_m8 129 rfl) rfl
theorem q1886 : (Jvm.Cond.code ({ cls := "DatedContactsModel", name := "walks", desc := "([IIII)V" } : Jvm.MethodName) prog_21_method_39_code (8 : Nat) (Option.none : Option Jvm.ClassFile.FieldType)) ∈ lw_all := lw_g (lw_at lw_m8 130 rfl) rfl
theorem q1887 : (Jvm.Cond.methodLink "DatedContactsModel" (167 : Nat) ({ cls := "DatedContactsModel", name := "has", desc := "(II)Z" } : Jvm.MethodName)) ∈ lw_all := lw_g (lw_at lw_m8 131 rfl) rfl
theorem q1888 : (Jvm.Cond.static ({ cls := "DatedContactsModel", name := "has", desc := "(II)Z" } : Jvm.MethodName)) ∈ lw_all := lw_g (lw_at lw_m8 132 rfl) rfl
theorem q1889 : (Jvm.Cond.code ({ cls := "DatedContactsModel", name := "has", desc := "(II)Z" } : Jvm.MethodName) prog_21_method_4_code (2 : Nat) (Option.some Jvm.ClassFile.FieldType.boolean)) ∈ lw_all := lw_g (lw_at lw_m8 133 rfl) rfl
theorem q1890 : (Jvm.Cond.methodLink "DatedContactsModel" (179 : Nat) ({ cls := "DatedContactsModel", name := "gives", desc := "([IIII)V" } : Jvm.MethodName)) ∈ lw_all := lw_g (lw_at lw_m8 134 rfl) rfl
theorem q1891 : (Jvm.Cond.privateMethod ({ cls := "DatedContactsModel", name := "gives", desc := "([IIII)V" } : Jvm.MethodName)) ∈ lw_tbl := lw_at lw_m8 135 rfl
theorem q1892 : (Jvm.Cond.instanceMethod ({ cls := "DatedContactsModel", name := "gives", desc := "([IIII)V" } : Jvm.MethodName)) ∈ lw_all := lw_g (lw_at lw_m8 136 rfl) rfl
theorem q1893 : (Jvm.Cond.code ({ cls := "DatedContactsModel", name := "gives", desc := "([IIII)V" } : Jvm.MethodName) prog_21_method_38_code (5 : Nat) (Option.none : Option Jvm.ClassFile.FieldType)) ∈ lw_all := lw_g (lw_at lw_m8 137 rfl) rfl
theorem q1894 : (Jvm.Cond.methodLink "DatedContactsModel" (175 : Nat) ({ cls := "DatedContactsModel", name := "passes", desc := "([III)Z" } : Jvm.MethodName)) ∈ lw_all := lw_g (lw_at lw_m8 138 rfl) rfl
theorem q1895 : (Jvm.Cond.privateMethod ({ cls := "DatedContactsModel", name := "passes", desc := "([III)Z" } : Jvm.MethodName)) ∈ lw_tbl := lw_at lw_m8 139 rfl
theorem q1896 : (Jvm.Cond.instanceMethod ({ cls := "DatedContactsModel", name := "passes", desc := "([III)Z" } : Jvm.MethodName)) ∈ lw_all := lw_g (lw_at lw_m8 140 rfl) rfl
theorem q1897 : (Jvm.Cond.code ({ cls := "DatedContactsModel", name := "passes", desc := "([III)Z" } : Jvm.MethodName) prog_21_method_37_code (6 : Nat) (Option.some Jvm.ClassFile.FieldType.boolean)) ∈ lw_all := lw_g (lw_at lw_m8 141 rfl) rfl
theorem q1898 : (Jvm.Cond.methodLink "DatedContactsModel" (171 : Nat) ({ cls := "DatedContactsModel", name := "mayPass", desc := "([IIII)Z" } : Jvm.MethodName)) ∈ lw_all := lw_g (lw_at lw_m8 142 rfl) rfl
theorem q1899 : (Jvm.Cond.static ({ cls := "DatedContactsModel", name := "mayPass", desc := "([IIII)Z" } : Jvm.MethodName)) ∈ lw_all := lw_g (lw_at lw_m8 143 rfl) rfl
theorem q1900 : (Jvm.Cond.code ({ cls := "DatedContactsModel", name := "mayPass", desc := "([IIII)Z" } : Jvm.MethodName) prog_21_method_36_code (5 : Nat) (Option.some Jvm.ClassFile.FieldType.boolean)) ∈ lw_all := lw_g (lw_at lw_m8 144 rfl) rfl
theorem q1902 : (Jvm.Cond.instanceMethod ({ cls := "DatedContactsModel", name := "givers", desc := "(III)I" } : Jvm.MethodName)) ∈ lw_all := lw_g (lw_at lw_m8 146 rfl) rfl
theorem q1903 : (Jvm.Cond.selects "DatedContactsModel" ({ cls := "DatedContactsModel", name := "givers", desc := "(III)I" } : Jvm.MethodName) ({ cls := "DatedContactsModel", name := "givers", desc := "(III)I" } : Jvm.MethodName)) ∈ lw_all := lw_g (lw_at lw_m8 147 rfl) rfl
theorem q1904 : (Jvm.Cond.code ({ cls := "DatedContactsModel", name := "givers", desc := "(III)I" } : Jvm.MethodName) prog_21_method_54_code (4 : Nat) (Option.some Jvm.ClassFile.FieldType.int)) ∈ lw_all := lw_g (lw_at lw_m8 148 rfl) rfl
theorem q1906 : (Jvm.Cond.instanceMethod ({ cls := "DatedContactsModel", name := "chain", desc := "(IIII)I" } : Jvm.MethodName)) ∈ lw_all := lw_g (lw_at lw_m8 150 rfl) rfl
theorem q1907 : (Jvm.Cond.selects "DatedContactsModel" ({ cls := "DatedContactsModel", name := "chain", desc := "(IIII)I" } : Jvm.MethodName) ({ cls := "DatedContactsModel", name := "chain", desc := "(IIII)I" } : Jvm.MethodName)) ∈ lw_all := lw_g (lw_at lw_m8 151 rfl) rfl
theorem q1908 : (Jvm.Cond.code ({ cls := "DatedContactsModel", name := "chain", desc := "(IIII)I" } : Jvm.MethodName) prog_21_method_59_code (5 : Nat) (Option.some Jvm.ClassFile.FieldType.int)) ∈ lw_all := lw_g (lw_at lw_m8 152 rfl) rfl
theorem q1909 : (Jvm.Cond.methodLink "DatedContactsModel" (223 : Nat) ({ cls := "DatedContactsModel", name := "isLinked", desc := "(III)Z" } : Jvm.MethodName)) ∈ lw_all := lw_g (lw_at lw_m8 153 rfl) rfl
theorem q1910 : (Jvm.Cond.privateMethod ({ cls := "DatedContactsModel", name := "isLinked", desc := "(III)Z" } : Jvm.MethodName)) ∈ lw_tbl := lw_at lw_m8 154 rfl
theorem q1911 : (Jvm.Cond.instanceMethod ({ cls := "DatedContactsModel", name := "isLinked", desc := "(III)Z" } : Jvm.MethodName)) ∈ lw_all := lw_g (lw_at lw_m8 155 rfl) rfl
theorem q1912 : (Jvm.Cond.code ({ cls := "DatedContactsModel", name := "isLinked", desc := "(III)Z" } : Jvm.MethodName) prog_21_method_58_code (8 : Nat) (Option.some Jvm.ClassFile.FieldType.boolean)) ∈ lw_all := lw_g (lw_at lw_m8 156 rfl) rfl
theorem q1913 : (Jvm.Cond.methodLink "DatedContactsModel" (209 : Nat) ({ cls := "DatedContactsModel", name := "whoOf", desc := "(II)I" } : Jvm.MethodName)) ∈ lw_all := lw_g (lw_at lw_m8 157 rfl) rfl
theorem q1914 : (Jvm.Cond.privateMethod ({ cls := "DatedContactsModel", name := "whoOf", desc := "(II)I" } : Jvm.MethodName)) ∈ lw_tbl := lw_at lw_m8 158 rfl
theorem q1915 : (Jvm.Cond.instanceMethod ({ cls := "DatedContactsModel", name := "whoOf", desc := "(II)I" } : Jvm.MethodName)) ∈ lw_all := lw_g (lw_at lw_m8 159 rfl) rfl
theorem q1916 : (Jvm.Cond.code ({ cls := "DatedContactsModel", name := "whoOf", desc := "(II)I" } : Jvm.MethodName) prog_21_method_55_code (3 : Nat) (Option.some Jvm.ClassFile.FieldType.int)) ∈ lw_all := lw_g (lw_at lw_m8 160 rfl) rfl
theorem q1917 : (Jvm.Cond.methodLink "DatedContactsModel" (216 : Nat) ({ cls := "DatedContactsModel", name := "fewest", desc := "(III)I" } : Jvm.MethodName)) ∈ lw_all := lw_g (lw_at lw_m8 161 rfl) rfl
theorem q1918 : (Jvm.Cond.privateMethod ({ cls := "DatedContactsModel", name := "fewest", desc := "(III)I" } : Jvm.MethodName)) ∈ lw_tbl := lw_at lw_m8 162 rfl
theorem q1919 : (Jvm.Cond.instanceMethod ({ cls := "DatedContactsModel", name := "fewest", desc := "(III)I" } : Jvm.MethodName)) ∈ lw_all := lw_g (lw_at lw_m8 163 rfl) rfl
theorem q1920 : (Jvm.Cond.code ({ cls := "DatedContactsModel", name := "fewest", desc := "(III)I" } : Jvm.MethodName) prog_21_method_57_code (8 : Nat) (Option.some Jvm.ClassFile.FieldType.int)) ∈ lw_all := lw_g (lw_at lw_m8 164 rfl) rfl
theorem q1921 : (Jvm.Cond.methodLink "DatedContactsModel" (212 : Nat) ({ cls := "DatedContactsModel", name := "mayGive", desc := "(IIII)Z" } : Jvm.MethodName)) ∈ lw_all := lw_g (lw_at lw_m8 165 rfl) rfl
theorem q1922 : (Jvm.Cond.privateMethod ({ cls := "DatedContactsModel", name := "mayGive", desc := "(IIII)Z" } : Jvm.MethodName)) ∈ lw_tbl := lw_at lw_m8 166 rfl
theorem q1923 : (Jvm.Cond.instanceMethod ({ cls := "DatedContactsModel", name := "mayGive", desc := "(IIII)Z" } : Jvm.MethodName)) ∈ lw_all := lw_g (lw_at lw_m8 167 rfl) rfl
theorem q1924 : (Jvm.Cond.code ({ cls := "DatedContactsModel", name := "mayGive", desc := "(IIII)Z" } : Jvm.MethodName) prog_21_method_56_code (5 : Nat) (Option.some Jvm.ClassFile.FieldType.boolean)) ∈ lw_all := lw_g (lw_at lw_m8 168 rfl) rfl
theorem q1926 : (Jvm.Cond.instanceMethod ({ cls := "DatedContactsModel", name := "written", desc := "(IIII)I" } : Jvm.MethodName)) ∈ lw_all := lw_g (lw_at lw_m8 170 rfl) rfl
theorem q1927 : (Jvm.Cond.selects "DatedContactsModel" ({ cls := "DatedContactsModel", name := "written", desc := "(IIII)I" } : Jvm.MethodName) ({ cls := "DatedContactsModel", name := "written", desc := "(IIII)I" } : Jvm.MethodName)) ∈ lw_all := lw_g (lw_at lw_m8 171 rfl) rfl
theorem q1928 : (Jvm.Cond.code ({ cls := "DatedContactsModel", name := "written", desc := "(IIII)I" } : Jvm.MethodName) prog_21_method_62_code (7 : Nat) (Option.some Jvm.ClassFile.FieldType.int)) ∈ lw_all := lw_g (lw_at lw_m8 172 rfl) rfl
theorem q1929 : (Jvm.Cond.methodLink "DatedContactsModel" (232 : Nat) ({ cls := "DatedContactsModel", name := "figures", desc := "(I)V" } : Jvm.MethodName)) ∈ lw_all := lw_g (lw_at lw_m8 173 rfl) rfl
theorem q1930 : (Jvm.Cond.privateMethod ({ cls := "DatedContactsModel", name := "figures", desc := "(I)V" } : Jvm.MethodName)) ∈ lw_tbl := lw_at lw_m8 174 rfl
theorem q1931 : (Jvm.Cond.instanceMethod ({ cls := "DatedContactsModel", name := "figures", desc := "(I)V" } : Jvm.MethodName)) ∈ lw_all := lw_g (lw_at lw_m8 175 rfl) rfl
theorem q1932 : (Jvm.Cond.code ({ cls := "DatedContactsModel", name := "figures", desc := "(I)V" } : Jvm.MethodName) prog_21_method_61_code (2 : Nat) (Option.none : Option Jvm.ClassFile.FieldType)) ∈ lw_all := lw_g (lw_at lw_m8 176 rfl) rfl
theorem q1933 : (Jvm.Cond.methodLink "DatedContactsModel" (229 : Nat) ({ cls := "DatedContactsModel", name := "signs", desc := "(I)V" } : Jvm.MethodName)) ∈ lw_all := lw_g (lw_at lw_m8 177 rfl) rfl
theorem q1934 : (Jvm.Cond.privateMethod ({ cls := "DatedContactsModel", name := "signs", desc := "(I)V" } : Jvm.MethodName)) ∈ lw_tbl := lw_at lw_m8 178 rfl
theorem q1935 : (Jvm.Cond.instanceMethod ({ cls := "DatedContactsModel", name := "signs", desc := "(I)V" } : Jvm.MethodName)) ∈ lw_all := lw_g (lw_at lw_m8 179 rfl) rfl
theorem q1936 : (Jvm.Cond.code ({ cls := "DatedContactsModel", name := "signs", desc := "(I)V" } : Jvm.MethodName) prog_21_method_60_code (2 : Nat) (Option.none : Option Jvm.ClassFile.FieldType)) ∈ lw_all := lw_g (lw_at lw_m8 180 rfl) rfl
theorem q1938 : (Jvm.Cond.instanceMethod ({ cls := "DatedContactsModel", name := "accounts", desc := "(I)I" } : Jvm.MethodName)) ∈ lw_all := lw_g (lw_at lw_m8 182 rfl) rfl
theorem q1939 : (Jvm.Cond.selects "DatedContactsModel" ({ cls := "DatedContactsModel", name := "accounts", desc := "(I)I" } : Jvm.MethodName) ({ cls := "DatedContactsModel", name := "accounts", desc := "(I)I" } : Jvm.MethodName)) ∈ lw_all := lw_g (lw_at lw_m8 183 rfl) rfl
theorem q1940 : (Jvm.Cond.code ({ cls := "DatedContactsModel", name := "accounts", desc := "(I)I" } : Jvm.MethodName) prog_21_method_65_code (2 : Nat) (Option.some Jvm.ClassFile.FieldType.int)) ∈ lw_all := lw_g (lw_at lw_m8 184 rfl) rfl
theorem q1941 : (Jvm.Cond.methodLink "DatedContactsModel" (238 : Nat) ({ cls := "DatedContactsModel", name := "daysAs", desc := "(I)I" } : Jvm.MethodName)) ∈ lw_all := lw_g (lw_at lw_m8 185 rfl) rfl
theorem q1942 : (Jvm.Cond.privateMethod ({ cls := "DatedContactsModel", name := "daysAs", desc := "(I)I" } : Jvm.MethodName)) ∈ lw_tbl := lw_at lw_m8 186 rfl
theorem q1943 : (Jvm.Cond.instanceMethod ({ cls := "DatedContactsModel", name := "daysAs", desc := "(I)I" } : Jvm.MethodName)) ∈ lw_all := lw_g (lw_at lw_m8 187 rfl) rfl
theorem q1944 : (Jvm.Cond.code ({ cls := "DatedContactsModel", name := "daysAs", desc := "(I)I" } : Jvm.MethodName) prog_21_method_64_code (4 : Nat) (Option.some Jvm.ClassFile.FieldType.int)) ∈ lw_all := lw_g (lw_at lw_m8 188 rfl) rfl
theorem q1945 : (Jvm.Cond.methodLink "DatedContactsModel" (235 : Nat) ({ cls := "DatedContactsModel", name := "isSource", desc := "(II)Z" } : Jvm.MethodName)) ∈ lw_all := lw_g (lw_at lw_m8 189 rfl) rfl
theorem q1946 : (Jvm.Cond.privateMethod ({ cls := "DatedContactsModel", name := "isSource", desc := "(II)Z" } : Jvm.MethodName)) ∈ lw_tbl := lw_at lw_m8 190 rfl
theorem q1947 : (Jvm.Cond.instanceMethod ({ cls := "DatedContactsModel", name := "isSource", desc := "(II)Z" } : Jvm.MethodName)) ∈ lw_all := lw_g (lw_at lw_m8 191 rfl) rfl
theorem q1948 : (Jvm.Cond.code ({ cls := "DatedContactsModel", name := "isSource", desc := "(II)Z" } : Jvm.MethodName) prog_21_method_63_code (8 : Nat) (Option.some Jvm.ClassFile.FieldType.boolean)) ∈ lw_all := lw_g (lw_at lw_m8 192 rfl) rfl
theorem q1950 : (Jvm.Cond.instanceMethod ({ cls := "DatedContactsModel", name := "sources", desc := "()I" } : Jvm.MethodName)) ∈ lw_all := lw_g (lw_at lw_m8 194 rfl) rfl
theorem q1951 : (Jvm.Cond.selects "DatedContactsModel" ({ cls := "DatedContactsModel", name := "sources", desc := "()I" } : Jvm.MethodName) ({ cls := "DatedContactsModel", name := "sources", desc := "()I" } : Jvm.MethodName)) ∈ lw_all := lw_g (lw_at lw_m8 195 rfl) rfl
theorem q1952 : (Jvm.Cond.code ({ cls := "DatedContactsModel", name := "sources", desc := "()I" } : Jvm.MethodName) prog_21_method_66_code (3 : Nat) (Option.some Jvm.ClassFile.FieldType.int)) ∈ lw_all := lw_g (lw_at lw_m8 196 rfl) rfl
theorem q1954 : (Jvm.Cond.instanceMethod ({ cls := "DatedContactsModel", name := "cut", desc := "(III)I" } : Jvm.MethodName)) ∈ lw_all := lw_g (lw_at lw_m8 198 rfl) rfl
theorem q1955 : (Jvm.Cond.selects "DatedContactsModel" ({ cls := "DatedContactsModel", name := "cut", desc := "(III)I" } : Jvm.MethodName) ({ cls := "DatedContactsModel", name := "cut", desc := "(III)I" } : Jvm.MethodName)) ∈ lw_all := lw_g (lw_at lw_m8 199 rfl) rfl
theorem q1956 : (Jvm.Cond.code ({ cls := "DatedContactsModel", name := "cut", desc := "(III)I" } : Jvm.MethodName) prog_21_method_67_code (6 : Nat) (Option.some Jvm.ClassFile.FieldType.int)) ∈ lw_all := lw_g (lw_at lw_m8 200 rfl) rfl
theorem q1957 : (Jvm.Cond.methodLink "DatedContactsModel" (241 : Nat) ({ cls := "DatedContactsModel", name := "ones", desc := "(I)I" } : Jvm.MethodName)) ∈ lw_all := lw_g (lw_at lw_m8 201 rfl) rfl
theorem q1958 : (Jvm.Cond.static ({ cls := "DatedContactsModel", name := "ones", desc := "(I)I" } : Jvm.MethodName)) ∈ lw_all := lw_g (lw_at lw_m8 202 rfl) rfl
theorem q1959 : (Jvm.Cond.code ({ cls := "DatedContactsModel", name := "ones", desc := "(I)I" } : Jvm.MethodName) prog_21_method_5_code (3 : Nat) (Option.some Jvm.ClassFile.FieldType.int)) ∈ lw_all := lw_g (lw_at lw_m8 203 rfl) rfl
theorem q1961 : (Jvm.Cond.instanceMethod ({ cls := "DatedContactsModel", name := "common", desc := "(III)I" } : Jvm.MethodName)) ∈ lw_all := lw_g (lw_at lw_m8 205 rfl) rfl
theorem q1962 : (Jvm.Cond.selects "DatedContactsModel" ({ cls := "DatedContactsModel", name := "common", desc := "(III)I" } : Jvm.MethodName) ({ cls := "DatedContactsModel", name := "common", desc := "(III)I" } : Jvm.MethodName)) ∈ lw_all := lw_g (lw_at lw_m8 206 rfl) rfl
theorem q1963 : (Jvm.Cond.code ({ cls := "DatedContactsModel", name := "common", desc := "(III)I" } : Jvm.MethodName) prog_21_method_68_code (6 : Nat) (Option.some Jvm.ClassFile.FieldType.int)) ∈ lw_all := lw_g (lw_at lw_m8 207 rfl) rfl
theorem q1965 : (Jvm.Cond.instanceMethod ({ cls := "DatedContactsModel", name := "spared", desc := "(IIII)J" } : Jvm.MethodName)) ∈ lw_all := lw_g (lw_at lw_m8 209 rfl) rfl
theorem q1966 : (Jvm.Cond.selects "DatedContactsModel" ({ cls := "DatedContactsModel", name := "spared", desc := "(IIII)J" } : Jvm.MethodName) ({ cls := "DatedContactsModel", name := "spared", desc := "(IIII)J" } : Jvm.MethodName)) ∈ lw_all := lw_g (lw_at lw_m8 210 rfl) rfl
theorem q1967 : (Jvm.Cond.code ({ cls := "DatedContactsModel", name := "spared", desc := "(IIII)J" } : Jvm.MethodName) prog_21_method_70_code (13 : Nat) (Option.some Jvm.ClassFile.FieldType.long)) ∈ lw_all := lw_g (lw_at lw_m8 211 rfl) rfl
theorem q1968 : (Jvm.Cond.constantLong "DatedContactsModel" (244 : Nat) (-1000001 : Int64)) ∈ lw_all := lw_g (lw_at lw_m8 212 rfl) rfl
theorem q1969 : (Jvm.Cond.constantLong "DatedContactsModel" (246 : Nat) (10 : Int64)) ∈ lw_all := lw_g (lw_at lw_m8 213 rfl) rfl
theorem q1970 : (Jvm.Cond.methodLink "DatedContactsModel" (248 : Nat) ({ cls := "DatedContactsModel", name := "part", desc := "(JJI)J" } : Jvm.MethodName)) ∈ lw_all := lw_g (lw_at lw_m8 214 rfl) rfl
theorem q1971 : (Jvm.Cond.static ({ cls := "DatedContactsModel", name := "part", desc := "(JJI)J" } : Jvm.MethodName)) ∈ lw_all := lw_g (lw_at lw_m8 215 rfl) rfl
theorem q1972 : (Jvm.Cond.code ({ cls := "DatedContactsModel", name := "part", desc := "(JJI)J" } : Jvm.MethodName) prog_21_method_69_code (11 : Nat) (Option.some Jvm.ClassFile.FieldType.long)) ∈ lw_all := lw_g (lw_at lw_m8 216 rfl) rfl
theorem q1974 : (Jvm.Cond.instanceMethod ({ cls := "DatedContactsModel", name := "fits", desc := "(IIIII)I" } : Jvm.MethodName)) ∈ lw_all := lw_g (lw_at lw_m8 218 rfl) rfl
theorem q1975 : (Jvm.Cond.selects "DatedContactsModel" ({ cls := "DatedContactsModel", name := "fits", desc := "(IIIII)I" } : Jvm.MethodName) ({ cls := "DatedContactsModel", name := "fits", desc := "(IIIII)I" } : Jvm.MethodName)) ∈ lw_all := lw_g (lw_at lw_m8 219 rfl) rfl
theorem q1976 : (Jvm.Cond.code ({ cls := "DatedContactsModel", name := "fits", desc := "(IIIII)I" } : Jvm.MethodName) prog_21_method_72_code (13 : Nat) (Option.some Jvm.ClassFile.FieldType.int)) ∈ lw_all := lw_g (lw_at lw_m8 220 rfl) rfl
theorem q1977 : (Jvm.Cond.methodLink "DatedContactsModel" (252 : Nat) ({ cls := "DatedContactsModel", name := "firstOf", desc := "(I)I" } : Jvm.MethodName)) ∈ lw_all := lw_g (lw_at lw_m8 221 rfl) rfl
theorem q1978 : (Jvm.Cond.static ({ cls := "DatedContactsModel", name := "firstOf", desc := "(I)I" } : Jvm.MethodName)) ∈ lw_all := lw_g (lw_at lw_m8 222 rfl) rfl
theorem q1979 : (Jvm.Cond.code ({ cls := "DatedContactsModel", name := "firstOf", desc := "(I)I" } : Jvm.MethodName) prog_21_method_71_code (2 : Nat) (Option.some Jvm.ClassFile.FieldType.int)) ∈ lw_all := lw_g (lw_at lw_m8 223 rfl) rfl
theorem q1981 : (Jvm.Cond.instanceMethod ({ cls := "DatedContactsModel", name := "tell", desc := "(III)I" } : Jvm.MethodName)) ∈ lw_all := lw_g (lw_at lw_m8 225 rfl) rfl
theorem q1982 : (Jvm.Cond.selects "DatedContactsModel" ({ cls := "DatedContactsModel", name := "tell", desc := "(III)I" } : Jvm.MethodName) ({ cls := "DatedContactsModel", name := "tell", desc := "(III)I" } : Jvm.MethodName)) ∈ lw_all := lw_g (lw_at lw_m8 226 rfl) rfl
theorem q1983 : (Jvm.Cond.code ({ cls := "DatedContactsModel", name := "tell", desc := "(III)I" } : Jvm.MethodName) prog_21_method_73_code (5 : Nat) (Option.some Jvm.ClassFile.FieldType.int)) ∈ lw_all := lw_g (lw_at lw_m8 227 rfl) rfl
theorem q1985 : (Jvm.Cond.instanceMethod ({ cls := "DatedContactsModel", name := "drawn", desc := "(III)I" } : Jvm.MethodName)) ∈ lw_all := lw_g (lw_at lw_m8 229 rfl) rfl
theorem q1986 : (Jvm.Cond.selects "DatedContactsModel" ({ cls := "DatedContactsModel", name := "drawn", desc := "(III)I" } : Jvm.MethodName) ({ cls := "DatedContactsModel", name := "drawn", desc := "(III)I" } : Jvm.MethodName)) ∈ lw_all := lw_g (lw_at lw_m8 230 rfl) rfl
theorem q1987 : (Jvm.Cond.code ({ cls := "DatedContactsModel", name := "drawn", desc := "(III)I" } : Jvm.MethodName) prog_21_method_74_code (9 : Nat) (Option.some Jvm.ClassFile.FieldType.int)) ∈ lw_all := lw_g (lw_at lw_m8 231 rfl) rfl
theorem q1988 : (Jvm.Cond.constant "DatedContactsModel" (255 : Nat) (999999 : Int32)) ∈ lw_all := lw_g (lw_at lw_m8 232 rfl) rfl
theorem q1989 : (Jvm.Cond.constantLong "DatedContactsModel" (256 : Nat) (16807 : Int64)) ∈ lw_all := lw_g (lw_at lw_m8 233 rfl) rfl
theorem q1990 : (Jvm.Cond.constantLong "DatedContactsModel" (258 : Nat) (2147483647 : Int64)) ∈ lw_all := lw_g (lw_at lw_m8 234 rfl) rfl
theorem q1991 : (Jvm.Cond.constantLong "DatedContactsModel" (260 : Nat) (16 : Int64)) ∈ lw_all := lw_g (lw_at lw_m8 235 rfl) rfl
theorem q1992 : (Jvm.Cond.constantLong "DatedContactsModel" (262 : Nat) (31 : Int64)) ∈ lw_all := lw_g (lw_at lw_m8 236 rfl) rfl
theorem q1994 : (Jvm.Cond.instanceMethod ({ cls := "DatedContactsModel", name := "image", desc := "(I)I" } : Jvm.MethodName)) ∈ lw_all := lw_g (lw_at lw_m8 238 rfl) rfl
theorem q1995 : (Jvm.Cond.selects "DatedContactsModel" ({ cls := "DatedContactsModel", name := "image", desc := "(I)I" } : Jvm.MethodName) ({ cls := "DatedContactsModel", name := "image", desc := "(I)I" } : Jvm.MethodName)) ∈ lw_all := lw_g (lw_at lw_m8 239 rfl) rfl
theorem q1996 : (Jvm.Cond.code ({ cls := "DatedContactsModel", name := "image", desc := "(I)I" } : Jvm.MethodName) prog_21_method_75_code (2 : Nat) (Option.some Jvm.ClassFile.FieldType.int)) ∈ lw_all := lw_g (lw_at lw_m9 0 rfl) rfl
theorem q1998 : (Jvm.Cond.instanceMethod ({ cls := "DatedContactsModel", name := "restore", desc := "(I)I" } : Jvm.MethodName)) ∈ lw_all := lw_g (lw_at lw_m9 2 rfl) rfl
theorem q1999 : (Jvm.Cond.selects "DatedContactsModel" ({ cls := "DatedContactsModel", name := "restore", desc := "(I)I" } : Jvm.MethodName) ({ cls := "DatedContactsModel", name := "restore", desc := "(I)I" } : Jvm.MethodName)) ∈ lw_all := lw_g (lw_at lw_m9 3 rfl) rfl
theorem q2000 : (Jvm.Cond.code ({ cls := "DatedContactsModel", name := "restore", desc := "(I)I" } : Jvm.MethodName) prog_21_method_76_code (2 : Nat) (Option.some Jvm.ClassFile.FieldType.int)) ∈ lw_all := lw_g (lw_at lw_m9 4 rfl) rfl
theorem q2002 : (Jvm.Cond.instanceMethod ({ cls := "DatedContactsModel", name := "kind", desc := "(I)I" } : Jvm.MethodName)) ∈ lw_all := lw_g (lw_at lw_m9 6 rfl) rfl
theorem q2003 : (Jvm.Cond.selects "DatedContactsModel" ({ cls := "DatedContactsModel", name := "kind", desc := "(I)I" } : Jvm.MethodName) ({ cls := "DatedContactsModel", name := "kind", desc := "(I)I" } : Jvm.MethodName)) ∈ lw_all := lw_g (lw_at lw_m9 7 rfl) rfl
theorem q2004 : (Jvm.Cond.code ({ cls := "DatedContactsModel", name := "kind", desc := "(I)I" } : Jvm.MethodName) prog_21_method_79_code (2 : Nat) (Option.some Jvm.ClassFile.FieldType.int)) ∈ lw_all := lw_g (lw_at lw_m9 8 rfl) rfl
theorem q2005 : (Jvm.Cond.methodLink "DatedContactsModel" (264 : Nat) ({ cls := "DatedContactsModel", name := "kindIn", desc := "(I)I" } : Jvm.MethodName)) ∈ lw_all := lw_g (lw_at lw_m9 9 rfl) rfl
theorem q2006 : (Jvm.Cond.privateMethod ({ cls := "DatedContactsModel", name := "kindIn", desc := "(I)I" } : Jvm.MethodName)) ∈ lw_tbl := lw_at lw_m9 10 rfl
theorem q2007 : (Jvm.Cond.instanceMethod ({ cls := "DatedContactsModel", name := "kindIn", desc := "(I)I" } : Jvm.MethodName)) ∈ lw_all := lw_g (lw_at lw_m9 11 rfl) rfl
theorem q2008 : (Jvm.Cond.code ({ cls := "DatedContactsModel", name := "kindIn", desc := "(I)I" } : Jvm.MethodName) prog_21_method_77_code (2 : Nat) (Option.some Jvm.ClassFile.FieldType.int)) ∈ lw_all := lw_g (lw_at lw_m9 12 rfl) rfl
theorem q2010 : (Jvm.Cond.instanceMethod ({ cls := "DatedContactsModel", name := "as", desc := "(II)I" } : Jvm.MethodName)) ∈ lw_all := lw_g (lw_at lw_m9 14 rfl) rfl
theorem q2011 : (Jvm.Cond.selects "DatedContactsModel" ({ cls := "DatedContactsModel", name := "as", desc := "(II)I" } : Jvm.MethodName) ({ cls := "DatedContactsModel", name := "as", desc := "(II)I" } : Jvm.MethodName)) ∈ lw_all := lw_g (lw_at lw_m9 15 rfl) rfl
theorem q2012 : (Jvm.Cond.code ({ cls := "DatedContactsModel", name := "as", desc := "(II)I" } : Jvm.MethodName) prog_21_method_80_code (5 : Nat) (Option.some Jvm.ClassFile.FieldType.int)) ∈ lw_all := lw_g (lw_at lw_m9 16 rfl) rfl
theorem q2014 : (Jvm.Cond.instanceMethod ({ cls := "DatedContactsModel", name := "ask", desc := "(II)I" } : Jvm.MethodName)) ∈ lw_all := lw_g (lw_at lw_m9 18 rfl) rfl
theorem q2015 : (Jvm.Cond.selects "DatedContactsModel" ({ cls := "DatedContactsModel", name := "ask", desc := "(II)I" } : Jvm.MethodName) ({ cls := "DatedContactsModel", name := "ask", desc := "(II)I" } : Jvm.MethodName)) ∈ lw_all := lw_g (lw_at lw_m9 19 rfl) rfl
theorem q2016 : (Jvm.Cond.code ({ cls := "DatedContactsModel", name := "ask", desc := "(II)I" } : Jvm.MethodName) prog_21_method_86_code (4 : Nat) (Option.some Jvm.ClassFile.FieldType.int)) ∈ lw_all := lw_g (lw_at lw_m9 20 rfl) rfl
theorem q2017 : (Jvm.Cond.methodLink "DatedContactsModel" (279 : Nat) ({ cls := "DatedContactsModel", name := "wardSize", desc := "(I)I" } : Jvm.MethodName)) ∈ lw_all := lw_g (lw_at lw_m9 21 rfl) rfl
theorem q2018 : (Jvm.Cond.privateMethod ({ cls := "DatedContactsModel", name := "wardSize", desc := "(I)I" } : Jvm.MethodName)) ∈ lw_tbl := lw_at lw_m9 22 rfl
theorem q2019 : (Jvm.Cond.instanceMethod ({ cls := "DatedContactsModel", name := "wardSize", desc := "(I)I" } : Jvm.MethodName)) ∈ lw_all := lw_g (lw_at lw_m9 23 rfl) rfl
theorem q2020 : (Jvm.Cond.code ({ cls := "DatedContactsModel", name := "wardSize", desc := "(I)I" } : Jvm.MethodName) prog_21_method_83_code (4 : Nat) (Option.some Jvm.ClassFile.FieldType.int)) ∈ lw_all := lw_g (lw_at lw_m9 24 rfl) rfl
theorem q2021 : (Jvm.Cond.methodLink "DatedContactsModel" (270 : Nat) ({ cls := "DatedContactsModel", name := "begins", desc := "(I)V" } : Jvm.MethodName)) ∈ lw_all := lw_g (lw_at lw_m9 25 rfl) rfl
theorem q2022 : (Jvm.Cond.privateMethod ({ cls := "DatedContactsModel", name := "begins", desc := "(I)V" } : Jvm.MethodName)) ∈ lw_tbl := lw_at lw_m9 26 rfl
theorem q2023 : (Jvm.Cond.instanceMethod ({ cls := "DatedContactsModel", name := "begins", desc := "(I)V" } : Jvm.MethodName)) ∈ lw_all := lw_g (lw_at lw_m9 27 rfl) rfl
theorem q2024 : (Jvm.Cond.code ({ cls := "DatedContactsModel", name := "begins", desc := "(I)V" } : Jvm.MethodName) prog_21_method_81_code (2 : Nat) (Option.none : Option Jvm.ClassFile.FieldType)) ∈ lw_all := lw_g (lw_at lw_m9 28 rfl) rfl
theorem q2025 : (Jvm.Cond.methodLink "DatedContactsModel" (282 : Nat) ({ cls := "DatedContactsModel", name := "openSize", desc := "(I)I" } : Jvm.MethodName)) ∈ lw_all := lw_g (lw_at lw_m9 29 rfl) rfl
theorem q2026 : (Jvm.Cond.privateMethod ({ cls := "DatedContactsModel", name := "openSize", desc := "(I)I" } : Jvm.MethodName)) ∈ lw_tbl := lw_at lw_m9 30 rfl
theorem q2027 : (Jvm.Cond.instanceMethod ({ cls := "DatedContactsModel", name := "openSize", desc := "(I)I" } : Jvm.MethodName)) ∈ lw_all := lw_g (lw_at lw_m9 31 rfl) rfl
theorem q2028 : (Jvm.Cond.code ({ cls := "DatedContactsModel", name := "openSize", desc := "(I)I" } : Jvm.MethodName) prog_21_method_84_code (4 : Nat) (Option.some Jvm.ClassFile.FieldType.int)) ∈ lw_all := lw_g (lw_at lw_m9 32 rfl) rfl
theorem q2029 : (Jvm.Cond.methodLink "DatedContactsModel" (276 : Nat) ({ cls := "DatedContactsModel", name := "openMark", desc := "(I)I" } : Jvm.MethodName)) ∈ lw_all := lw_g (lw_at lw_m9 33 rfl) rfl
theorem q2030 : (Jvm.Cond.privateMethod ({ cls := "DatedContactsModel", name := "openMark", desc := "(I)I" } : Jvm.MethodName)) ∈ lw_tbl := lw_at lw_m9 34 rfl
theorem q2031 : (Jvm.Cond.instanceMethod ({ cls := "DatedContactsModel", name := "openMark", desc := "(I)I" } : Jvm.MethodName)) ∈ lw_all := lw_g (lw_at lw_m9 35 rfl) rfl
theorem q2032 : (Jvm.Cond.code ({ cls := "DatedContactsModel", name := "openMark", desc := "(I)I" } : Jvm.MethodName) prog_21_method_82_code (4 : Nat) (Option.some Jvm.ClassFile.FieldType.int)) ∈ lw_all := lw_g (lw_at lw_m9 36 rfl) rfl
theorem q2033 : (Jvm.Cond.methodLink "DatedContactsModel" (273 : Nat) ({ cls := "DatedContactsModel", name := "illOf", desc := "(I)I" } : Jvm.MethodName)) ∈ lw_all := lw_g (lw_at lw_m9 37 rfl) rfl
theorem q2034 : (Jvm.Cond.privateMethod ({ cls := "DatedContactsModel", name := "illOf", desc := "(I)I" } : Jvm.MethodName)) ∈ lw_tbl := lw_at lw_m9 38 rfl
theorem q2035 : (Jvm.Cond.instanceMethod ({ cls := "DatedContactsModel", name := "illOf", desc := "(I)I" } : Jvm.MethodName)) ∈ lw_all := lw_g (lw_at lw_m9 39 rfl) rfl
theorem q2036 : (Jvm.Cond.code ({ cls := "DatedContactsModel", name := "illOf", desc := "(I)I" } : Jvm.MethodName) prog_21_method_78_code (3 : Nat) (Option.some Jvm.ClassFile.FieldType.int)) ∈ lw_all := lw_g (lw_at lw_m9 40 rfl) rfl
theorem q2037 : (Jvm.Cond.methodLink "DatedContactsModel" (285 : Nat) ({ cls := "DatedContactsModel", name := "wardMark", desc := "(I)I" } : Jvm.MethodName)) ∈ lw_all := lw_g (lw_at lw_m9 41 rfl) rfl
theorem q2038 : (Jvm.Cond.privateMethod ({ cls := "DatedContactsModel", name := "wardMark", desc := "(I)I" } : Jvm.MethodName)) ∈ lw_tbl := lw_at lw_m9 42 rfl
theorem q2039 : (Jvm.Cond.instanceMethod ({ cls := "DatedContactsModel", name := "wardMark", desc := "(I)I" } : Jvm.MethodName)) ∈ lw_all := lw_g (lw_at lw_m9 43 rfl) rfl
theorem q2040 : (Jvm.Cond.code ({ cls := "DatedContactsModel", name := "wardMark", desc := "(I)I" } : Jvm.MethodName) prog_21_method_85_code (2 : Nat) (Option.some Jvm.ClassFile.FieldType.int)) ∈ lw_all := lw_g (lw_at lw_m9 44 rfl) rfl
theorem q2042 : (Jvm.Cond.instanceMethod ({ cls := "DatedContactsModel", name := "trace", desc := "(I)I" } : Jvm.MethodName)) ∈ lw_all := lw_g (lw_at lw_m9 46 rfl) rfl
theorem q2043 : (Jvm.Cond.selects "DatedContactsModel" ({ cls := "DatedContactsModel", name := "trace", desc := "(I)I" } : Jvm.MethodName) ({ cls := "DatedContactsModel", name := "trace", desc := "(I)I" } : Jvm.MethodName)) ∈ lw_all := lw_g (lw_at lw_m9 47 rfl) rfl
theorem q2044 : (Jvm.Cond.code ({ cls := "DatedContactsModel", name := "trace", desc := "(I)I" } : Jvm.MethodName) prog_21_method_87_code (2 : Nat) (Option.some Jvm.ClassFile.FieldType.int)) ∈ lw_all := lw_g (lw_at lw_m9 48 rfl) rfl
theorem q2046 : (Jvm.Cond.instanceMethod ({ cls := "DatedContactsModel", name := "count", desc := "(I)I" } : Jvm.MethodName)) ∈ lw_all := lw_g (lw_at lw_m9 50 rfl) rfl
theorem q2047 : (Jvm.Cond.selects "DatedContactsModel" ({ cls := "DatedContactsModel", name := "count", desc := "(I)I" } : Jvm.MethodName) ({ cls := "DatedContactsModel", name := "count", desc := "(I)I" } : Jvm.MethodName)) ∈ lw_all := lw_g (lw_at lw_m9 51 rfl) rfl
theorem q2048 : (Jvm.Cond.code ({ cls := "DatedContactsModel", name := "count", desc := "(I)I" } : Jvm.MethodName) prog_21_method_88_code (4 : Nat) (Option.some Jvm.ClassFile.FieldType.int)) ∈ lw_all := lw_g (lw_at lw_m9 52 rfl) rfl
theorem q2050 : (Jvm.Cond.instanceMethod ({ cls := "DatedContactsModel", name := "status", desc := "()I" } : Jvm.MethodName)) ∈ lw_all := lw_g (lw_at lw_m9 54 rfl) rfl
theorem q2051 : (Jvm.Cond.selects "DatedContactsModel" ({ cls := "DatedContactsModel", name := "status", desc := "()I" } : Jvm.MethodName) ({ cls := "DatedContactsModel", name := "status", desc := "()I" } : Jvm.MethodName)) ∈ lw_all := lw_g (lw_at lw_m9 55 rfl) rfl
theorem q2052 : (Jvm.Cond.code ({ cls := "DatedContactsModel", name := "status", desc := "()I" } : Jvm.MethodName) prog_21_method_89_code (1 : Nat) (Option.some Jvm.ClassFile.FieldType.int)) ∈ lw_all := lw_g (lw_at lw_m9 56 rfl) rfl
theorem in_X6 : ∀ w ∈ wsX60, w ∈ lw_all := lw_in wsX60 [1644, 1646, 1648, 1650, 1652, 1654, 1656, 1658, 1660, 1662, 1664, 1666, 1668, 1670, 1672, 1674, 1676, 1678, 1680, 1682, 1684, 1686, 1688, 1690, 1692, 1694, 1696, 1698, 1700] (by decide +kernel) (by decide +kernel)
