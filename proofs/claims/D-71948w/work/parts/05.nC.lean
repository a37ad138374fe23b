/-! DatedContacts -/
set_option maxRecDepth 100000
def RX0 : String := "DatedContacts"
def TX0 : u_T := fun k => match k with
  | 0 => ("DatedContacts", "rows", "[LDatedContacts$Shelf;", true)
  | 1 => ("DatedContacts", "tape", "[B", true)
  | 2 => ("DatedContacts", "taped", "I", false)
  | 3 => ("DatedContacts", "faultKind", "I", false)
  | 4 => ("DatedContacts", "net", "LDatedContacts$Net;", true)
  | 5 => ("DatedContacts", "other", "LDatedContacts$Net;", true)
  | 6 => ("DatedContacts", "walk", "LDatedContacts$Walk;", true)
  | 7 => ("DatedContacts", "chains", "LDatedContacts$Chains;", true)
  | 8 => ("DatedContacts", "past", "[LDatedContacts$Net;", true)
  | 9 => ("DatedContacts", "acts", "I", false)
  | 10 => ("DatedContacts", "images", "[LDatedContacts$Net;", true)
  | 11 => ("DatedContacts", "trail", "LDatedContacts$Trail;", false)
  | _ => ("DatedContacts", "status", "I", false)
def tyX0 : Nat → FieldType := fun k => match k with
  | 0 => .array (.object "DatedContacts$Shelf")
  | 1 => .array .byte
  | 2 => .int
  | 3 => .int
  | 4 => .object "DatedContacts$Net"
  | 5 => .object "DatedContacts$Net"
  | 6 => .object "DatedContacts$Walk"
  | 7 => .object "DatedContacts$Chains"
  | 8 => .array (.object "DatedContacts$Net")
  | 9 => .int
  | 10 => .array (.object "DatedContacts$Net")
  | 11 => .object "DatedContacts$Trail"
  | _ => .int
abbrev wsX00 : List Cond := u_ws RX0 TX0 13
set_option maxRecDepth 100000 in
theorem nmX0 : ∀ a, a < 13 → ∀ b, b < 13 → a ≠ b → (TX0 a).2.1 ≠ (TX0 b).2.1 := by decide +kernel
set_option maxRecDepth 100000 in
theorem tyX0_ok : ∀ k, k < 13 → parseFieldDescriptor (TX0 k).2.2.1 = some (tyX0 k) := by decide +kernel
abbrev cX0_init : ByteArray := prog_1_method_7_code
def yX0_init : MethodName := ⟨RX0, "<init>", "()V"⟩
def dkwX0_init_3 : List UInt8 := [181, 0, 78, 42, 5, 189, 0, 54, 181, 0, 82, 42, 187, 0, 85, 89, 183, 0, 87, 181, 0, 88, 177]
abbrev dktX0_init_3 : List UInt8 := dkwX0_init_3 ++ []
def dkwX0_init_2 : List UInt8 := [183, 0, 66, 181, 0, 67, 42, 187, 0, 71, 89, 183, 0, 73, 181, 0, 74, 42, 16, 16, 189, 0, 54]
abbrev dktX0_init_2 : List UInt8 := dkwX0_init_2 ++ dktX0_init_3
def dkwX0_init_1 : List UInt8 := [89, 183, 0, 56, 181, 0, 57, 42, 187, 0, 54, 89, 183, 0, 56, 181, 0, 61, 42, 187, 0, 64, 89]
abbrev dktX0_init_1 : List UInt8 := dkwX0_init_1 ++ dktX0_init_2
def dkwX0_init_0 : List UInt8 := [42, 183, 0, 39, 42, 184, 0, 42, 181, 0, 46, 42, 17, 0, 130, 188, 8, 181, 0, 50, 42, 187, 0, 54]
abbrev dktX0_init_0 : List UInt8 := dkwX0_init_0 ++ dktX0_init_1
theorem dksX0_init_0 : cX0_init.data.toList.drop 0 = dktX0_init_0 := by decide +kernel
theorem dksX0_init_1 : cX0_init.data.toList.drop 24 = dktX0_init_1 := dk_seg dksX0_init_0 24 rfl rfl
theorem dksX0_init_2 : cX0_init.data.toList.drop 47 = dktX0_init_2 := dk_seg dksX0_init_1 23 rfl rfl
theorem dksX0_init_3 : cX0_init.data.toList.drop 70 = dktX0_init_3 := dk_seg dksX0_init_2 23 rfl rfl
theorem dX0_init_0 : decode cX0_init 0 = .ok (.aload_n 0, 1) := dk_42 (dk_at dksX0_init_0 0 rfl rfl)
theorem dX0_init_1 : decode cX0_init 1 = .ok (.invokespecial 39, 3) := dk_183 0 39 (dk_at dksX0_init_0 1 rfl rfl)
theorem dX0_init_4 : decode cX0_init 4 = .ok (.aload_n 0, 1) := dk_42 (dk_at dksX0_init_0 4 rfl rfl)
theorem dX0_init_5 : decode cX0_init 5 = .ok (.invokestatic 42, 3) := dk_184 0 42 (dk_at dksX0_init_0 5 rfl rfl)
theorem dX0_init_8 : decode cX0_init 8 = .ok (.putfield 46, 3) := dk_181 0 46 (dk_at dksX0_init_0 8 rfl rfl)
theorem dX0_init_11 : decode cX0_init 11 = .ok (.aload_n 0, 1) := dk_42 (dk_at dksX0_init_0 11 rfl rfl)
theorem dX0_init_12 : decode cX0_init 12 = .ok (.sipush 130, 3) := dk_17 0 130 (dk_at dksX0_init_0 12 rfl rfl)
theorem dX0_init_15 : decode cX0_init 15 = .ok (.newarray .byte, 2) := dk_188_8 (dk_at dksX0_init_0 15 rfl rfl)
theorem dX0_init_17 : decode cX0_init 17 = .ok (.putfield 50, 3) := dk_181 0 50 (dk_at dksX0_init_0 17 rfl rfl)
theorem dX0_init_20 : decode cX0_init 20 = .ok (.aload_n 0, 1) := dk_42 (dk_at dksX0_init_0 20 rfl rfl)
theorem dX0_init_21 : decode cX0_init 21 = .ok (.new 54, 3) := dk_187 0 54 (dk_at dksX0_init_0 21 rfl rfl)
theorem dX0_init_24 : decode cX0_init 24 = .ok (.dup, 1) := dk_89 (dk_at dksX0_init_1 0 rfl rfl)
theorem dX0_init_25 : decode cX0_init 25 = .ok (.invokespecial 56, 3) := dk_183 0 56 (dk_at dksX0_init_1 1 rfl rfl)
theorem dX0_init_28 : decode cX0_init 28 = .ok (.putfield 57, 3) := dk_181 0 57 (dk_at dksX0_init_1 4 rfl rfl)
theorem dX0_init_31 : decode cX0_init 31 = .ok (.aload_n 0, 1) := dk_42 (dk_at dksX0_init_1 7 rfl rfl)
theorem dX0_init_32 : decode cX0_init 32 = .ok (.new 54, 3) := dk_187 0 54 (dk_at dksX0_init_1 8 rfl rfl)
theorem dX0_init_35 : decode cX0_init 35 = .ok (.dup, 1) := dk_89 (dk_at dksX0_init_1 11 rfl rfl)
theorem dX0_init_36 : decode cX0_init 36 = .ok (.invokespecial 56, 3) := dk_183 0 56 (dk_at dksX0_init_1 12 rfl rfl)
theorem dX0_init_39 : decode cX0_init 39 = .ok (.putfield 61, 3) := dk_181 0 61 (dk_at dksX0_init_1 15 rfl rfl)
theorem dX0_init_42 : decode cX0_init 42 = .ok (.aload_n 0, 1) := dk_42 (dk_at dksX0_init_1 18 rfl rfl)
theorem dX0_init_43 : decode cX0_init 43 = .ok (.new 64, 3) := dk_187 0 64 (dk_at dksX0_init_1 19 rfl rfl)
theorem dX0_init_46 : decode cX0_init 46 = .ok (.dup, 1) := dk_89 (dk_at dksX0_init_1 22 rfl rfl)
theorem dX0_init_47 : decode cX0_init 47 = .ok (.invokespecial 66, 3) := dk_183 0 66 (dk_at dksX0_init_2 0 rfl rfl)
theorem dX0_init_50 : decode cX0_init 50 = .ok (.putfield 67, 3) := dk_181 0 67 (dk_at dksX0_init_2 3 rfl rfl)
theorem dX0_init_53 : decode cX0_init 53 = .ok (.aload_n 0, 1) := dk_42 (dk_at dksX0_init_2 6 rfl rfl)
theorem dX0_init_54 : decode cX0_init 54 = .ok (.new 71, 3) := dk_187 0 71 (dk_at dksX0_init_2 7 rfl rfl)
theorem dX0_init_57 : decode cX0_init 57 = .ok (.dup, 1) := dk_89 (dk_at dksX0_init_2 10 rfl rfl)
theorem dX0_init_58 : decode cX0_init 58 = .ok (.invokespecial 73, 3) := dk_183 0 73 (dk_at dksX0_init_2 11 rfl rfl)
theorem dX0_init_61 : decode cX0_init 61 = .ok (.putfield 74, 3) := dk_181 0 74 (dk_at dksX0_init_2 14 rfl rfl)
theorem dX0_init_64 : decode cX0_init 64 = .ok (.aload_n 0, 1) := dk_42 (dk_at dksX0_init_2 17 rfl rfl)
theorem dX0_init_65 : decode cX0_init 65 = .ok (.bipush 16, 2) := dk_16 16 (dk_at dksX0_init_2 18 rfl rfl)
theorem dX0_init_67 : decode cX0_init 67 = .ok (.anewarray 54, 3) := dk_189 0 54 (dk_at dksX0_init_2 20 rfl rfl)
theorem dX0_init_70 : decode cX0_init 70 = .ok (.putfield 78, 3) := dk_181 0 78 (dk_at dksX0_init_3 0 rfl rfl)
theorem dX0_init_73 : decode cX0_init 73 = .ok (.aload_n 0, 1) := dk_42 (dk_at dksX0_init_3 3 rfl rfl)
theorem dX0_init_74 : decode cX0_init 74 = .ok (.iconst 2, 1) := dk_5 (dk_at dksX0_init_3 4 rfl rfl)
theorem dX0_init_75 : decode cX0_init 75 = .ok (.anewarray 54, 3) := dk_189 0 54 (dk_at dksX0_init_3 5 rfl rfl)
theorem dX0_init_78 : decode cX0_init 78 = .ok (.putfield 82, 3) := dk_181 0 82 (dk_at dksX0_init_3 8 rfl rfl)
theorem dX0_init_81 : decode cX0_init 81 = .ok (.aload_n 0, 1) := dk_42 (dk_at dksX0_init_3 11 rfl rfl)
theorem dX0_init_82 : decode cX0_init 82 = .ok (.new 85, 3) := dk_187 0 85 (dk_at dksX0_init_3 12 rfl rfl)
theorem dX0_init_85 : decode cX0_init 85 = .ok (.dup, 1) := dk_89 (dk_at dksX0_init_3 15 rfl rfl)
theorem dX0_init_86 : decode cX0_init 86 = .ok (.invokespecial 87, 3) := dk_183 0 87 (dk_at dksX0_init_3 16 rfl rfl)
theorem dX0_init_89 : decode cX0_init 89 = .ok (.putfield 88, 3) := dk_181 0 88 (dk_at dksX0_init_3 19 rfl rfl)
theorem dX0_init_92 : decode cX0_init 92 = .ok (.return_, 1) := dk_177 (dk_at dksX0_init_3 22 rfl rfl)
abbrev cX0_shelves : ByteArray := prog_1_method_6_code
def yX0_shelves : MethodName := ⟨RX0, "shelves", "()[LDatedContacts$Shelf;"⟩
def dkwX0_shelves_1 : List UInt8 := [132, 1, 1, 167, 255, 237, 42, 176]
abbrev dktX0_shelves_1 : List UInt8 := dkwX0_shelves_1 ++ []
def dkwX0_shelves_0 : List UInt8 := [16, 8, 189, 0, 34, 75, 3, 60, 27, 16, 8, 162, 0, 19, 42, 27, 187, 0, 34, 89, 183, 0, 36, 83]
abbrev dktX0_shelves_0 : List UInt8 := dkwX0_shelves_0 ++ dktX0_shelves_1
theorem dksX0_shelves_0 : cX0_shelves.data.toList.drop 0 = dktX0_shelves_0 := by decide +kernel
theorem dksX0_shelves_1 : cX0_shelves.data.toList.drop 24 = dktX0_shelves_1 := dk_seg dksX0_shelves_0 24 rfl rfl
theorem dX0_shelves_0 : decode cX0_shelves 0 = .ok (.bipush 8, 2) := dk_16 8 (dk_at dksX0_shelves_0 0 rfl rfl)
theorem dX0_shelves_2 : decode cX0_shelves 2 = .ok (.anewarray 34, 3) := dk_189 0 34 (dk_at dksX0_shelves_0 2 rfl rfl)
theorem dX0_shelves_5 : decode cX0_shelves 5 = .ok (.astore_n 0, 1) := dk_75 (dk_at dksX0_shelves_0 5 rfl rfl)
theorem dX0_shelves_6 : decode cX0_shelves 6 = .ok (.iconst 0, 1) := dk_3 (dk_at dksX0_shelves_0 6 rfl rfl)
theorem dX0_shelves_7 : decode cX0_shelves 7 = .ok (.istore_n 1, 1) := dk_60 (dk_at dksX0_shelves_0 7 rfl rfl)
theorem dX0_shelves_8 : decode cX0_shelves 8 = .ok (.iload_n 1, 1) := dk_27 (dk_at dksX0_shelves_0 8 rfl rfl)
theorem dX0_shelves_9 : decode cX0_shelves 9 = .ok (.bipush 8, 2) := dk_16 8 (dk_at dksX0_shelves_0 9 rfl rfl)
theorem dX0_shelves_11 : decode cX0_shelves 11 = .ok (.if_icmp .ge 19, 3) := dk_162 0 19 (dk_at dksX0_shelves_0 11 rfl rfl)
theorem dX0_shelves_14 : decode cX0_shelves 14 = .ok (.aload_n 0, 1) := dk_42 (dk_at dksX0_shelves_0 14 rfl rfl)
theorem dX0_shelves_15 : decode cX0_shelves 15 = .ok (.iload_n 1, 1) := dk_27 (dk_at dksX0_shelves_0 15 rfl rfl)
theorem dX0_shelves_16 : decode cX0_shelves 16 = .ok (.new 34, 3) := dk_187 0 34 (dk_at dksX0_shelves_0 16 rfl rfl)
theorem dX0_shelves_19 : decode cX0_shelves 19 = .ok (.dup, 1) := dk_89 (dk_at dksX0_shelves_0 19 rfl rfl)
theorem dX0_shelves_20 : decode cX0_shelves 20 = .ok (.invokespecial 36, 3) := dk_183 0 36 (dk_at dksX0_shelves_0 20 rfl rfl)
theorem dX0_shelves_23 : decode cX0_shelves 23 = .ok (.aastore, 1) := dk_83 (dk_at dksX0_shelves_0 23 rfl rfl)
theorem dX0_shelves_24 : decode cX0_shelves 24 = .ok (.iinc 1 1, 3) := dk_132 1 1 (dk_at dksX0_shelves_1 0 rfl rfl)
theorem dX0_shelves_27 : decode cX0_shelves 27 = .ok (.goto (-19), 3) := dk_167 255 237 (dk_at dksX0_shelves_1 3 rfl rfl)
theorem dX0_shelves_30 : decode cX0_shelves 30 = .ok (.aload_n 0, 1) := dk_42 (dk_at dksX0_shelves_1 6 rfl rfl)
theorem dX0_shelves_31 : decode cX0_shelves 31 = .ok (.areturn, 1) := dk_176 (dk_at dksX0_shelves_1 7 rfl rfl)
abbrev cX0_row : ByteArray := prog_1_method_12_code
def yX0_row : MethodName := ⟨RX0, "row", "(III)I"⟩
def dkwX0_row_2 : List UInt8 := [182, 0, 118, 172, 58, 4, 42, 7, 182, 0, 124, 172]
abbrev dktX0_row_2 : List UInt8 := dkwX0_row_2 ++ []
def dkwX0_row_1 : List UInt8 := [164, 0, 6, 18, 109, 172, 42, 180, 0, 46, 27, 50, 28, 29, 184, 0, 110, 181, 0, 114, 42, 29]
abbrev dktX0_row_1 : List UInt8 := dkwX0_row_1 ++ dktX0_row_2
def dkwX0_row_0 : List UInt8 := [27, 184, 0, 103, 153, 0, 21, 28, 133, 9, 20, 0, 107, 184, 0, 99, 153, 0, 9, 29, 16, 40]
abbrev dktX0_row_0 : List UInt8 := dkwX0_row_0 ++ dktX0_row_1
theorem dksX0_row_0 : cX0_row.data.toList.drop 0 = dktX0_row_0 := by decide +kernel
theorem dksX0_row_1 : cX0_row.data.toList.drop 22 = dktX0_row_1 := dk_seg dksX0_row_0 22 rfl rfl
theorem dksX0_row_2 : cX0_row.data.toList.drop 44 = dktX0_row_2 := dk_seg dksX0_row_1 22 rfl rfl
theorem dX0_row_0 : decode cX0_row 0 = .ok (.iload_n 1, 1) := dk_27 (dk_at dksX0_row_0 0 rfl rfl)
theorem dX0_row_1 : decode cX0_row 1 = .ok (.invokestatic 103, 3) := dk_184 0 103 (dk_at dksX0_row_0 1 rfl rfl)
theorem dX0_row_4 : decode cX0_row 4 = .ok (.ifCond .eq 21, 3) := dk_153 0 21 (dk_at dksX0_row_0 4 rfl rfl)
theorem dX0_row_7 : decode cX0_row 7 = .ok (.iload_n 2, 1) := dk_28 (dk_at dksX0_row_0 7 rfl rfl)
theorem dX0_row_8 : decode cX0_row 8 = .ok (.i2l, 1) := dk_133 (dk_at dksX0_row_0 8 rfl rfl)
theorem dX0_row_9 : decode cX0_row 9 = .ok (.lconst 0, 1) := dk_9 (dk_at dksX0_row_0 9 rfl rfl)
theorem dX0_row_10 : decode cX0_row 10 = .ok (.ldc2_w 107, 3) := dk_20 0 107 (dk_at dksX0_row_0 10 rfl rfl)
theorem dX0_row_13 : decode cX0_row 13 = .ok (.invokestatic 99, 3) := dk_184 0 99 (dk_at dksX0_row_0 13 rfl rfl)
theorem dX0_row_16 : decode cX0_row 16 = .ok (.ifCond .eq 9, 3) := dk_153 0 9 (dk_at dksX0_row_0 16 rfl rfl)
theorem dX0_row_19 : decode cX0_row 19 = .ok (.iload_n 3, 1) := dk_29 (dk_at dksX0_row_0 19 rfl rfl)
theorem dX0_row_20 : decode cX0_row 20 = .ok (.bipush 40, 2) := dk_16 40 (dk_at dksX0_row_0 20 rfl rfl)
theorem dX0_row_22 : decode cX0_row 22 = .ok (.if_icmp .le 6, 3) := dk_164 0 6 (dk_at dksX0_row_1 0 rfl rfl)
theorem dX0_row_25 : decode cX0_row 25 = .ok (.ldc 109, 2) := dk_18 109 (dk_at dksX0_row_1 3 rfl rfl)
theorem dX0_row_27 : decode cX0_row 27 = .ok (.ireturn, 1) := dk_172 (dk_at dksX0_row_1 5 rfl rfl)
theorem dX0_row_28 : decode cX0_row 28 = .ok (.aload_n 0, 1) := dk_42 (dk_at dksX0_row_1 6 rfl rfl)
theorem dX0_row_29 : decode cX0_row 29 = .ok (.getfield 46, 3) := dk_180 0 46 (dk_at dksX0_row_1 7 rfl rfl)
theorem dX0_row_32 : decode cX0_row 32 = .ok (.iload_n 1, 1) := dk_27 (dk_at dksX0_row_1 10 rfl rfl)
theorem dX0_row_33 : decode cX0_row 33 = .ok (.aaload, 1) := dk_50 (dk_at dksX0_row_1 11 rfl rfl)
theorem dX0_row_34 : decode cX0_row 34 = .ok (.iload_n 2, 1) := dk_28 (dk_at dksX0_row_1 12 rfl rfl)
theorem dX0_row_35 : decode cX0_row 35 = .ok (.iload_n 3, 1) := dk_29 (dk_at dksX0_row_1 13 rfl rfl)
theorem dX0_row_36 : decode cX0_row 36 = .ok (.invokestatic 110, 3) := dk_184 0 110 (dk_at dksX0_row_1 14 rfl rfl)
theorem dX0_row_39 : decode cX0_row 39 = .ok (.putfield 114, 3) := dk_181 0 114 (dk_at dksX0_row_1 17 rfl rfl)
theorem dX0_row_42 : decode cX0_row 42 = .ok (.aload_n 0, 1) := dk_42 (dk_at dksX0_row_1 20 rfl rfl)
theorem dX0_row_43 : decode cX0_row 43 = .ok (.iload_n 3, 1) := dk_29 (dk_at dksX0_row_1 21 rfl rfl)
theorem dX0_row_44 : decode cX0_row 44 = .ok (.invokevirtual 118, 3) := dk_182 0 118 (dk_at dksX0_row_2 0 rfl rfl)
theorem dX0_row_47 : decode cX0_row 47 = .ok (.ireturn, 1) := dk_172 (dk_at dksX0_row_2 3 rfl rfl)
theorem dX0_row_48 : decode cX0_row 48 = .ok (.astore 4, 2) := dk_58 4 (dk_at dksX0_row_2 4 rfl rfl)
theorem dX0_row_50 : decode cX0_row 50 = .ok (.aload_n 0, 1) := dk_42 (dk_at dksX0_row_2 6 rfl rfl)
theorem dX0_row_51 : decode cX0_row 51 = .ok (.iconst 4, 1) := dk_7 (dk_at dksX0_row_2 7 rfl rfl)
theorem dX0_row_52 : decode cX0_row 52 = .ok (.invokevirtual 124, 3) := dk_182 0 124 (dk_at dksX0_row_2 8 rfl rfl)
theorem dX0_row_55 : decode cX0_row 55 = .ok (.ireturn, 1) := dk_172 (dk_at dksX0_row_2 11 rfl rfl)
abbrev cX0_isRow : ByteArray := prog_1_method_10_code
def yX0_isRow : MethodName := ⟨RX0, "isRow", "(I)Z"⟩
def dkwX0_isRow_0 : List UInt8 := [26, 133, 9, 20, 0, 97, 184, 0, 99, 172]
abbrev dktX0_isRow_0 : List UInt8 := dkwX0_isRow_0 ++ []
theorem dksX0_isRow_0 : cX0_isRow.data.toList.drop 0 = dktX0_isRow_0 := by decide +kernel
theorem dX0_isRow_0 : decode cX0_isRow 0 = .ok (.iload_n 0, 1) := dk_26 (dk_at dksX0_isRow_0 0 rfl rfl)
theorem dX0_isRow_1 : decode cX0_isRow 1 = .ok (.i2l, 1) := dk_133 (dk_at dksX0_isRow_0 1 rfl rfl)
theorem dX0_isRow_2 : decode cX0_isRow 2 = .ok (.lconst 0, 1) := dk_9 (dk_at dksX0_isRow_0 2 rfl rfl)
theorem dX0_isRow_3 : decode cX0_isRow 3 = .ok (.ldc2_w 97, 3) := dk_20 0 97 (dk_at dksX0_isRow_0 3 rfl rfl)
theorem dX0_isRow_6 : decode cX0_isRow 6 = .ok (.invokestatic 99, 3) := dk_184 0 99 (dk_at dksX0_isRow_0 6 rfl rfl)
theorem dX0_isRow_9 : decode cX0_isRow 9 = .ok (.ireturn, 1) := dk_172 (dk_at dksX0_isRow_0 9 rfl rfl)
abbrev cX0_isIn : ByteArray := prog_1_method_1_code
def yX0_isIn : MethodName := ⟨RX0, "isIn", "(JJJ)Z"⟩
def dkwX0_isIn_0 : List UInt8 := [30, 32, 148, 155, 0, 14, 30, 22, 4, 148, 157, 0, 7, 4, 167, 0, 4, 3, 172]
abbrev dktX0_isIn_0 : List UInt8 := dkwX0_isIn_0 ++ []
theorem dksX0_isIn_0 : cX0_isIn.data.toList.drop 0 = dktX0_isIn_0 := by decide +kernel
theorem dX0_isIn_0 : decode cX0_isIn 0 = .ok (.lload_n 0, 1) := dk_30 (dk_at dksX0_isIn_0 0 rfl rfl)
theorem dX0_isIn_1 : decode cX0_isIn 1 = .ok (.lload_n 2, 1) := dk_32 (dk_at dksX0_isIn_0 1 rfl rfl)
theorem dX0_isIn_2 : decode cX0_isIn 2 = .ok (.lcmp, 1) := dk_148 (dk_at dksX0_isIn_0 2 rfl rfl)
theorem dX0_isIn_3 : decode cX0_isIn 3 = .ok (.ifCond .lt 14, 3) := dk_155 0 14 (dk_at dksX0_isIn_0 3 rfl rfl)
theorem dX0_isIn_6 : decode cX0_isIn 6 = .ok (.lload_n 0, 1) := dk_30 (dk_at dksX0_isIn_0 6 rfl rfl)
theorem dX0_isIn_7 : decode cX0_isIn 7 = .ok (.lload 4, 2) := dk_22 4 (dk_at dksX0_isIn_0 7 rfl rfl)
theorem dX0_isIn_9 : decode cX0_isIn 9 = .ok (.lcmp, 1) := dk_148 (dk_at dksX0_isIn_0 9 rfl rfl)
theorem dX0_isIn_10 : decode cX0_isIn 10 = .ok (.ifCond .gt 7, 3) := dk_157 0 7 (dk_at dksX0_isIn_0 10 rfl rfl)
theorem dX0_isIn_13 : decode cX0_isIn 13 = .ok (.iconst 1, 1) := dk_4 (dk_at dksX0_isIn_0 13 rfl rfl)
theorem dX0_isIn_14 : decode cX0_isIn 14 = .ok (.goto 4, 3) := dk_167 0 4 (dk_at dksX0_isIn_0 14 rfl rfl)
theorem dX0_isIn_17 : decode cX0_isIn 17 = .ok (.iconst 0, 1) := dk_3 (dk_at dksX0_isIn_0 17 rfl rfl)
theorem dX0_isIn_18 : decode cX0_isIn 18 = .ok (.ireturn, 1) := dk_172 (dk_at dksX0_isIn_0 18 rfl rfl)
abbrev cX0_newLane : ByteArray := prog_1_method_11_code
def yX0_newLane : MethodName := ⟨RX0, "newLane", "(II)Ljava/lang/Object;"⟩
def dkwX0_newLane_1 : List UInt8 := [176]
abbrev dktX0_newLane_1 : List UInt8 := dkwX0_newLane_1 ++ []
def dkwX0_newLane_0 : List UInt8 := [26, 154, 0, 9, 27, 188, 8, 167, 0, 17, 26, 4, 160, 0, 9, 27, 188, 9, 167, 0, 6, 27, 188, 10]
abbrev dktX0_newLane_0 : List UInt8 := dkwX0_newLane_0 ++ dktX0_newLane_1
theorem dksX0_newLane_0 : cX0_newLane.data.toList.drop 0 = dktX0_newLane_0 := by decide +kernel
theorem dksX0_newLane_1 : cX0_newLane.data.toList.drop 24 = dktX0_newLane_1 := dk_seg dksX0_newLane_0 24 rfl rfl
theorem dX0_newLane_0 : decode cX0_newLane 0 = .ok (.iload_n 0, 1) := dk_26 (dk_at dksX0_newLane_0 0 rfl rfl)
theorem dX0_newLane_1 : decode cX0_newLane 1 = .ok (.ifCond .ne 9, 3) := dk_154 0 9 (dk_at dksX0_newLane_0 1 rfl rfl)
theorem dX0_newLane_4 : decode cX0_newLane 4 = .ok (.iload_n 1, 1) := dk_27 (dk_at dksX0_newLane_0 4 rfl rfl)
theorem dX0_newLane_5 : decode cX0_newLane 5 = .ok (.newarray .byte, 2) := dk_188_8 (dk_at dksX0_newLane_0 5 rfl rfl)
theorem dX0_newLane_7 : decode cX0_newLane 7 = .ok (.goto 17, 3) := dk_167 0 17 (dk_at dksX0_newLane_0 7 rfl rfl)
theorem dX0_newLane_10 : decode cX0_newLane 10 = .ok (.iload_n 0, 1) := dk_26 (dk_at dksX0_newLane_0 10 rfl rfl)
theorem dX0_newLane_11 : decode cX0_newLane 11 = .ok (.iconst 1, 1) := dk_4 (dk_at dksX0_newLane_0 11 rfl rfl)
theorem dX0_newLane_12 : decode cX0_newLane 12 = .ok (.if_icmp .ne 9, 3) := dk_160 0 9 (dk_at dksX0_newLane_0 12 rfl rfl)
theorem dX0_newLane_15 : decode cX0_newLane 15 = .ok (.iload_n 1, 1) := dk_27 (dk_at dksX0_newLane_0 15 rfl rfl)
theorem dX0_newLane_16 : decode cX0_newLane 16 = .ok (.newarray .short, 2) := dk_188_9 (dk_at dksX0_newLane_0 16 rfl rfl)
theorem dX0_newLane_18 : decode cX0_newLane 18 = .ok (.goto 6, 3) := dk_167 0 6 (dk_at dksX0_newLane_0 18 rfl rfl)
theorem dX0_newLane_21 : decode cX0_newLane 21 = .ok (.iload_n 1, 1) := dk_27 (dk_at dksX0_newLane_0 21 rfl rfl)
theorem dX0_newLane_22 : decode cX0_newLane 22 = .ok (.newarray .int, 2) := dk_188_10 (dk_at dksX0_newLane_0 22 rfl rfl)
theorem dX0_newLane_24 : decode cX0_newLane 24 = .ok (.areturn, 1) := dk_176 (dk_at dksX0_newLane_1 0 rfl rfl)
abbrev cX0_well : ByteArray := prog_1_method_9_code
def yX0_well : MethodName := ⟨RX0, "well", "(I)I"⟩
def dkwX0_well_0 : List UInt8 := [42, 3, 181, 0, 92, 27, 172]
abbrev dktX0_well_0 : List UInt8 := dkwX0_well_0 ++ []
theorem dksX0_well_0 : cX0_well.data.toList.drop 0 = dktX0_well_0 := by decide +kernel
theorem dX0_well_0 : decode cX0_well 0 = .ok (.aload_n 0, 1) := dk_42 (dk_at dksX0_well_0 0 rfl rfl)
theorem dX0_well_1 : decode cX0_well 1 = .ok (.iconst 0, 1) := dk_3 (dk_at dksX0_well_0 1 rfl rfl)
theorem dX0_well_2 : decode cX0_well 2 = .ok (.putfield 92, 3) := dk_181 0 92 (dk_at dksX0_well_0 2 rfl rfl)
theorem dX0_well_5 : decode cX0_well 5 = .ok (.iload_n 1, 1) := dk_27 (dk_at dksX0_well_0 5 rfl rfl)
theorem dX0_well_6 : decode cX0_well 6 = .ok (.ireturn, 1) := dk_172 (dk_at dksX0_well_0 6 rfl rfl)
abbrev cX0_found : ByteArray := prog_1_method_8_code
def yX0_found : MethodName := ⟨RX0, "found", "(I)I"⟩
def dkwX0_found_0 : List UInt8 := [42, 27, 181, 0, 92, 18, 96, 27, 100, 172]
abbrev dktX0_found_0 : List UInt8 := dkwX0_found_0 ++ []
theorem dksX0_found_0 : cX0_found.data.toList.drop 0 = dktX0_found_0 := by decide +kernel
theorem dX0_found_0 : decode cX0_found 0 = .ok (.aload_n 0, 1) := dk_42 (dk_at dksX0_found_0 0 rfl rfl)
theorem dX0_found_1 : decode cX0_found 1 = .ok (.iload_n 1, 1) := dk_27 (dk_at dksX0_found_0 1 rfl rfl)
theorem dX0_found_2 : decode cX0_found 2 = .ok (.putfield 92, 3) := dk_181 0 92 (dk_at dksX0_found_0 2 rfl rfl)
theorem dX0_found_5 : decode cX0_found 5 = .ok (.ldc 96, 2) := dk_18 96 (dk_at dksX0_found_0 5 rfl rfl)
theorem dX0_found_7 : decode cX0_found 7 = .ok (.iload_n 1, 1) := dk_27 (dk_at dksX0_found_0 7 rfl rfl)
theorem dX0_found_8 : decode cX0_found 8 = .ok (.isub, 1) := dk_100 (dk_at dksX0_found_0 8 rfl rfl)
theorem dX0_found_9 : decode cX0_found 9 = .ok (.ireturn, 1) := dk_172 (dk_at dksX0_found_0 9 rfl rfl)
abbrev cX0_set : ByteArray := prog_1_method_13_code
def yX0_set : MethodName := ⟨RX0, "set", "(III)I"⟩
def dkwX0_set_1 : List UInt8 := [182, 0, 118, 172, 58, 4, 42, 4, 182, 0, 124, 172, 58, 4, 42, 5, 182, 0, 124, 172]
abbrev dktX0_set_1 : List UInt8 := dkwX0_set_1 ++ []
def dkwX0_set_0 : List UInt8 := [27, 184, 0, 103, 154, 0, 6, 18, 109, 172, 42, 42, 180, 0, 46, 27, 50, 28, 29, 182, 0, 127]
abbrev dktX0_set_0 : List UInt8 := dkwX0_set_0 ++ dktX0_set_1
theorem dksX0_set_0 : cX0_set.data.toList.drop 0 = dktX0_set_0 := by decide +kernel
theorem dksX0_set_1 : cX0_set.data.toList.drop 22 = dktX0_set_1 := dk_seg dksX0_set_0 22 rfl rfl
theorem dX0_set_0 : decode cX0_set 0 = .ok (.iload_n 1, 1) := dk_27 (dk_at dksX0_set_0 0 rfl rfl)
theorem dX0_set_1 : decode cX0_set 1 = .ok (.invokestatic 103, 3) := dk_184 0 103 (dk_at dksX0_set_0 1 rfl rfl)
theorem dX0_set_4 : decode cX0_set 4 = .ok (.ifCond .ne 6, 3) := dk_154 0 6 (dk_at dksX0_set_0 4 rfl rfl)
theorem dX0_set_7 : decode cX0_set 7 = .ok (.ldc 109, 2) := dk_18 109 (dk_at dksX0_set_0 7 rfl rfl)
theorem dX0_set_9 : decode cX0_set 9 = .ok (.ireturn, 1) := dk_172 (dk_at dksX0_set_0 9 rfl rfl)
theorem dX0_set_10 : decode cX0_set 10 = .ok (.aload_n 0, 1) := dk_42 (dk_at dksX0_set_0 10 rfl rfl)
theorem dX0_set_11 : decode cX0_set 11 = .ok (.aload_n 0, 1) := dk_42 (dk_at dksX0_set_0 11 rfl rfl)
theorem dX0_set_12 : decode cX0_set 12 = .ok (.getfield 46, 3) := dk_180 0 46 (dk_at dksX0_set_0 12 rfl rfl)
theorem dX0_set_15 : decode cX0_set 15 = .ok (.iload_n 1, 1) := dk_27 (dk_at dksX0_set_0 15 rfl rfl)
theorem dX0_set_16 : decode cX0_set 16 = .ok (.aaload, 1) := dk_50 (dk_at dksX0_set_0 16 rfl rfl)
theorem dX0_set_17 : decode cX0_set 17 = .ok (.iload_n 2, 1) := dk_28 (dk_at dksX0_set_0 17 rfl rfl)
theorem dX0_set_18 : decode cX0_set 18 = .ok (.iload_n 3, 1) := dk_29 (dk_at dksX0_set_0 18 rfl rfl)
theorem dX0_set_19 : decode cX0_set 19 = .ok (.invokevirtual 127, 3) := dk_182 0 127 (dk_at dksX0_set_0 19 rfl rfl)
theorem dX0_set_22 : decode cX0_set 22 = .ok (.invokevirtual 118, 3) := dk_182 0 118 (dk_at dksX0_set_1 0 rfl rfl)
theorem dX0_set_25 : decode cX0_set 25 = .ok (.ireturn, 1) := dk_172 (dk_at dksX0_set_1 3 rfl rfl)
theorem dX0_set_26 : decode cX0_set 26 = .ok (.astore 4, 2) := dk_58 4 (dk_at dksX0_set_1 4 rfl rfl)
theorem dX0_set_28 : decode cX0_set 28 = .ok (.aload_n 0, 1) := dk_42 (dk_at dksX0_set_1 6 rfl rfl)
theorem dX0_set_29 : decode cX0_set 29 = .ok (.iconst 1, 1) := dk_4 (dk_at dksX0_set_1 7 rfl rfl)
theorem dX0_set_30 : decode cX0_set 30 = .ok (.invokevirtual 124, 3) := dk_182 0 124 (dk_at dksX0_set_1 8 rfl rfl)
theorem dX0_set_33 : decode cX0_set 33 = .ok (.ireturn, 1) := dk_172 (dk_at dksX0_set_1 11 rfl rfl)
theorem dX0_set_34 : decode cX0_set 34 = .ok (.astore 4, 2) := dk_58 4 (dk_at dksX0_set_1 12 rfl rfl)
theorem dX0_set_36 : decode cX0_set 36 = .ok (.aload_n 0, 1) := dk_42 (dk_at dksX0_set_1 14 rfl rfl)
theorem dX0_set_37 : decode cX0_set 37 = .ok (.iconst 2, 1) := dk_5 (dk_at dksX0_set_1 15 rfl rfl)
theorem dX0_set_38 : decode cX0_set 38 = .ok (.invokevirtual 124, 3) := dk_182 0 124 (dk_at dksX0_set_1 16 rfl rfl)
theorem dX0_set_41 : decode cX0_set 41 = .ok (.ireturn, 1) := dk_172 (dk_at dksX0_set_1 19 rfl rfl)
abbrev cX0_copy : ByteArray := prog_1_method_14_code
def yX0_copy : MethodName := ⟨RX0, "copy", "(IIIII)I"⟩
def dkwX0_copy_3 : List UInt8 := [182, 0, 124, 172]
abbrev dktX0_copy_3 : List UInt8 := dkwX0_copy_3 ++ []
def dkwX0_copy_2 : List UInt8 := [182, 0, 118, 172, 58, 6, 42, 4, 182, 0, 124, 172, 58, 6, 42, 8, 182, 0, 124, 172, 58, 6, 42, 5]
abbrev dktX0_copy_2 : List UInt8 := dkwX0_copy_2 ++ dktX0_copy_3
def dkwX0_copy_1 : List UInt8 := [180, 0, 114, 28, 42, 180, 0, 46, 29, 50, 180, 0, 114, 21, 4, 21, 5, 184, 0, 135, 42, 21, 5]
abbrev dktX0_copy_1 : List UInt8 := dkwX0_copy_1 ++ dktX0_copy_2
def dkwX0_copy_0 : List UInt8 := [27, 184, 0, 103, 153, 0, 10, 29, 184, 0, 103, 154, 0, 6, 18, 109, 172, 42, 180, 0, 46, 27, 50]
abbrev dktX0_copy_0 : List UInt8 := dkwX0_copy_0 ++ dktX0_copy_1
theorem dksX0_copy_0 : cX0_copy.data.toList.drop 0 = dktX0_copy_0 := by decide +kernel
theorem dksX0_copy_1 : cX0_copy.data.toList.drop 23 = dktX0_copy_1 := dk_seg dksX0_copy_0 23 rfl rfl
theorem dksX0_copy_2 : cX0_copy.data.toList.drop 46 = dktX0_copy_2 := dk_seg dksX0_copy_1 23 rfl rfl
theorem dksX0_copy_3 : cX0_copy.data.toList.drop 70 = dktX0_copy_3 := dk_seg dksX0_copy_2 24 rfl rfl
theorem dX0_copy_0 : decode cX0_copy 0 = .ok (.iload_n 1, 1) := dk_27 (dk_at dksX0_copy_0 0 rfl rfl)
theorem dX0_copy_1 : decode cX0_copy 1 = .ok (.invokestatic 103, 3) := dk_184 0 103 (dk_at dksX0_copy_0 1 rfl rfl)
theorem dX0_copy_4 : decode cX0_copy 4 = .ok (.ifCond .eq 10, 3) := dk_153 0 10 (dk_at dksX0_copy_0 4 rfl rfl)
theorem dX0_copy_7 : decode cX0_copy 7 = .ok (.iload_n 3, 1) := dk_29 (dk_at dksX0_copy_0 7 rfl rfl)
theorem dX0_copy_8 : decode cX0_copy 8 = .ok (.invokestatic 103, 3) := dk_184 0 103 (dk_at dksX0_copy_0 8 rfl rfl)
theorem dX0_copy_11 : decode cX0_copy 11 = .ok (.ifCond .ne 6, 3) := dk_154 0 6 (dk_at dksX0_copy_0 11 rfl rfl)
theorem dX0_copy_14 : decode cX0_copy 14 = .ok (.ldc 109, 2) := dk_18 109 (dk_at dksX0_copy_0 14 rfl rfl)
theorem dX0_copy_16 : decode cX0_copy 16 = .ok (.ireturn, 1) := dk_172 (dk_at dksX0_copy_0 16 rfl rfl)
theorem dX0_copy_17 : decode cX0_copy 17 = .ok (.aload_n 0, 1) := dk_42 (dk_at dksX0_copy_0 17 rfl rfl)
theorem dX0_copy_18 : decode cX0_copy 18 = .ok (.getfield 46, 3) := dk_180 0 46 (dk_at dksX0_copy_0 18 rfl rfl)
theorem dX0_copy_21 : decode cX0_copy 21 = .ok (.iload_n 1, 1) := dk_27 (dk_at dksX0_copy_0 21 rfl rfl)
theorem dX0_copy_22 : decode cX0_copy 22 = .ok (.aaload, 1) := dk_50 (dk_at dksX0_copy_0 22 rfl rfl)
theorem dX0_copy_23 : decode cX0_copy 23 = .ok (.getfield 114, 3) := dk_180 0 114 (dk_at dksX0_copy_1 0 rfl rfl)
theorem dX0_copy_26 : decode cX0_copy 26 = .ok (.iload_n 2, 1) := dk_28 (dk_at dksX0_copy_1 3 rfl rfl)
theorem dX0_copy_27 : decode cX0_copy 27 = .ok (.aload_n 0, 1) := dk_42 (dk_at dksX0_copy_1 4 rfl rfl)
theorem dX0_copy_28 : decode cX0_copy 28 = .ok (.getfield 46, 3) := dk_180 0 46 (dk_at dksX0_copy_1 5 rfl rfl)
theorem dX0_copy_31 : decode cX0_copy 31 = .ok (.iload_n 3, 1) := dk_29 (dk_at dksX0_copy_1 8 rfl rfl)
theorem dX0_copy_32 : decode cX0_copy 32 = .ok (.aaload, 1) := dk_50 (dk_at dksX0_copy_1 9 rfl rfl)
theorem dX0_copy_33 : decode cX0_copy 33 = .ok (.getfield 114, 3) := dk_180 0 114 (dk_at dksX0_copy_1 10 rfl rfl)
theorem dX0_copy_36 : decode cX0_copy 36 = .ok (.iload 4, 2) := dk_21 4 (dk_at dksX0_copy_1 13 rfl rfl)
theorem dX0_copy_38 : decode cX0_copy 38 = .ok (.iload 5, 2) := dk_21 5 (dk_at dksX0_copy_1 15 rfl rfl)
theorem dX0_copy_40 : decode cX0_copy 40 = .ok (.invokestatic 135, 3) := dk_184 0 135 (dk_at dksX0_copy_1 17 rfl rfl)
theorem dX0_copy_43 : decode cX0_copy 43 = .ok (.aload_n 0, 1) := dk_42 (dk_at dksX0_copy_1 20 rfl rfl)
theorem dX0_copy_44 : decode cX0_copy 44 = .ok (.iload 5, 2) := dk_21 5 (dk_at dksX0_copy_1 21 rfl rfl)
theorem dX0_copy_46 : decode cX0_copy 46 = .ok (.invokevirtual 118, 3) := dk_182 0 118 (dk_at dksX0_copy_2 0 rfl rfl)
theorem dX0_copy_49 : decode cX0_copy 49 = .ok (.ireturn, 1) := dk_172 (dk_at dksX0_copy_2 3 rfl rfl)
theorem dX0_copy_50 : decode cX0_copy 50 = .ok (.astore 6, 2) := dk_58 6 (dk_at dksX0_copy_2 4 rfl rfl)
theorem dX0_copy_52 : decode cX0_copy 52 = .ok (.aload_n 0, 1) := dk_42 (dk_at dksX0_copy_2 6 rfl rfl)
theorem dX0_copy_53 : decode cX0_copy 53 = .ok (.iconst 1, 1) := dk_4 (dk_at dksX0_copy_2 7 rfl rfl)
theorem dX0_copy_54 : decode cX0_copy 54 = .ok (.invokevirtual 124, 3) := dk_182 0 124 (dk_at dksX0_copy_2 8 rfl rfl)
theorem dX0_copy_57 : decode cX0_copy 57 = .ok (.ireturn, 1) := dk_172 (dk_at dksX0_copy_2 11 rfl rfl)
theorem dX0_copy_58 : decode cX0_copy 58 = .ok (.astore 6, 2) := dk_58 6 (dk_at dksX0_copy_2 12 rfl rfl)
theorem dX0_copy_60 : decode cX0_copy 60 = .ok (.aload_n 0, 1) := dk_42 (dk_at dksX0_copy_2 14 rfl rfl)
theorem dX0_copy_61 : decode cX0_copy 61 = .ok (.iconst 5, 1) := dk_8 (dk_at dksX0_copy_2 15 rfl rfl)
theorem dX0_copy_62 : decode cX0_copy 62 = .ok (.invokevirtual 124, 3) := dk_182 0 124 (dk_at dksX0_copy_2 16 rfl rfl)
theorem dX0_copy_65 : decode cX0_copy 65 = .ok (.ireturn, 1) := dk_172 (dk_at dksX0_copy_2 19 rfl rfl)
theorem dX0_copy_66 : decode cX0_copy 66 = .ok (.astore 6, 2) := dk_58 6 (dk_at dksX0_copy_2 20 rfl rfl)
theorem dX0_copy_68 : decode cX0_copy 68 = .ok (.aload_n 0, 1) := dk_42 (dk_at dksX0_copy_2 22 rfl rfl)
theorem dX0_copy_69 : decode cX0_copy 69 = .ok (.iconst 2, 1) := dk_5 (dk_at dksX0_copy_2 23 rfl rfl)
theorem dX0_copy_70 : decode cX0_copy 70 = .ok (.invokevirtual 124, 3) := dk_182 0 124 (dk_at dksX0_copy_3 0 rfl rfl)
theorem dX0_copy_73 : decode cX0_copy 73 = .ok (.ireturn, 1) := dk_172 (dk_at dksX0_copy_3 3 rfl rfl)
abbrev cX0_drop : ByteArray := prog_1_method_15_code
def yX0_drop : MethodName := ⟨RX0, "drop", "(I)I"⟩
def dkwX0_drop_2 : List UInt8 := [50, 1, 181, 0, 114, 29, 172, 58, 4, 42, 180, 0, 46, 27, 50, 1, 181, 0, 114, 25, 4, 191]
abbrev dktX0_drop_2 : List UInt8 := dkwX0_drop_2 ++ []
def dkwX0_drop_1 : List UInt8 := [42, 180, 0, 46, 27, 50, 1, 181, 0, 114, 28, 172, 77, 42, 4, 182, 0, 124, 62, 42, 180, 0, 46, 27]
abbrev dktX0_drop_1 : List UInt8 := dkwX0_drop_1 ++ dktX0_drop_2
def dkwX0_drop_0 : List UInt8 := [27, 184, 0, 103, 154, 0, 6, 18, 109, 172, 42, 42, 180, 0, 46, 27, 50, 182, 0, 145, 182, 0, 118, 61]
abbrev dktX0_drop_0 : List UInt8 := dkwX0_drop_0 ++ dktX0_drop_1
theorem dksX0_drop_0 : cX0_drop.data.toList.drop 0 = dktX0_drop_0 := by decide +kernel
theorem dksX0_drop_1 : cX0_drop.data.toList.drop 24 = dktX0_drop_1 := dk_seg dksX0_drop_0 24 rfl rfl
theorem dksX0_drop_2 : cX0_drop.data.toList.drop 48 = dktX0_drop_2 := dk_seg dksX0_drop_1 24 rfl rfl
theorem dX0_drop_0 : decode cX0_drop 0 = .ok (.iload_n 1, 1) := dk_27 (dk_at dksX0_drop_0 0 rfl rfl)
theorem dX0_drop_1 : decode cX0_drop 1 = .ok (.invokestatic 103, 3) := dk_184 0 103 (dk_at dksX0_drop_0 1 rfl rfl)
theorem dX0_drop_4 : decode cX0_drop 4 = .ok (.ifCond .ne 6, 3) := dk_154 0 6 (dk_at dksX0_drop_0 4 rfl rfl)
theorem dX0_drop_7 : decode cX0_drop 7 = .ok (.ldc 109, 2) := dk_18 109 (dk_at dksX0_drop_0 7 rfl rfl)
theorem dX0_drop_9 : decode cX0_drop 9 = .ok (.ireturn, 1) := dk_172 (dk_at dksX0_drop_0 9 rfl rfl)
theorem dX0_drop_10 : decode cX0_drop 10 = .ok (.aload_n 0, 1) := dk_42 (dk_at dksX0_drop_0 10 rfl rfl)
theorem dX0_drop_11 : decode cX0_drop 11 = .ok (.aload_n 0, 1) := dk_42 (dk_at dksX0_drop_0 11 rfl rfl)
theorem dX0_drop_12 : decode cX0_drop 12 = .ok (.getfield 46, 3) := dk_180 0 46 (dk_at dksX0_drop_0 12 rfl rfl)
theorem dX0_drop_15 : decode cX0_drop 15 = .ok (.iload_n 1, 1) := dk_27 (dk_at dksX0_drop_0 15 rfl rfl)
theorem dX0_drop_16 : decode cX0_drop 16 = .ok (.aaload, 1) := dk_50 (dk_at dksX0_drop_0 16 rfl rfl)
theorem dX0_drop_17 : decode cX0_drop 17 = .ok (.invokevirtual 145, 3) := dk_182 0 145 (dk_at dksX0_drop_0 17 rfl rfl)
theorem dX0_drop_20 : decode cX0_drop 20 = .ok (.invokevirtual 118, 3) := dk_182 0 118 (dk_at dksX0_drop_0 20 rfl rfl)
theorem dX0_drop_23 : decode cX0_drop 23 = .ok (.istore_n 2, 1) := dk_61 (dk_at dksX0_drop_0 23 rfl rfl)
theorem dX0_drop_24 : decode cX0_drop 24 = .ok (.aload_n 0, 1) := dk_42 (dk_at dksX0_drop_1 0 rfl rfl)
theorem dX0_drop_25 : decode cX0_drop 25 = .ok (.getfield 46, 3) := dk_180 0 46 (dk_at dksX0_drop_1 1 rfl rfl)
theorem dX0_drop_28 : decode cX0_drop 28 = .ok (.iload_n 1, 1) := dk_27 (dk_at dksX0_drop_1 4 rfl rfl)
theorem dX0_drop_29 : decode cX0_drop 29 = .ok (.aaload, 1) := dk_50 (dk_at dksX0_drop_1 5 rfl rfl)
theorem dX0_drop_30 : decode cX0_drop 30 = .ok (.aconst_null, 1) := dk_1 (dk_at dksX0_drop_1 6 rfl rfl)
theorem dX0_drop_31 : decode cX0_drop 31 = .ok (.putfield 114, 3) := dk_181 0 114 (dk_at dksX0_drop_1 7 rfl rfl)
theorem dX0_drop_34 : decode cX0_drop 34 = .ok (.iload_n 2, 1) := dk_28 (dk_at dksX0_drop_1 10 rfl rfl)
theorem dX0_drop_35 : decode cX0_drop 35 = .ok (.ireturn, 1) := dk_172 (dk_at dksX0_drop_1 11 rfl rfl)
theorem dX0_drop_36 : decode cX0_drop 36 = .ok (.astore_n 2, 1) := dk_77 (dk_at dksX0_drop_1 12 rfl rfl)
theorem dX0_drop_37 : decode cX0_drop 37 = .ok (.aload_n 0, 1) := dk_42 (dk_at dksX0_drop_1 13 rfl rfl)
theorem dX0_drop_38 : decode cX0_drop 38 = .ok (.iconst 1, 1) := dk_4 (dk_at dksX0_drop_1 14 rfl rfl)
theorem dX0_drop_39 : decode cX0_drop 39 = .ok (.invokevirtual 124, 3) := dk_182 0 124 (dk_at dksX0_drop_1 15 rfl rfl)
theorem dX0_drop_42 : decode cX0_drop 42 = .ok (.istore_n 3, 1) := dk_62 (dk_at dksX0_drop_1 18 rfl rfl)
theorem dX0_drop_43 : decode cX0_drop 43 = .ok (.aload_n 0, 1) := dk_42 (dk_at dksX0_drop_1 19 rfl rfl)
theorem dX0_drop_44 : decode cX0_drop 44 = .ok (.getfield 46, 3) := dk_180 0 46 (dk_at dksX0_drop_1 20 rfl rfl)
theorem dX0_drop_47 : decode cX0_drop 47 = .ok (.iload_n 1, 1) := dk_27 (dk_at dksX0_drop_1 23 rfl rfl)
theorem dX0_drop_48 : decode cX0_drop 48 = .ok (.aaload, 1) := dk_50 (dk_at dksX0_drop_2 0 rfl rfl)
theorem dX0_drop_49 : decode cX0_drop 49 = .ok (.aconst_null, 1) := dk_1 (dk_at dksX0_drop_2 1 rfl rfl)
theorem dX0_drop_50 : decode cX0_drop 50 = .ok (.putfield 114, 3) := dk_181 0 114 (dk_at dksX0_drop_2 2 rfl rfl)
theorem dX0_drop_53 : decode cX0_drop 53 = .ok (.iload_n 3, 1) := dk_29 (dk_at dksX0_drop_2 5 rfl rfl)
theorem dX0_drop_54 : decode cX0_drop 54 = .ok (.ireturn, 1) := dk_172 (dk_at dksX0_drop_2 6 rfl rfl)
theorem dX0_drop_55 : decode cX0_drop 55 = .ok (.astore 4, 2) := dk_58 4 (dk_at dksX0_drop_2 7 rfl rfl)
theorem dX0_drop_57 : decode cX0_drop 57 = .ok (.aload_n 0, 1) := dk_42 (dk_at dksX0_drop_2 9 rfl rfl)
theorem dX0_drop_58 : decode cX0_drop 58 = .ok (.getfield 46, 3) := dk_180 0 46 (dk_at dksX0_drop_2 10 rfl rfl)
theorem dX0_drop_61 : decode cX0_drop 61 = .ok (.iload_n 1, 1) := dk_27 (dk_at dksX0_drop_2 13 rfl rfl)
theorem dX0_drop_62 : decode cX0_drop 62 = .ok (.aaload, 1) := dk_50 (dk_at dksX0_drop_2 14 rfl rfl)
theorem dX0_drop_63 : decode cX0_drop 63 = .ok (.aconst_null, 1) := dk_1 (dk_at dksX0_drop_2 15 rfl rfl)
theorem dX0_drop_64 : decode cX0_drop 64 = .ok (.putfield 114, 3) := dk_181 0 114 (dk_at dksX0_drop_2 16 rfl rfl)
theorem dX0_drop_67 : decode cX0_drop 67 = .ok (.aload 4, 2) := dk_25 4 (dk_at dksX0_drop_2 19 rfl rfl)
theorem dX0_drop_69 : decode cX0_drop 69 = .ok (.athrow, 1) := dk_191 (dk_at dksX0_drop_2 21 rfl rfl)
abbrev cX0_feed : ByteArray := prog_1_method_17_code
def yX0_feed : MethodName := ⟨RX0, "feed", "(I)I"⟩
def dkwX0_feed_2 : List UInt8 := [42, 180, 0, 154, 172]
abbrev dktX0_feed_2 : List UInt8 := dkwX0_feed_2 ++ []
def dkwX0_feed_1 : List UInt8 := [160, 0, 6, 18, 157, 172, 42, 180, 0, 50, 42, 89, 180, 0, 154, 90, 4, 96, 181, 0, 154, 27, 145, 84]
abbrev dktX0_feed_1 : List UInt8 := dkwX0_feed_1 ++ dktX0_feed_2
def dkwX0_feed_0 : List UInt8 := [27, 133, 9, 20, 0, 152, 184, 0, 99, 154, 0, 6, 18, 109, 172, 42, 180, 0, 154, 17, 0, 130]
abbrev dktX0_feed_0 : List UInt8 := dkwX0_feed_0 ++ dktX0_feed_1
theorem dksX0_feed_0 : cX0_feed.data.toList.drop 0 = dktX0_feed_0 := by decide +kernel
theorem dksX0_feed_1 : cX0_feed.data.toList.drop 22 = dktX0_feed_1 := dk_seg dksX0_feed_0 22 rfl rfl
theorem dksX0_feed_2 : cX0_feed.data.toList.drop 46 = dktX0_feed_2 := dk_seg dksX0_feed_1 24 rfl rfl
theorem dX0_feed_0 : decode cX0_feed 0 = .ok (.iload_n 1, 1) := dk_27 (dk_at dksX0_feed_0 0 rfl rfl)
theorem dX0_feed_1 : decode cX0_feed 1 = .ok (.i2l, 1) := dk_133 (dk_at dksX0_feed_0 1 rfl rfl)
theorem dX0_feed_2 : decode cX0_feed 2 = .ok (.lconst 0, 1) := dk_9 (dk_at dksX0_feed_0 2 rfl rfl)
theorem dX0_feed_3 : decode cX0_feed 3 = .ok (.ldc2_w 152, 3) := dk_20 0 152 (dk_at dksX0_feed_0 3 rfl rfl)
theorem dX0_feed_6 : decode cX0_feed 6 = .ok (.invokestatic 99, 3) := dk_184 0 99 (dk_at dksX0_feed_0 6 rfl rfl)
theorem dX0_feed_9 : decode cX0_feed 9 = .ok (.ifCond .ne 6, 3) := dk_154 0 6 (dk_at dksX0_feed_0 9 rfl rfl)
theorem dX0_feed_12 : decode cX0_feed 12 = .ok (.ldc 109, 2) := dk_18 109 (dk_at dksX0_feed_0 12 rfl rfl)
theorem dX0_feed_14 : decode cX0_feed 14 = .ok (.ireturn, 1) := dk_172 (dk_at dksX0_feed_0 14 rfl rfl)
theorem dX0_feed_15 : decode cX0_feed 15 = .ok (.aload_n 0, 1) := dk_42 (dk_at dksX0_feed_0 15 rfl rfl)
theorem dX0_feed_16 : decode cX0_feed 16 = .ok (.getfield 154, 3) := dk_180 0 154 (dk_at dksX0_feed_0 16 rfl rfl)
theorem dX0_feed_19 : decode cX0_feed 19 = .ok (.sipush 130, 3) := dk_17 0 130 (dk_at dksX0_feed_0 19 rfl rfl)
theorem dX0_feed_22 : decode cX0_feed 22 = .ok (.if_icmp .ne 6, 3) := dk_160 0 6 (dk_at dksX0_feed_1 0 rfl rfl)
theorem dX0_feed_25 : decode cX0_feed 25 = .ok (.ldc 157, 2) := dk_18 157 (dk_at dksX0_feed_1 3 rfl rfl)
theorem dX0_feed_27 : decode cX0_feed 27 = .ok (.ireturn, 1) := dk_172 (dk_at dksX0_feed_1 5 rfl rfl)
theorem dX0_feed_28 : decode cX0_feed 28 = .ok (.aload_n 0, 1) := dk_42 (dk_at dksX0_feed_1 6 rfl rfl)
theorem dX0_feed_29 : decode cX0_feed 29 = .ok (.getfield 50, 3) := dk_180 0 50 (dk_at dksX0_feed_1 7 rfl rfl)
theorem dX0_feed_32 : decode cX0_feed 32 = .ok (.aload_n 0, 1) := dk_42 (dk_at dksX0_feed_1 10 rfl rfl)
theorem dX0_feed_33 : decode cX0_feed 33 = .ok (.dup, 1) := dk_89 (dk_at dksX0_feed_1 11 rfl rfl)
theorem dX0_feed_34 : decode cX0_feed 34 = .ok (.getfield 154, 3) := dk_180 0 154 (dk_at dksX0_feed_1 12 rfl rfl)
theorem dX0_feed_37 : decode cX0_feed 37 = .ok (.dup_x1, 1) := dk_90 (dk_at dksX0_feed_1 15 rfl rfl)
theorem dX0_feed_38 : decode cX0_feed 38 = .ok (.iconst 1, 1) := dk_4 (dk_at dksX0_feed_1 16 rfl rfl)
theorem dX0_feed_39 : decode cX0_feed 39 = .ok (.iadd, 1) := dk_96 (dk_at dksX0_feed_1 17 rfl rfl)
theorem dX0_feed_40 : decode cX0_feed 40 = .ok (.putfield 154, 3) := dk_181 0 154 (dk_at dksX0_feed_1 18 rfl rfl)
theorem dX0_feed_43 : decode cX0_feed 43 = .ok (.iload_n 1, 1) := dk_27 (dk_at dksX0_feed_1 21 rfl rfl)
theorem dX0_feed_44 : decode cX0_feed 44 = .ok (.i2b, 1) := dk_145 (dk_at dksX0_feed_1 22 rfl rfl)
theorem dX0_feed_45 : decode cX0_feed 45 = .ok (.bastore, 1) := dk_84 (dk_at dksX0_feed_1 23 rfl rfl)
theorem dX0_feed_46 : decode cX0_feed 46 = .ok (.aload_n 0, 1) := dk_42 (dk_at dksX0_feed_2 0 rfl rfl)
theorem dX0_feed_47 : decode cX0_feed 47 = .ok (.getfield 154, 3) := dk_180 0 154 (dk_at dksX0_feed_2 1 rfl rfl)
theorem dX0_feed_50 : decode cX0_feed 50 = .ok (.ireturn, 1) := dk_172 (dk_at dksX0_feed_2 4 rfl rfl)
abbrev cX0_net : ByteArray := prog_1_method_18_code
def yX0_net : MethodName := ⟨RX0, "net", "()I"⟩
def dkwX0_net_3 : List UInt8 := [182, 0, 181, 182, 0, 185, 87, 42, 3, 181, 0, 189, 42, 180, 0, 57, 180, 0, 192, 172]
abbrev dktX0_net_3 : List UInt8 := dkwX0_net_3 ++ []
def dkwX0_net_2 : List UInt8 := [3, 181, 0, 154, 29, 172, 58, 4, 42, 3, 181, 0, 154, 25, 4, 191, 42, 180, 0, 57, 43, 180, 0, 178]
abbrev dktX0_net_2 : List UInt8 := dkwX0_net_2 ++ dktX0_net_3
def dkwX0_net_1 : List UInt8 := [181, 0, 154, 167, 0, 37, 77, 42, 44, 180, 0, 168, 181, 0, 171, 18, 174, 44, 180, 0, 175, 100, 62, 42]
abbrev dktX0_net_1 : List UInt8 := dkwX0_net_1 ++ dktX0_net_2
def dkwX0_net_0 : List UInt8 := [187, 0, 158, 89, 42, 180, 0, 50, 42, 180, 0, 154, 183, 0, 160, 76, 43, 182, 0, 163, 42, 3]
abbrev dktX0_net_0 : List UInt8 := dkwX0_net_0 ++ dktX0_net_1
theorem dksX0_net_0 : cX0_net.data.toList.drop 0 = dktX0_net_0 := by decide +kernel
theorem dksX0_net_1 : cX0_net.data.toList.drop 22 = dktX0_net_1 := dk_seg dksX0_net_0 22 rfl rfl
theorem dksX0_net_2 : cX0_net.data.toList.drop 46 = dktX0_net_2 := dk_seg dksX0_net_1 24 rfl rfl
theorem dksX0_net_3 : cX0_net.data.toList.drop 70 = dktX0_net_3 := dk_seg dksX0_net_2 24 rfl rfl
theorem dX0_net_0 : decode cX0_net 0 = .ok (.new 158, 3) := dk_187 0 158 (dk_at dksX0_net_0 0 rfl rfl)
theorem dX0_net_3 : decode cX0_net 3 = .ok (.dup, 1) := dk_89 (dk_at dksX0_net_0 3 rfl rfl)
theorem dX0_net_4 : decode cX0_net 4 = .ok (.aload_n 0, 1) := dk_42 (dk_at dksX0_net_0 4 rfl rfl)
theorem dX0_net_5 : decode cX0_net 5 = .ok (.getfield 50, 3) := dk_180 0 50 (dk_at dksX0_net_0 5 rfl rfl)
theorem dX0_net_8 : decode cX0_net 8 = .ok (.aload_n 0, 1) := dk_42 (dk_at dksX0_net_0 8 rfl rfl)
theorem dX0_net_9 : decode cX0_net 9 = .ok (.getfield 154, 3) := dk_180 0 154 (dk_at dksX0_net_0 9 rfl rfl)
theorem dX0_net_12 : decode cX0_net 12 = .ok (.invokespecial 160, 3) := dk_183 0 160 (dk_at dksX0_net_0 12 rfl rfl)
theorem dX0_net_15 : decode cX0_net 15 = .ok (.astore_n 1, 1) := dk_76 (dk_at dksX0_net_0 15 rfl rfl)
theorem dX0_net_16 : decode cX0_net 16 = .ok (.aload_n 1, 1) := dk_43 (dk_at dksX0_net_0 16 rfl rfl)
theorem dX0_net_17 : decode cX0_net 17 = .ok (.invokevirtual 163, 3) := dk_182 0 163 (dk_at dksX0_net_0 17 rfl rfl)
theorem dX0_net_20 : decode cX0_net 20 = .ok (.aload_n 0, 1) := dk_42 (dk_at dksX0_net_0 20 rfl rfl)
theorem dX0_net_21 : decode cX0_net 21 = .ok (.iconst 0, 1) := dk_3 (dk_at dksX0_net_0 21 rfl rfl)
theorem dX0_net_22 : decode cX0_net 22 = .ok (.putfield 154, 3) := dk_181 0 154 (dk_at dksX0_net_1 0 rfl rfl)
theorem dX0_net_25 : decode cX0_net 25 = .ok (.goto 37, 3) := dk_167 0 37 (dk_at dksX0_net_1 3 rfl rfl)
theorem dX0_net_28 : decode cX0_net 28 = .ok (.astore_n 2, 1) := dk_77 (dk_at dksX0_net_1 6 rfl rfl)
theorem dX0_net_29 : decode cX0_net 29 = .ok (.aload_n 0, 1) := dk_42 (dk_at dksX0_net_1 7 rfl rfl)
theorem dX0_net_30 : decode cX0_net 30 = .ok (.aload_n 2, 1) := dk_44 (dk_at dksX0_net_1 8 rfl rfl)
theorem dX0_net_31 : decode cX0_net 31 = .ok (.getfield 168, 3) := dk_180 0 168 (dk_at dksX0_net_1 9 rfl rfl)
theorem dX0_net_34 : decode cX0_net 34 = .ok (.putfield 171, 3) := dk_181 0 171 (dk_at dksX0_net_1 12 rfl rfl)
theorem dX0_net_37 : decode cX0_net 37 = .ok (.ldc 174, 2) := dk_18 174 (dk_at dksX0_net_1 15 rfl rfl)
theorem dX0_net_39 : decode cX0_net 39 = .ok (.aload_n 2, 1) := dk_44 (dk_at dksX0_net_1 17 rfl rfl)
theorem dX0_net_40 : decode cX0_net 40 = .ok (.getfield 175, 3) := dk_180 0 175 (dk_at dksX0_net_1 18 rfl rfl)
theorem dX0_net_43 : decode cX0_net 43 = .ok (.isub, 1) := dk_100 (dk_at dksX0_net_1 21 rfl rfl)
theorem dX0_net_44 : decode cX0_net 44 = .ok (.istore_n 3, 1) := dk_62 (dk_at dksX0_net_1 22 rfl rfl)
theorem dX0_net_45 : decode cX0_net 45 = .ok (.aload_n 0, 1) := dk_42 (dk_at dksX0_net_1 23 rfl rfl)
theorem dX0_net_46 : decode cX0_net 46 = .ok (.iconst 0, 1) := dk_3 (dk_at dksX0_net_2 0 rfl rfl)
theorem dX0_net_47 : decode cX0_net 47 = .ok (.putfield 154, 3) := dk_181 0 154 (dk_at dksX0_net_2 1 rfl rfl)
theorem dX0_net_50 : decode cX0_net 50 = .ok (.iload_n 3, 1) := dk_29 (dk_at dksX0_net_2 4 rfl rfl)
theorem dX0_net_51 : decode cX0_net 51 = .ok (.ireturn, 1) := dk_172 (dk_at dksX0_net_2 5 rfl rfl)
theorem dX0_net_52 : decode cX0_net 52 = .ok (.astore 4, 2) := dk_58 4 (dk_at dksX0_net_2 6 rfl rfl)
theorem dX0_net_54 : decode cX0_net 54 = .ok (.aload_n 0, 1) := dk_42 (dk_at dksX0_net_2 8 rfl rfl)
theorem dX0_net_55 : decode cX0_net 55 = .ok (.iconst 0, 1) := dk_3 (dk_at dksX0_net_2 9 rfl rfl)
theorem dX0_net_56 : decode cX0_net 56 = .ok (.putfield 154, 3) := dk_181 0 154 (dk_at dksX0_net_2 10 rfl rfl)
theorem dX0_net_59 : decode cX0_net 59 = .ok (.aload 4, 2) := dk_25 4 (dk_at dksX0_net_2 13 rfl rfl)
theorem dX0_net_61 : decode cX0_net 61 = .ok (.athrow, 1) := dk_191 (dk_at dksX0_net_2 15 rfl rfl)
theorem dX0_net_62 : decode cX0_net 62 = .ok (.aload_n 0, 1) := dk_42 (dk_at dksX0_net_2 16 rfl rfl)
theorem dX0_net_63 : decode cX0_net 63 = .ok (.getfield 57, 3) := dk_180 0 57 (dk_at dksX0_net_2 17 rfl rfl)
theorem dX0_net_66 : decode cX0_net 66 = .ok (.aload_n 1, 1) := dk_43 (dk_at dksX0_net_2 20 rfl rfl)
theorem dX0_net_67 : decode cX0_net 67 = .ok (.getfield 178, 3) := dk_180 0 178 (dk_at dksX0_net_2 21 rfl rfl)
theorem dX0_net_70 : decode cX0_net 70 = .ok (.invokevirtual 181, 3) := dk_182 0 181 (dk_at dksX0_net_3 0 rfl rfl)
theorem dX0_net_73 : decode cX0_net 73 = .ok (.invokevirtual 185, 3) := dk_182 0 185 (dk_at dksX0_net_3 3 rfl rfl)
theorem dX0_net_76 : decode cX0_net 76 = .ok (.pop, 1) := dk_87 (dk_at dksX0_net_3 6 rfl rfl)
theorem dX0_net_77 : decode cX0_net 77 = .ok (.aload_n 0, 1) := dk_42 (dk_at dksX0_net_3 7 rfl rfl)
theorem dX0_net_78 : decode cX0_net 78 = .ok (.iconst 0, 1) := dk_3 (dk_at dksX0_net_3 8 rfl rfl)
theorem dX0_net_79 : decode cX0_net 79 = .ok (.putfield 189, 3) := dk_181 0 189 (dk_at dksX0_net_3 9 rfl rfl)
theorem dX0_net_82 : decode cX0_net 82 = .ok (.aload_n 0, 1) := dk_42 (dk_at dksX0_net_3 12 rfl rfl)
theorem dX0_net_83 : decode cX0_net 83 = .ok (.getfield 57, 3) := dk_180 0 57 (dk_at dksX0_net_3 13 rfl rfl)
theorem dX0_net_86 : decode cX0_net 86 = .ok (.getfield 192, 3) := dk_180 0 192 (dk_at dksX0_net_3 16 rfl rfl)
theorem dX0_net_89 : decode cX0_net 89 = .ok (.ireturn, 1) := dk_172 (dk_at dksX0_net_3 19 rfl rfl)
abbrev cX0_personBy : ByteArray := prog_1_method_3_code
def yX0_personBy : MethodName := ⟨RX0, "personBy", "(II)LDatedContacts$Person;"⟩
def dkwX0_personBy_4 : List UInt8 := [187, 0, 16, 89, 27, 183, 0, 18, 176]
abbrev dktX0_personBy_4 : List UInt8 := dkwX0_personBy_4 ++ []
def dkwX0_personBy_3 : List UInt8 := [187, 0, 10, 89, 27, 183, 0, 12, 167, 0, 22, 187, 0, 13, 89, 27, 183, 0, 15, 167, 0, 11]
abbrev dktX0_personBy_3 : List UInt8 := dkwX0_personBy_3 ++ dktX0_personBy_4
def dkwX0_personBy_2 : List UInt8 := [187, 0, 1, 89, 27, 183, 0, 3, 167, 0, 44, 187, 0, 7, 89, 27, 183, 0, 9, 167, 0, 33]
abbrev dktX0_personBy_2 : List UInt8 := dkwX0_personBy_2 ++ dktX0_personBy_3
def dkwX0_personBy_1 : List UInt8 := [170, 0, 0, 0, 0, 0, 75, 0, 0, 0, 1, 0, 0, 0, 4, 0, 0, 0, 31, 0, 0, 0, 42, 0, 0, 0, 53, 0, 0, 0, 64]
abbrev dktX0_personBy_1 : List UInt8 := dkwX0_personBy_1 ++ dktX0_personBy_2
def dkwX0_personBy_0 : List UInt8 := [26]
abbrev dktX0_personBy_0 : List UInt8 := dkwX0_personBy_0 ++ dktX0_personBy_1
theorem dksX0_personBy_0 : cX0_personBy.data.toList.drop 0 = dktX0_personBy_0 := by decide +kernel
theorem dksX0_personBy_1 : cX0_personBy.data.toList.drop 1 = dktX0_personBy_1 := dk_seg dksX0_personBy_0 1 rfl rfl
theorem dksX0_personBy_2 : cX0_personBy.data.toList.drop 32 = dktX0_personBy_2 := dk_seg dksX0_personBy_1 31 rfl rfl
theorem dksX0_personBy_3 : cX0_personBy.data.toList.drop 54 = dktX0_personBy_3 := dk_seg dksX0_personBy_2 22 rfl rfl
theorem dksX0_personBy_4 : cX0_personBy.data.toList.drop 76 = dktX0_personBy_4 := dk_seg dksX0_personBy_3 22 rfl rfl
theorem dX0_personBy_0 : decode cX0_personBy 0 = .ok (.iload_n 0, 1) := dk_26 (dk_at dksX0_personBy_0 0 rfl rfl)
theorem dX0_personBy_1 : decode cX0_personBy 1 = .ok (.tableswitch 75 1 4 #[31, 42, 53, 64], 31) := by decide +kernel
theorem dX0_personBy_32 : decode cX0_personBy 32 = .ok (.new 1, 3) := dk_187 0 1 (dk_at dksX0_personBy_2 0 rfl rfl)
theorem dX0_personBy_35 : decode cX0_personBy 35 = .ok (.dup, 1) := dk_89 (dk_at dksX0_personBy_2 3 rfl rfl)
theorem dX0_personBy_36 : decode cX0_personBy 36 = .ok (.iload_n 1, 1) := dk_27 (dk_at dksX0_personBy_2 4 rfl rfl)
theorem dX0_personBy_37 : decode cX0_personBy 37 = .ok (.invokespecial 3, 3) := dk_183 0 3 (dk_at dksX0_personBy_2 5 rfl rfl)
theorem dX0_personBy_40 : decode cX0_personBy 40 = .ok (.goto 44, 3) := dk_167 0 44 (dk_at dksX0_personBy_2 8 rfl rfl)
theorem dX0_personBy_43 : decode cX0_personBy 43 = .ok (.new 7, 3) := dk_187 0 7 (dk_at dksX0_personBy_2 11 rfl rfl)
theorem dX0_personBy_46 : decode cX0_personBy 46 = .ok (.dup, 1) := dk_89 (dk_at dksX0_personBy_2 14 rfl rfl)
theorem dX0_personBy_47 : decode cX0_personBy 47 = .ok (.iload_n 1, 1) := dk_27 (dk_at dksX0_personBy_2 15 rfl rfl)
theorem dX0_personBy_48 : decode cX0_personBy 48 = .ok (.invokespecial 9, 3) := dk_183 0 9 (dk_at dksX0_personBy_2 16 rfl rfl)
theorem dX0_personBy_51 : decode cX0_personBy 51 = .ok (.goto 33, 3) := dk_167 0 33 (dk_at dksX0_personBy_2 19 rfl rfl)
theorem dX0_personBy_54 : decode cX0_personBy 54 = .ok (.new 10, 3) := dk_187 0 10 (dk_at dksX0_personBy_3 0 rfl rfl)
theorem dX0_personBy_57 : decode cX0_personBy 57 = .ok (.dup, 1) := dk_89 (dk_at dksX0_personBy_3 3 rfl rfl)
theorem dX0_personBy_58 : decode cX0_personBy 58 = .ok (.iload_n 1, 1) := dk_27 (dk_at dksX0_personBy_3 4 rfl rfl)
theorem dX0_personBy_59 : decode cX0_personBy 59 = .ok (.invokespecial 12, 3) := dk_183 0 12 (dk_at dksX0_personBy_3 5 rfl rfl)
theorem dX0_personBy_62 : decode cX0_personBy 62 = .ok (.goto 22, 3) := dk_167 0 22 (dk_at dksX0_personBy_3 8 rfl rfl)
theorem dX0_personBy_65 : decode cX0_personBy 65 = .ok (.new 13, 3) := dk_187 0 13 (dk_at dksX0_personBy_3 11 rfl rfl)
theorem dX0_personBy_68 : decode cX0_personBy 68 = .ok (.dup, 1) := dk_89 (dk_at dksX0_personBy_3 14 rfl rfl)
theorem dX0_personBy_69 : decode cX0_personBy 69 = .ok (.iload_n 1, 1) := dk_27 (dk_at dksX0_personBy_3 15 rfl rfl)
theorem dX0_personBy_70 : decode cX0_personBy 70 = .ok (.invokespecial 15, 3) := dk_183 0 15 (dk_at dksX0_personBy_3 16 rfl rfl)
theorem dX0_personBy_73 : decode cX0_personBy 73 = .ok (.goto 11, 3) := dk_167 0 11 (dk_at dksX0_personBy_3 19 rfl rfl)
theorem dX0_personBy_76 : decode cX0_personBy 76 = .ok (.new 16, 3) := dk_187 0 16 (dk_at dksX0_personBy_4 0 rfl rfl)
theorem dX0_personBy_79 : decode cX0_personBy 79 = .ok (.dup, 1) := dk_89 (dk_at dksX0_personBy_4 3 rfl rfl)
theorem dX0_personBy_80 : decode cX0_personBy 80 = .ok (.iload_n 1, 1) := dk_27 (dk_at dksX0_personBy_4 4 rfl rfl)
theorem dX0_personBy_81 : decode cX0_personBy 81 = .ok (.invokespecial 18, 3) := dk_183 0 18 (dk_at dksX0_personBy_4 5 rfl rfl)
theorem dX0_personBy_84 : decode cX0_personBy 84 = .ok (.areturn, 1) := dk_176 (dk_at dksX0_personBy_4 8 rfl rfl)
abbrev cX0_fault : ByteArray := prog_1_method_19_code
def yX0_fault : MethodName := ⟨RX0, "fault", "()I"⟩
theorem dX0_fault_0 : decode cX0_fault 0 = .ok (.aload_n 0, 1) := by decide +kernel
theorem dX0_fault_1 : decode cX0_fault 1 = .ok (.getfield 171, 3) := by decide +kernel
theorem dX0_fault_4 : decode cX0_fault 4 = .ok (.ireturn, 1) := by decide +kernel
abbrev cX0_meet : ByteArray := prog_1_method_25_code
def yX0_meet : MethodName := ⟨RX0, "meet", "(III)I"⟩
def dkwX0_meet_5 : List UInt8 := [180, 0, 195, 172]
abbrev dktX0_meet_5 : List UInt8 := dkwX0_meet_5 ++ []
def dkwX0_meet_4 : List UInt8 := [180, 0, 195, 29, 79, 42, 180, 0, 57, 89, 180, 0, 195, 4, 96, 181, 0, 195, 42, 180, 0, 57]
abbrev dktX0_meet_4 : List UInt8 := dkwX0_meet_4 ++ dktX0_meet_5
def dkwX0_meet_3 : List UInt8 := [180, 0, 213, 42, 180, 0, 57, 180, 0, 195, 28, 79, 42, 180, 0, 57, 180, 0, 216, 42, 180, 0, 57]
abbrev dktX0_meet_3 : List UInt8 := dkwX0_meet_3 ++ dktX0_meet_4
def dkwX0_meet_2 : List UInt8 := [42, 182, 0, 206, 42, 180, 0, 57, 180, 0, 209, 42, 180, 0, 57, 180, 0, 195, 27, 79, 42, 180, 0, 57]
abbrev dktX0_meet_2 : List UInt8 := dkwX0_meet_2 ++ dktX0_meet_3
def dkwX0_meet_1 : List UInt8 := [184, 0, 203, 154, 0, 6, 18, 109, 172, 42, 180, 0, 57, 180, 0, 195, 16, 10, 160, 0, 6, 18, 157, 172]
abbrev dktX0_meet_1 : List UInt8 := dkwX0_meet_1 ++ dktX0_meet_2
def dkwX0_meet_0 : List UInt8 := [42, 27, 182, 0, 200, 153, 0, 23, 42, 28, 182, 0, 200, 153, 0, 15, 27, 28, 159, 0, 10, 29]
abbrev dktX0_meet_0 : List UInt8 := dkwX0_meet_0 ++ dktX0_meet_1
theorem dksX0_meet_0 : cX0_meet.data.toList.drop 0 = dktX0_meet_0 := by decide +kernel
theorem dksX0_meet_1 : cX0_meet.data.toList.drop 22 = dktX0_meet_1 := dk_seg dksX0_meet_0 22 rfl rfl
theorem dksX0_meet_2 : cX0_meet.data.toList.drop 46 = dktX0_meet_2 := dk_seg dksX0_meet_1 24 rfl rfl
theorem dksX0_meet_3 : cX0_meet.data.toList.drop 70 = dktX0_meet_3 := dk_seg dksX0_meet_2 24 rfl rfl
theorem dksX0_meet_4 : cX0_meet.data.toList.drop 93 = dktX0_meet_4 := dk_seg dksX0_meet_3 23 rfl rfl
theorem dksX0_meet_5 : cX0_meet.data.toList.drop 115 = dktX0_meet_5 := dk_seg dksX0_meet_4 22 rfl rfl
theorem dX0_meet_0 : decode cX0_meet 0 = .ok (.aload_n 0, 1) := dk_42 (dk_at dksX0_meet_0 0 rfl rfl)
theorem dX0_meet_1 : decode cX0_meet 1 = .ok (.iload_n 1, 1) := dk_27 (dk_at dksX0_meet_0 1 rfl rfl)
theorem dX0_meet_2 : decode cX0_meet 2 = .ok (.invokevirtual 200, 3) := dk_182 0 200 (dk_at dksX0_meet_0 2 rfl rfl)
theorem dX0_meet_5 : decode cX0_meet 5 = .ok (.ifCond .eq 23, 3) := dk_153 0 23 (dk_at dksX0_meet_0 5 rfl rfl)
theorem dX0_meet_8 : decode cX0_meet 8 = .ok (.aload_n 0, 1) := dk_42 (dk_at dksX0_meet_0 8 rfl rfl)
theorem dX0_meet_9 : decode cX0_meet 9 = .ok (.iload_n 2, 1) := dk_28 (dk_at dksX0_meet_0 9 rfl rfl)
theorem dX0_meet_10 : decode cX0_meet 10 = .ok (.invokevirtual 200, 3) := dk_182 0 200 (dk_at dksX0_meet_0 10 rfl rfl)
theorem dX0_meet_13 : decode cX0_meet 13 = .ok (.ifCond .eq 15, 3) := dk_153 0 15 (dk_at dksX0_meet_0 13 rfl rfl)
theorem dX0_meet_16 : decode cX0_meet 16 = .ok (.iload_n 1, 1) := dk_27 (dk_at dksX0_meet_0 16 rfl rfl)
theorem dX0_meet_17 : decode cX0_meet 17 = .ok (.iload_n 2, 1) := dk_28 (dk_at dksX0_meet_0 17 rfl rfl)
theorem dX0_meet_18 : decode cX0_meet 18 = .ok (.if_icmp .eq 10, 3) := dk_159 0 10 (dk_at dksX0_meet_0 18 rfl rfl)
theorem dX0_meet_21 : decode cX0_meet 21 = .ok (.iload_n 3, 1) := dk_29 (dk_at dksX0_meet_0 21 rfl rfl)
theorem dX0_meet_22 : decode cX0_meet 22 = .ok (.invokestatic 203, 3) := dk_184 0 203 (dk_at dksX0_meet_1 0 rfl rfl)
theorem dX0_meet_25 : decode cX0_meet 25 = .ok (.ifCond .ne 6, 3) := dk_154 0 6 (dk_at dksX0_meet_1 3 rfl rfl)
theorem dX0_meet_28 : decode cX0_meet 28 = .ok (.ldc 109, 2) := dk_18 109 (dk_at dksX0_meet_1 6 rfl rfl)
theorem dX0_meet_30 : decode cX0_meet 30 = .ok (.ireturn, 1) := dk_172 (dk_at dksX0_meet_1 8 rfl rfl)
theorem dX0_meet_31 : decode cX0_meet 31 = .ok (.aload_n 0, 1) := dk_42 (dk_at dksX0_meet_1 9 rfl rfl)
theorem dX0_meet_32 : decode cX0_meet 32 = .ok (.getfield 57, 3) := dk_180 0 57 (dk_at dksX0_meet_1 10 rfl rfl)
theorem dX0_meet_35 : decode cX0_meet 35 = .ok (.getfield 195, 3) := dk_180 0 195 (dk_at dksX0_meet_1 13 rfl rfl)
theorem dX0_meet_38 : decode cX0_meet 38 = .ok (.bipush 10, 2) := dk_16 10 (dk_at dksX0_meet_1 16 rfl rfl)
theorem dX0_meet_40 : decode cX0_meet 40 = .ok (.if_icmp .ne 6, 3) := dk_160 0 6 (dk_at dksX0_meet_1 18 rfl rfl)
theorem dX0_meet_43 : decode cX0_meet 43 = .ok (.ldc 157, 2) := dk_18 157 (dk_at dksX0_meet_1 21 rfl rfl)
theorem dX0_meet_45 : decode cX0_meet 45 = .ok (.ireturn, 1) := dk_172 (dk_at dksX0_meet_1 23 rfl rfl)
theorem dX0_meet_46 : decode cX0_meet 46 = .ok (.aload_n 0, 1) := dk_42 (dk_at dksX0_meet_2 0 rfl rfl)
theorem dX0_meet_47 : decode cX0_meet 47 = .ok (.invokevirtual 206, 3) := dk_182 0 206 (dk_at dksX0_meet_2 1 rfl rfl)
theorem dX0_meet_50 : decode cX0_meet 50 = .ok (.aload_n 0, 1) := dk_42 (dk_at dksX0_meet_2 4 rfl rfl)
theorem dX0_meet_51 : decode cX0_meet 51 = .ok (.getfield 57, 3) := dk_180 0 57 (dk_at dksX0_meet_2 5 rfl rfl)
theorem dX0_meet_54 : decode cX0_meet 54 = .ok (.getfield 209, 3) := dk_180 0 209 (dk_at dksX0_meet_2 8 rfl rfl)
theorem dX0_meet_57 : decode cX0_meet 57 = .ok (.aload_n 0, 1) := dk_42 (dk_at dksX0_meet_2 11 rfl rfl)
theorem dX0_meet_58 : decode cX0_meet 58 = .ok (.getfield 57, 3) := dk_180 0 57 (dk_at dksX0_meet_2 12 rfl rfl)
theorem dX0_meet_61 : decode cX0_meet 61 = .ok (.getfield 195, 3) := dk_180 0 195 (dk_at dksX0_meet_2 15 rfl rfl)
theorem dX0_meet_64 : decode cX0_meet 64 = .ok (.iload_n 1, 1) := dk_27 (dk_at dksX0_meet_2 18 rfl rfl)
theorem dX0_meet_65 : decode cX0_meet 65 = .ok (.iastore, 1) := dk_79 (dk_at dksX0_meet_2 19 rfl rfl)
theorem dX0_meet_66 : decode cX0_meet 66 = .ok (.aload_n 0, 1) := dk_42 (dk_at dksX0_meet_2 20 rfl rfl)
theorem dX0_meet_67 : decode cX0_meet 67 = .ok (.getfield 57, 3) := dk_180 0 57 (dk_at dksX0_meet_2 21 rfl rfl)
theorem dX0_meet_70 : decode cX0_meet 70 = .ok (.getfield 213, 3) := dk_180 0 213 (dk_at dksX0_meet_3 0 rfl rfl)
theorem dX0_meet_73 : decode cX0_meet 73 = .ok (.aload_n 0, 1) := dk_42 (dk_at dksX0_meet_3 3 rfl rfl)
theorem dX0_meet_74 : decode cX0_meet 74 = .ok (.getfield 57, 3) := dk_180 0 57 (dk_at dksX0_meet_3 4 rfl rfl)
theorem dX0_meet_77 : decode cX0_meet 77 = .ok (.getfield 195, 3) := dk_180 0 195 (dk_at dksX0_meet_3 7 rfl rfl)
theorem dX0_meet_80 : decode cX0_meet 80 = .ok (.iload_n 2, 1) := dk_28 (dk_at dksX0_meet_3 10 rfl rfl)
theorem dX0_meet_81 : decode cX0_meet 81 = .ok (.iastore, 1) := dk_79 (dk_at dksX0_meet_3 11 rfl rfl)
theorem dX0_meet_82 : decode cX0_meet 82 = .ok (.aload_n 0, 1) := dk_42 (dk_at dksX0_meet_3 12 rfl rfl)
theorem dX0_meet_83 : decode cX0_meet 83 = .ok (.getfield 57, 3) := dk_180 0 57 (dk_at dksX0_meet_3 13 rfl rfl)
theorem dX0_meet_86 : decode cX0_meet 86 = .ok (.getfield 216, 3) := dk_180 0 216 (dk_at dksX0_meet_3 16 rfl rfl)
theorem dX0_meet_89 : decode cX0_meet 89 = .ok (.aload_n 0, 1) := dk_42 (dk_at dksX0_meet_3 19 rfl rfl)
theorem dX0_meet_90 : decode cX0_meet 90 = .ok (.getfield 57, 3) := dk_180 0 57 (dk_at dksX0_meet_3 20 rfl rfl)
theorem dX0_meet_93 : decode cX0_meet 93 = .ok (.getfield 195, 3) := dk_180 0 195 (dk_at dksX0_meet_4 0 rfl rfl)
theorem dX0_meet_96 : decode cX0_meet 96 = .ok (.iload_n 3, 1) := dk_29 (dk_at dksX0_meet_4 3 rfl rfl)
theorem dX0_meet_97 : decode cX0_meet 97 = .ok (.iastore, 1) := dk_79 (dk_at dksX0_meet_4 4 rfl rfl)
theorem dX0_meet_98 : decode cX0_meet 98 = .ok (.aload_n 0, 1) := dk_42 (dk_at dksX0_meet_4 5 rfl rfl)
theorem dX0_meet_99 : decode cX0_meet 99 = .ok (.getfield 57, 3) := dk_180 0 57 (dk_at dksX0_meet_4 6 rfl rfl)
theorem dX0_meet_102 : decode cX0_meet 102 = .ok (.dup, 1) := dk_89 (dk_at dksX0_meet_4 9 rfl rfl)
theorem dX0_meet_103 : decode cX0_meet 103 = .ok (.getfield 195, 3) := dk_180 0 195 (dk_at dksX0_meet_4 10 rfl rfl)
theorem dX0_meet_106 : decode cX0_meet 106 = .ok (.iconst 1, 1) := dk_4 (dk_at dksX0_meet_4 13 rfl rfl)
theorem dX0_meet_107 : decode cX0_meet 107 = .ok (.iadd, 1) := dk_96 (dk_at dksX0_meet_4 14 rfl rfl)
theorem dX0_meet_108 : decode cX0_meet 108 = .ok (.putfield 195, 3) := dk_181 0 195 (dk_at dksX0_meet_4 15 rfl rfl)
theorem dX0_meet_111 : decode cX0_meet 111 = .ok (.aload_n 0, 1) := dk_42 (dk_at dksX0_meet_4 18 rfl rfl)
theorem dX0_meet_112 : decode cX0_meet 112 = .ok (.getfield 57, 3) := dk_180 0 57 (dk_at dksX0_meet_4 19 rfl rfl)
theorem dX0_meet_115 : decode cX0_meet 115 = .ok (.getfield 195, 3) := dk_180 0 195 (dk_at dksX0_meet_5 0 rfl rfl)
theorem dX0_meet_118 : decode cX0_meet 118 = .ok (.ireturn, 1) := dk_172 (dk_at dksX0_meet_5 3 rfl rfl)
abbrev cX0_isPerson : ByteArray := prog_1_method_21_code
def yX0_isPerson : MethodName := ⟨RX0, "isPerson", "(I)Z"⟩
def dkwX0_isPerson_0 : List UInt8 := [27, 133, 9, 42, 180, 0, 57, 180, 0, 192, 4, 100, 133, 184, 0, 99, 172]
abbrev dktX0_isPerson_0 : List UInt8 := dkwX0_isPerson_0 ++ []
theorem dksX0_isPerson_0 : cX0_isPerson.data.toList.drop 0 = dktX0_isPerson_0 := by decide +kernel
theorem dX0_isPerson_0 : decode cX0_isPerson 0 = .ok (.iload_n 1, 1) := dk_27 (dk_at dksX0_isPerson_0 0 rfl rfl)
theorem dX0_isPerson_1 : decode cX0_isPerson 1 = .ok (.i2l, 1) := dk_133 (dk_at dksX0_isPerson_0 1 rfl rfl)
theorem dX0_isPerson_2 : decode cX0_isPerson 2 = .ok (.lconst 0, 1) := dk_9 (dk_at dksX0_isPerson_0 2 rfl rfl)
theorem dX0_isPerson_3 : decode cX0_isPerson 3 = .ok (.aload_n 0, 1) := dk_42 (dk_at dksX0_isPerson_0 3 rfl rfl)
theorem dX0_isPerson_4 : decode cX0_isPerson 4 = .ok (.getfield 57, 3) := dk_180 0 57 (dk_at dksX0_isPerson_0 4 rfl rfl)
theorem dX0_isPerson_7 : decode cX0_isPerson 7 = .ok (.getfield 192, 3) := dk_180 0 192 (dk_at dksX0_isPerson_0 7 rfl rfl)
theorem dX0_isPerson_10 : decode cX0_isPerson 10 = .ok (.iconst 1, 1) := dk_4 (dk_at dksX0_isPerson_0 10 rfl rfl)
theorem dX0_isPerson_11 : decode cX0_isPerson 11 = .ok (.isub, 1) := dk_100 (dk_at dksX0_isPerson_0 11 rfl rfl)
theorem dX0_isPerson_12 : decode cX0_isPerson 12 = .ok (.i2l, 1) := dk_133 (dk_at dksX0_isPerson_0 12 rfl rfl)
theorem dX0_isPerson_13 : decode cX0_isPerson 13 = .ok (.invokestatic 99, 3) := dk_184 0 99 (dk_at dksX0_isPerson_0 13 rfl rfl)
theorem dX0_isPerson_16 : decode cX0_isPerson 16 = .ok (.ireturn, 1) := dk_172 (dk_at dksX0_isPerson_0 16 rfl rfl)
abbrev cX0_isDay : ByteArray := prog_1_method_23_code
def yX0_isDay : MethodName := ⟨RX0, "isDay", "(I)Z"⟩
def dkwX0_isDay_0 : List UInt8 := [26, 133, 9, 20, 0, 198, 184, 0, 99, 172]
abbrev dktX0_isDay_0 : List UInt8 := dkwX0_isDay_0 ++ []
theorem dksX0_isDay_0 : cX0_isDay.data.toList.drop 0 = dktX0_isDay_0 := by decide +kernel
theorem dX0_isDay_0 : decode cX0_isDay 0 = .ok (.iload_n 0, 1) := dk_26 (dk_at dksX0_isDay_0 0 rfl rfl)
theorem dX0_isDay_1 : decode cX0_isDay 1 = .ok (.i2l, 1) := dk_133 (dk_at dksX0_isDay_0 1 rfl rfl)
theorem dX0_isDay_2 : decode cX0_isDay 2 = .ok (.lconst 0, 1) := dk_9 (dk_at dksX0_isDay_0 2 rfl rfl)
theorem dX0_isDay_3 : decode cX0_isDay 3 = .ok (.ldc2_w 198, 3) := dk_20 0 198 (dk_at dksX0_isDay_0 3 rfl rfl)
theorem dX0_isDay_6 : decode cX0_isDay 6 = .ok (.invokestatic 99, 3) := dk_184 0 99 (dk_at dksX0_isDay_0 6 rfl rfl)
theorem dX0_isDay_9 : decode cX0_isDay 9 = .ok (.ireturn, 1) := dk_172 (dk_at dksX0_isDay_0 9 rfl rfl)
abbrev cX0_keep : ByteArray := prog_1_method_24_code
def yX0_keep : MethodName := ⟨RX0, "keep", "()V"⟩
def dkwX0_keep_4 : List UInt8 := [180, 0, 189, 50, 42, 180, 0, 57, 182, 0, 185, 87, 42, 89, 180, 0, 189, 4, 96, 181, 0, 189, 177]
abbrev dktX0_keep_4 : List UInt8 := dkwX0_keep_4 ++ []
def dkwX0_keep_3 : List UInt8 := [199, 0, 19, 42, 180, 0, 78, 42, 180, 0, 189, 187, 0, 54, 89, 183, 0, 56, 83, 42, 180, 0, 78, 42]
abbrev dktX0_keep_3 : List UInt8 := dkwX0_keep_3 ++ dktX0_keep_4
def dkwX0_keep_2 : List UInt8 := [16, 15, 43, 83, 42, 89, 180, 0, 189, 4, 100, 181, 0, 189, 42, 180, 0, 78, 42, 180, 0, 189, 50]
abbrev dktX0_keep_2 : List UInt8 := dkwX0_keep_2 ++ dktX0_keep_3
def dkwX0_keep_1 : List UInt8 := [42, 180, 0, 78, 28, 4, 100, 42, 180, 0, 78, 28, 50, 83, 132, 2, 1, 167, 255, 233, 42, 180, 0, 78]
abbrev dktX0_keep_1 : List UInt8 := dkwX0_keep_1 ++ dktX0_keep_2
def dkwX0_keep_0 : List UInt8 := [42, 180, 0, 189, 16, 16, 160, 0, 56, 42, 180, 0, 78, 3, 50, 76, 4, 61, 28, 16, 16, 162, 0, 23]
abbrev dktX0_keep_0 : List UInt8 := dkwX0_keep_0 ++ dktX0_keep_1
theorem dksX0_keep_0 : cX0_keep.data.toList.drop 0 = dktX0_keep_0 := by decide +kernel
theorem dksX0_keep_1 : cX0_keep.data.toList.drop 24 = dktX0_keep_1 := dk_seg dksX0_keep_0 24 rfl rfl
theorem dksX0_keep_2 : cX0_keep.data.toList.drop 48 = dktX0_keep_2 := dk_seg dksX0_keep_1 24 rfl rfl
theorem dksX0_keep_3 : cX0_keep.data.toList.drop 71 = dktX0_keep_3 := dk_seg dksX0_keep_2 23 rfl rfl
theorem dksX0_keep_4 : cX0_keep.data.toList.drop 95 = dktX0_keep_4 := dk_seg dksX0_keep_3 24 rfl rfl
theorem dX0_keep_0 : decode cX0_keep 0 = .ok (.aload_n 0, 1) := dk_42 (dk_at dksX0_keep_0 0 rfl rfl)
theorem dX0_keep_1 : decode cX0_keep 1 = .ok (.getfield 189, 3) := dk_180 0 189 (dk_at dksX0_keep_0 1 rfl rfl)
theorem dX0_keep_4 : decode cX0_keep 4 = .ok (.bipush 16, 2) := dk_16 16 (dk_at dksX0_keep_0 4 rfl rfl)
theorem dX0_keep_6 : decode cX0_keep 6 = .ok (.if_icmp .ne 56, 3) := dk_160 0 56 (dk_at dksX0_keep_0 6 rfl rfl)
theorem dX0_keep_9 : decode cX0_keep 9 = .ok (.aload_n 0, 1) := dk_42 (dk_at dksX0_keep_0 9 rfl rfl)
theorem dX0_keep_10 : decode cX0_keep 10 = .ok (.getfield 78, 3) := dk_180 0 78 (dk_at dksX0_keep_0 10 rfl rfl)
theorem dX0_keep_13 : decode cX0_keep 13 = .ok (.iconst 0, 1) := dk_3 (dk_at dksX0_keep_0 13 rfl rfl)
theorem dX0_keep_14 : decode cX0_keep 14 = .ok (.aaload, 1) := dk_50 (dk_at dksX0_keep_0 14 rfl rfl)
theorem dX0_keep_15 : decode cX0_keep 15 = .ok (.astore_n 1, 1) := dk_76 (dk_at dksX0_keep_0 15 rfl rfl)
theorem dX0_keep_16 : decode cX0_keep 16 = .ok (.iconst 1, 1) := dk_4 (dk_at dksX0_keep_0 16 rfl rfl)
theorem dX0_keep_17 : decode cX0_keep 17 = .ok (.istore_n 2, 1) := dk_61 (dk_at dksX0_keep_0 17 rfl rfl)
theorem dX0_keep_18 : decode cX0_keep 18 = .ok (.iload_n 2, 1) := dk_28 (dk_at dksX0_keep_0 18 rfl rfl)
theorem dX0_keep_19 : decode cX0_keep 19 = .ok (.bipush 16, 2) := dk_16 16 (dk_at dksX0_keep_0 19 rfl rfl)
theorem dX0_keep_21 : decode cX0_keep 21 = .ok (.if_icmp .ge 23, 3) := dk_162 0 23 (dk_at dksX0_keep_0 21 rfl rfl)
theorem dX0_keep_24 : decode cX0_keep 24 = .ok (.aload_n 0, 1) := dk_42 (dk_at dksX0_keep_1 0 rfl rfl)
theorem dX0_keep_25 : decode cX0_keep 25 = .ok (.getfield 78, 3) := dk_180 0 78 (dk_at dksX0_keep_1 1 rfl rfl)
theorem dX0_keep_28 : decode cX0_keep 28 = .ok (.iload_n 2, 1) := dk_28 (dk_at dksX0_keep_1 4 rfl rfl)
theorem dX0_keep_29 : decode cX0_keep 29 = .ok (.iconst 1, 1) := dk_4 (dk_at dksX0_keep_1 5 rfl rfl)
theorem dX0_keep_30 : decode cX0_keep 30 = .ok (.isub, 1) := dk_100 (dk_at dksX0_keep_1 6 rfl rfl)
theorem dX0_keep_31 : decode cX0_keep 31 = .ok (.aload_n 0, 1) := dk_42 (dk_at dksX0_keep_1 7 rfl rfl)
theorem dX0_keep_32 : decode cX0_keep 32 = .ok (.getfield 78, 3) := dk_180 0 78 (dk_at dksX0_keep_1 8 rfl rfl)
theorem dX0_keep_35 : decode cX0_keep 35 = .ok (.iload_n 2, 1) := dk_28 (dk_at dksX0_keep_1 11 rfl rfl)
theorem dX0_keep_36 : decode cX0_keep 36 = .ok (.aaload, 1) := dk_50 (dk_at dksX0_keep_1 12 rfl rfl)
theorem dX0_keep_37 : decode cX0_keep 37 = .ok (.aastore, 1) := dk_83 (dk_at dksX0_keep_1 13 rfl rfl)
theorem dX0_keep_38 : decode cX0_keep 38 = .ok (.iinc 2 1, 3) := dk_132 2 1 (dk_at dksX0_keep_1 14 rfl rfl)
theorem dX0_keep_41 : decode cX0_keep 41 = .ok (.goto (-23), 3) := dk_167 255 233 (dk_at dksX0_keep_1 17 rfl rfl)
theorem dX0_keep_44 : decode cX0_keep 44 = .ok (.aload_n 0, 1) := dk_42 (dk_at dksX0_keep_1 20 rfl rfl)
theorem dX0_keep_45 : decode cX0_keep 45 = .ok (.getfield 78, 3) := dk_180 0 78 (dk_at dksX0_keep_1 21 rfl rfl)
theorem dX0_keep_48 : decode cX0_keep 48 = .ok (.bipush 15, 2) := dk_16 15 (dk_at dksX0_keep_2 0 rfl rfl)
theorem dX0_keep_50 : decode cX0_keep 50 = .ok (.aload_n 1, 1) := dk_43 (dk_at dksX0_keep_2 2 rfl rfl)
theorem dX0_keep_51 : decode cX0_keep 51 = .ok (.aastore, 1) := dk_83 (dk_at dksX0_keep_2 3 rfl rfl)
theorem dX0_keep_52 : decode cX0_keep 52 = .ok (.aload_n 0, 1) := dk_42 (dk_at dksX0_keep_2 4 rfl rfl)
theorem dX0_keep_53 : decode cX0_keep 53 = .ok (.dup, 1) := dk_89 (dk_at dksX0_keep_2 5 rfl rfl)
theorem dX0_keep_54 : decode cX0_keep 54 = .ok (.getfield 189, 3) := dk_180 0 189 (dk_at dksX0_keep_2 6 rfl rfl)
theorem dX0_keep_57 : decode cX0_keep 57 = .ok (.iconst 1, 1) := dk_4 (dk_at dksX0_keep_2 9 rfl rfl)
theorem dX0_keep_58 : decode cX0_keep 58 = .ok (.isub, 1) := dk_100 (dk_at dksX0_keep_2 10 rfl rfl)
theorem dX0_keep_59 : decode cX0_keep 59 = .ok (.putfield 189, 3) := dk_181 0 189 (dk_at dksX0_keep_2 11 rfl rfl)
theorem dX0_keep_62 : decode cX0_keep 62 = .ok (.aload_n 0, 1) := dk_42 (dk_at dksX0_keep_2 14 rfl rfl)
theorem dX0_keep_63 : decode cX0_keep 63 = .ok (.getfield 78, 3) := dk_180 0 78 (dk_at dksX0_keep_2 15 rfl rfl)
theorem dX0_keep_66 : decode cX0_keep 66 = .ok (.aload_n 0, 1) := dk_42 (dk_at dksX0_keep_2 18 rfl rfl)
theorem dX0_keep_67 : decode cX0_keep 67 = .ok (.getfield 189, 3) := dk_180 0 189 (dk_at dksX0_keep_2 19 rfl rfl)
theorem dX0_keep_70 : decode cX0_keep 70 = .ok (.aaload, 1) := dk_50 (dk_at dksX0_keep_2 22 rfl rfl)
theorem dX0_keep_71 : decode cX0_keep 71 = .ok (.ifnonnull 19, 3) := dk_199 0 19 (dk_at dksX0_keep_3 0 rfl rfl)
theorem dX0_keep_74 : decode cX0_keep 74 = .ok (.aload_n 0, 1) := dk_42 (dk_at dksX0_keep_3 3 rfl rfl)
theorem dX0_keep_75 : decode cX0_keep 75 = .ok (.getfield 78, 3) := dk_180 0 78 (dk_at dksX0_keep_3 4 rfl rfl)
theorem dX0_keep_78 : decode cX0_keep 78 = .ok (.aload_n 0, 1) := dk_42 (dk_at dksX0_keep_3 7 rfl rfl)
theorem dX0_keep_79 : decode cX0_keep 79 = .ok (.getfield 189, 3) := dk_180 0 189 (dk_at dksX0_keep_3 8 rfl rfl)
theorem dX0_keep_82 : decode cX0_keep 82 = .ok (.new 54, 3) := dk_187 0 54 (dk_at dksX0_keep_3 11 rfl rfl)
theorem dX0_keep_85 : decode cX0_keep 85 = .ok (.dup, 1) := dk_89 (dk_at dksX0_keep_3 14 rfl rfl)
theorem dX0_keep_86 : decode cX0_keep 86 = .ok (.invokespecial 56, 3) := dk_183 0 56 (dk_at dksX0_keep_3 15 rfl rfl)
theorem dX0_keep_89 : decode cX0_keep 89 = .ok (.aastore, 1) := dk_83 (dk_at dksX0_keep_3 18 rfl rfl)
theorem dX0_keep_90 : decode cX0_keep 90 = .ok (.aload_n 0, 1) := dk_42 (dk_at dksX0_keep_3 19 rfl rfl)
theorem dX0_keep_91 : decode cX0_keep 91 = .ok (.getfield 78, 3) := dk_180 0 78 (dk_at dksX0_keep_3 20 rfl rfl)
theorem dX0_keep_94 : decode cX0_keep 94 = .ok (.aload_n 0, 1) := dk_42 (dk_at dksX0_keep_3 23 rfl rfl)
theorem dX0_keep_95 : decode cX0_keep 95 = .ok (.getfield 189, 3) := dk_180 0 189 (dk_at dksX0_keep_4 0 rfl rfl)
theorem dX0_keep_98 : decode cX0_keep 98 = .ok (.aaload, 1) := dk_50 (dk_at dksX0_keep_4 3 rfl rfl)
theorem dX0_keep_99 : decode cX0_keep 99 = .ok (.aload_n 0, 1) := dk_42 (dk_at dksX0_keep_4 4 rfl rfl)
theorem dX0_keep_100 : decode cX0_keep 100 = .ok (.getfield 57, 3) := dk_180 0 57 (dk_at dksX0_keep_4 5 rfl rfl)
theorem dX0_keep_103 : decode cX0_keep 103 = .ok (.invokevirtual 185, 3) := dk_182 0 185 (dk_at dksX0_keep_4 8 rfl rfl)
theorem dX0_keep_106 : decode cX0_keep 106 = .ok (.pop, 1) := dk_87 (dk_at dksX0_keep_4 11 rfl rfl)
theorem dX0_keep_107 : decode cX0_keep 107 = .ok (.aload_n 0, 1) := dk_42 (dk_at dksX0_keep_4 12 rfl rfl)
theorem dX0_keep_108 : decode cX0_keep 108 = .ok (.dup, 1) := dk_89 (dk_at dksX0_keep_4 13 rfl rfl)
theorem dX0_keep_109 : decode cX0_keep 109 = .ok (.getfield 189, 3) := dk_180 0 189 (dk_at dksX0_keep_4 14 rfl rfl)
theorem dX0_keep_112 : decode cX0_keep 112 = .ok (.iconst 1, 1) := dk_4 (dk_at dksX0_keep_4 17 rfl rfl)
theorem dX0_keep_113 : decode cX0_keep 113 = .ok (.iadd, 1) := dk_96 (dk_at dksX0_keep_4 18 rfl rfl)
theorem dX0_keep_114 : decode cX0_keep 114 = .ok (.putfield 189, 3) := dk_181 0 189 (dk_at dksX0_keep_4 19 rfl rfl)
theorem dX0_keep_117 : decode cX0_keep 117 = .ok (.return_, 1) := dk_177 (dk_at dksX0_keep_4 22 rfl rfl)
abbrev cX0_part : ByteArray := prog_1_method_26_code
def yX0_part : MethodName := ⟨RX0, "part", "(I)I"⟩
def dkwX0_part_4 : List UInt8 := [180, 0, 216, 28, 4, 96, 46, 79, 132, 2, 1, 167, 255, 182, 42, 180, 0, 57, 180, 0, 195, 172]
abbrev dktX0_part_4 : List UInt8 := dkwX0_part_4 ++ []
def dkwX0_part_3 : List UInt8 := [180, 0, 57, 180, 0, 213, 28, 4, 96, 46, 79, 42, 180, 0, 57, 180, 0, 216, 28, 42, 180, 0, 57]
abbrev dktX0_part_3 : List UInt8 := dkwX0_part_3 ++ dktX0_part_4
def dkwX0_part_2 : List UInt8 := [28, 42, 180, 0, 57, 180, 0, 209, 28, 4, 96, 46, 79, 42, 180, 0, 57, 180, 0, 213, 28, 42]
abbrev dktX0_part_2 : List UInt8 := dkwX0_part_2 ++ dktX0_part_3
def dkwX0_part_1 : List UInt8 := [100, 181, 0, 195, 27, 61, 28, 42, 180, 0, 57, 180, 0, 195, 162, 0, 69, 42, 180, 0, 57, 180, 0, 209]
abbrev dktX0_part_1 : List UInt8 := dkwX0_part_1 ++ dktX0_part_2
def dkwX0_part_0 : List UInt8 := [42, 27, 182, 0, 219, 154, 0, 6, 18, 109, 172, 42, 182, 0, 206, 42, 180, 0, 57, 89, 180, 0, 195, 4]
abbrev dktX0_part_0 : List UInt8 := dkwX0_part_0 ++ dktX0_part_1
theorem dksX0_part_0 : cX0_part.data.toList.drop 0 = dktX0_part_0 := by decide +kernel
theorem dksX0_part_1 : cX0_part.data.toList.drop 24 = dktX0_part_1 := dk_seg dksX0_part_0 24 rfl rfl
theorem dksX0_part_2 : cX0_part.data.toList.drop 48 = dktX0_part_2 := dk_seg dksX0_part_1 24 rfl rfl
theorem dksX0_part_3 : cX0_part.data.toList.drop 70 = dktX0_part_3 := dk_seg dksX0_part_2 22 rfl rfl
theorem dksX0_part_4 : cX0_part.data.toList.drop 93 = dktX0_part_4 := dk_seg dksX0_part_3 23 rfl rfl
theorem dX0_part_0 : decode cX0_part 0 = .ok (.aload_n 0, 1) := dk_42 (dk_at dksX0_part_0 0 rfl rfl)
theorem dX0_part_1 : decode cX0_part 1 = .ok (.iload_n 1, 1) := dk_27 (dk_at dksX0_part_0 1 rfl rfl)
theorem dX0_part_2 : decode cX0_part 2 = .ok (.invokevirtual 219, 3) := dk_182 0 219 (dk_at dksX0_part_0 2 rfl rfl)
theorem dX0_part_5 : decode cX0_part 5 = .ok (.ifCond .ne 6, 3) := dk_154 0 6 (dk_at dksX0_part_0 5 rfl rfl)
theorem dX0_part_8 : decode cX0_part 8 = .ok (.ldc 109, 2) := dk_18 109 (dk_at dksX0_part_0 8 rfl rfl)
theorem dX0_part_10 : decode cX0_part 10 = .ok (.ireturn, 1) := dk_172 (dk_at dksX0_part_0 10 rfl rfl)
theorem dX0_part_11 : decode cX0_part 11 = .ok (.aload_n 0, 1) := dk_42 (dk_at dksX0_part_0 11 rfl rfl)
theorem dX0_part_12 : decode cX0_part 12 = .ok (.invokevirtual 206, 3) := dk_182 0 206 (dk_at dksX0_part_0 12 rfl rfl)
theorem dX0_part_15 : decode cX0_part 15 = .ok (.aload_n 0, 1) := dk_42 (dk_at dksX0_part_0 15 rfl rfl)
theorem dX0_part_16 : decode cX0_part 16 = .ok (.getfield 57, 3) := dk_180 0 57 (dk_at dksX0_part_0 16 rfl rfl)
theorem dX0_part_19 : decode cX0_part 19 = .ok (.dup, 1) := dk_89 (dk_at dksX0_part_0 19 rfl rfl)
theorem dX0_part_20 : decode cX0_part 20 = .ok (.getfield 195, 3) := dk_180 0 195 (dk_at dksX0_part_0 20 rfl rfl)
theorem dX0_part_23 : decode cX0_part 23 = .ok (.iconst 1, 1) := dk_4 (dk_at dksX0_part_0 23 rfl rfl)
theorem dX0_part_24 : decode cX0_part 24 = .ok (.isub, 1) := dk_100 (dk_at dksX0_part_1 0 rfl rfl)
theorem dX0_part_25 : decode cX0_part 25 = .ok (.putfield 195, 3) := dk_181 0 195 (dk_at dksX0_part_1 1 rfl rfl)
theorem dX0_part_28 : decode cX0_part 28 = .ok (.iload_n 1, 1) := dk_27 (dk_at dksX0_part_1 4 rfl rfl)
theorem dX0_part_29 : decode cX0_part 29 = .ok (.istore_n 2, 1) := dk_61 (dk_at dksX0_part_1 5 rfl rfl)
theorem dX0_part_30 : decode cX0_part 30 = .ok (.iload_n 2, 1) := dk_28 (dk_at dksX0_part_1 6 rfl rfl)
theorem dX0_part_31 : decode cX0_part 31 = .ok (.aload_n 0, 1) := dk_42 (dk_at dksX0_part_1 7 rfl rfl)
theorem dX0_part_32 : decode cX0_part 32 = .ok (.getfield 57, 3) := dk_180 0 57 (dk_at dksX0_part_1 8 rfl rfl)
theorem dX0_part_35 : decode cX0_part 35 = .ok (.getfield 195, 3) := dk_180 0 195 (dk_at dksX0_part_1 11 rfl rfl)
theorem dX0_part_38 : decode cX0_part 38 = .ok (.if_icmp .ge 69, 3) := dk_162 0 69 (dk_at dksX0_part_1 14 rfl rfl)
theorem dX0_part_41 : decode cX0_part 41 = .ok (.aload_n 0, 1) := dk_42 (dk_at dksX0_part_1 17 rfl rfl)
theorem dX0_part_42 : decode cX0_part 42 = .ok (.getfield 57, 3) := dk_180 0 57 (dk_at dksX0_part_1 18 rfl rfl)
theorem dX0_part_45 : decode cX0_part 45 = .ok (.getfield 209, 3) := dk_180 0 209 (dk_at dksX0_part_1 21 rfl rfl)
theorem dX0_part_48 : decode cX0_part 48 = .ok (.iload_n 2, 1) := dk_28 (dk_at dksX0_part_2 0 rfl rfl)
theorem dX0_part_49 : decode cX0_part 49 = .ok (.aload_n 0, 1) := dk_42 (dk_at dksX0_part_2 1 rfl rfl)
theorem dX0_part_50 : decode cX0_part 50 = .ok (.getfield 57, 3) := dk_180 0 57 (dk_at dksX0_part_2 2 rfl rfl)
theorem dX0_part_53 : decode cX0_part 53 = .ok (.getfield 209, 3) := dk_180 0 209 (dk_at dksX0_part_2 5 rfl rfl)
theorem dX0_part_56 : decode cX0_part 56 = .ok (.iload_n 2, 1) := dk_28 (dk_at dksX0_part_2 8 rfl rfl)
theorem dX0_part_57 : decode cX0_part 57 = .ok (.iconst 1, 1) := dk_4 (dk_at dksX0_part_2 9 rfl rfl)
theorem dX0_part_58 : decode cX0_part 58 = .ok (.iadd, 1) := dk_96 (dk_at dksX0_part_2 10 rfl rfl)
theorem dX0_part_59 : decode cX0_part 59 = .ok (.iaload, 1) := dk_46 (dk_at dksX0_part_2 11 rfl rfl)
theorem dX0_part_60 : decode cX0_part 60 = .ok (.iastore, 1) := dk_79 (dk_at dksX0_part_2 12 rfl rfl)
theorem dX0_part_61 : decode cX0_part 61 = .ok (.aload_n 0, 1) := dk_42 (dk_at dksX0_part_2 13 rfl rfl)
theorem dX0_part_62 : decode cX0_part 62 = .ok (.getfield 57, 3) := dk_180 0 57 (dk_at dksX0_part_2 14 rfl rfl)
theorem dX0_part_65 : decode cX0_part 65 = .ok (.getfield 213, 3) := dk_180 0 213 (dk_at dksX0_part_2 17 rfl rfl)
theorem dX0_part_68 : decode cX0_part 68 = .ok (.iload_n 2, 1) := dk_28 (dk_at dksX0_part_2 20 rfl rfl)
theorem dX0_part_69 : decode cX0_part 69 = .ok (.aload_n 0, 1) := dk_42 (dk_at dksX0_part_2 21 rfl rfl)
theorem dX0_part_70 : decode cX0_part 70 = .ok (.getfield 57, 3) := dk_180 0 57 (dk_at dksX0_part_3 0 rfl rfl)
theorem dX0_part_73 : decode cX0_part 73 = .ok (.getfield 213, 3) := dk_180 0 213 (dk_at dksX0_part_3 3 rfl rfl)
theorem dX0_part_76 : decode cX0_part 76 = .ok (.iload_n 2, 1) := dk_28 (dk_at dksX0_part_3 6 rfl rfl)
theorem dX0_part_77 : decode cX0_part 77 = .ok (.iconst 1, 1) := dk_4 (dk_at dksX0_part_3 7 rfl rfl)
theorem dX0_part_78 : decode cX0_part 78 = .ok (.iadd, 1) := dk_96 (dk_at dksX0_part_3 8 rfl rfl)
theorem dX0_part_79 : decode cX0_part 79 = .ok (.iaload, 1) := dk_46 (dk_at dksX0_part_3 9 rfl rfl)
theorem dX0_part_80 : decode cX0_part 80 = .ok (.iastore, 1) := dk_79 (dk_at dksX0_part_3 10 rfl rfl)
theorem dX0_part_81 : decode cX0_part 81 = .ok (.aload_n 0, 1) := dk_42 (dk_at dksX0_part_3 11 rfl rfl)
theorem dX0_part_82 : decode cX0_part 82 = .ok (.getfield 57, 3) := dk_180 0 57 (dk_at dksX0_part_3 12 rfl rfl)
theorem dX0_part_85 : decode cX0_part 85 = .ok (.getfield 216, 3) := dk_180 0 216 (dk_at dksX0_part_3 15 rfl rfl)
theorem dX0_part_88 : decode cX0_part 88 = .ok (.iload_n 2, 1) := dk_28 (dk_at dksX0_part_3 18 rfl rfl)
theorem dX0_part_89 : decode cX0_part 89 = .ok (.aload_n 0, 1) := dk_42 (dk_at dksX0_part_3 19 rfl rfl)
theorem dX0_part_90 : decode cX0_part 90 = .ok (.getfield 57, 3) := dk_180 0 57 (dk_at dksX0_part_3 20 rfl rfl)
theorem dX0_part_93 : decode cX0_part 93 = .ok (.getfield 216, 3) := dk_180 0 216 (dk_at dksX0_part_4 0 rfl rfl)
theorem dX0_part_96 : decode cX0_part 96 = .ok (.iload_n 2, 1) := dk_28 (dk_at dksX0_part_4 3 rfl rfl)
theorem dX0_part_97 : decode cX0_part 97 = .ok (.iconst 1, 1) := dk_4 (dk_at dksX0_part_4 4 rfl rfl)
theorem dX0_part_98 : decode cX0_part 98 = .ok (.iadd, 1) := dk_96 (dk_at dksX0_part_4 5 rfl rfl)
theorem dX0_part_99 : decode cX0_part 99 = .ok (.iaload, 1) := dk_46 (dk_at dksX0_part_4 6 rfl rfl)
theorem dX0_part_100 : decode cX0_part 100 = .ok (.iastore, 1) := dk_79 (dk_at dksX0_part_4 7 rfl rfl)
theorem dX0_part_101 : decode cX0_part 101 = .ok (.iinc 2 1, 3) := dk_132 2 1 (dk_at dksX0_part_4 8 rfl rfl)
theorem dX0_part_104 : decode cX0_part 104 = .ok (.goto (-74), 3) := dk_167 255 182 (dk_at dksX0_part_4 11 rfl rfl)
theorem dX0_part_107 : decode cX0_part 107 = .ok (.aload_n 0, 1) := dk_42 (dk_at dksX0_part_4 14 rfl rfl)
theorem dX0_part_108 : decode cX0_part 108 = .ok (.getfield 57, 3) := dk_180 0 57 (dk_at dksX0_part_4 15 rfl rfl)
theorem dX0_part_111 : decode cX0_part 111 = .ok (.getfield 195, 3) := dk_180 0 195 (dk_at dksX0_part_4 18 rfl rfl)
theorem dX0_part_114 : decode cX0_part 114 = .ok (.ireturn, 1) := dk_172 (dk_at dksX0_part_4 21 rfl rfl)
abbrev cX0_isContact : ByteArray := prog_1_method_22_code
def yX0_isContact : MethodName := ⟨RX0, "isContact", "(I)Z"⟩
def dkwX0_isContact_0 : List UInt8 := [27, 133, 9, 42, 180, 0, 57, 180, 0, 195, 4, 100, 133, 184, 0, 99, 172]
abbrev dktX0_isContact_0 : List UInt8 := dkwX0_isContact_0 ++ []
theorem dksX0_isContact_0 : cX0_isContact.data.toList.drop 0 = dktX0_isContact_0 := by decide +kernel
theorem dX0_isContact_0 : decode cX0_isContact 0 = .ok (.iload_n 1, 1) := dk_27 (dk_at dksX0_isContact_0 0 rfl rfl)
theorem dX0_isContact_1 : decode cX0_isContact 1 = .ok (.i2l, 1) := dk_133 (dk_at dksX0_isContact_0 1 rfl rfl)
theorem dX0_isContact_2 : decode cX0_isContact 2 = .ok (.lconst 0, 1) := dk_9 (dk_at dksX0_isContact_0 2 rfl rfl)
theorem dX0_isContact_3 : decode cX0_isContact 3 = .ok (.aload_n 0, 1) := dk_42 (dk_at dksX0_isContact_0 3 rfl rfl)
theorem dX0_isContact_4 : decode cX0_isContact 4 = .ok (.getfield 57, 3) := dk_180 0 57 (dk_at dksX0_isContact_0 4 rfl rfl)
theorem dX0_isContact_7 : decode cX0_isContact 7 = .ok (.getfield 195, 3) := dk_180 0 195 (dk_at dksX0_isContact_0 7 rfl rfl)
theorem dX0_isContact_10 : decode cX0_isContact 10 = .ok (.iconst 1, 1) := dk_4 (dk_at dksX0_isContact_0 10 rfl rfl)
theorem dX0_isContact_11 : decode cX0_isContact 11 = .ok (.isub, 1) := dk_100 (dk_at dksX0_isContact_0 11 rfl rfl)
theorem dX0_isContact_12 : decode cX0_isContact 12 = .ok (.i2l, 1) := dk_133 (dk_at dksX0_isContact_0 12 rfl rfl)
theorem dX0_isContact_13 : decode cX0_isContact 13 = .ok (.invokestatic 99, 3) := dk_184 0 99 (dk_at dksX0_isContact_0 13 rfl rfl)
theorem dX0_isContact_16 : decode cX0_isContact 16 = .ok (.ireturn, 1) := dk_172 (dk_at dksX0_isContact_0 16 rfl rfl)
abbrev cX0_date : ByteArray := prog_1_method_27_code
def yX0_date : MethodName := ⟨RX0, "date", "(II)I"⟩
def dkwX0_date_2 : List UInt8 := [180, 0, 216, 27, 28, 79, 29, 172]
abbrev dktX0_date_2 : List UInt8 := dkwX0_date_2 ++ []
def dkwX0_date_1 : List UInt8 := [180, 0, 216, 27, 46, 62, 29, 28, 160, 0, 6, 18, 222, 172, 42, 182, 0, 206, 42, 180, 0, 57]
abbrev dktX0_date_1 : List UInt8 := dkwX0_date_1 ++ dktX0_date_2
def dkwX0_date_0 : List UInt8 := [42, 27, 182, 0, 219, 153, 0, 10, 28, 184, 0, 203, 154, 0, 6, 18, 109, 172, 42, 180, 0, 57]
abbrev dktX0_date_0 : List UInt8 := dkwX0_date_0 ++ dktX0_date_1
theorem dksX0_date_0 : cX0_date.data.toList.drop 0 = dktX0_date_0 := by decide +kernel
theorem dksX0_date_1 : cX0_date.data.toList.drop 22 = dktX0_date_1 := dk_seg dksX0_date_0 22 rfl rfl
theorem dksX0_date_2 : cX0_date.data.toList.drop 44 = dktX0_date_2 := dk_seg dksX0_date_1 22 rfl rfl
theorem dX0_date_0 : decode cX0_date 0 = .ok (.aload_n 0, 1) := dk_42 (dk_at dksX0_date_0 0 rfl rfl)
theorem dX0_date_1 : decode cX0_date 1 = .ok (.iload_n 1, 1) := dk_27 (dk_at dksX0_date_0 1 rfl rfl)
theorem dX0_date_2 : decode cX0_date 2 = .ok (.invokevirtual 219, 3) := dk_182 0 219 (dk_at dksX0_date_0 2 rfl rfl)
theorem dX0_date_5 : decode cX0_date 5 = .ok (.ifCond .eq 10, 3) := dk_153 0 10 (dk_at dksX0_date_0 5 rfl rfl)
theorem dX0_date_8 : decode cX0_date 8 = .ok (.iload_n 2, 1) := dk_28 (dk_at dksX0_date_0 8 rfl rfl)
theorem dX0_date_9 : decode cX0_date 9 = .ok (.invokestatic 203, 3) := dk_184 0 203 (dk_at dksX0_date_0 9 rfl rfl)
theorem dX0_date_12 : decode cX0_date 12 = .ok (.ifCond .ne 6, 3) := dk_154 0 6 (dk_at dksX0_date_0 12 rfl rfl)
theorem dX0_date_15 : decode cX0_date 15 = .ok (.ldc 109, 2) := dk_18 109 (dk_at dksX0_date_0 15 rfl rfl)
theorem dX0_date_17 : decode cX0_date 17 = .ok (.ireturn, 1) := dk_172 (dk_at dksX0_date_0 17 rfl rfl)
theorem dX0_date_18 : decode cX0_date 18 = .ok (.aload_n 0, 1) := dk_42 (dk_at dksX0_date_0 18 rfl rfl)
theorem dX0_date_19 : decode cX0_date 19 = .ok (.getfield 57, 3) := dk_180 0 57 (dk_at dksX0_date_0 19 rfl rfl)
theorem dX0_date_22 : decode cX0_date 22 = .ok (.getfield 216, 3) := dk_180 0 216 (dk_at dksX0_date_1 0 rfl rfl)
theorem dX0_date_25 : decode cX0_date 25 = .ok (.iload_n 1, 1) := dk_27 (dk_at dksX0_date_1 3 rfl rfl)
theorem dX0_date_26 : decode cX0_date 26 = .ok (.iaload, 1) := dk_46 (dk_at dksX0_date_1 4 rfl rfl)
theorem dX0_date_27 : decode cX0_date 27 = .ok (.istore_n 3, 1) := dk_62 (dk_at dksX0_date_1 5 rfl rfl)
theorem dX0_date_28 : decode cX0_date 28 = .ok (.iload_n 3, 1) := dk_29 (dk_at dksX0_date_1 6 rfl rfl)
theorem dX0_date_29 : decode cX0_date 29 = .ok (.iload_n 2, 1) := dk_28 (dk_at dksX0_date_1 7 rfl rfl)
theorem dX0_date_30 : decode cX0_date 30 = .ok (.if_icmp .ne 6, 3) := dk_160 0 6 (dk_at dksX0_date_1 8 rfl rfl)
theorem dX0_date_33 : decode cX0_date 33 = .ok (.ldc 222, 2) := dk_18 222 (dk_at dksX0_date_1 11 rfl rfl)
theorem dX0_date_35 : decode cX0_date 35 = .ok (.ireturn, 1) := dk_172 (dk_at dksX0_date_1 13 rfl rfl)
theorem dX0_date_36 : decode cX0_date 36 = .ok (.aload_n 0, 1) := dk_42 (dk_at dksX0_date_1 14 rfl rfl)
theorem dX0_date_37 : decode cX0_date 37 = .ok (.invokevirtual 206, 3) := dk_182 0 206 (dk_at dksX0_date_1 15 rfl rfl)
theorem dX0_date_40 : decode cX0_date 40 = .ok (.aload_n 0, 1) := dk_42 (dk_at dksX0_date_1 18 rfl rfl)
theorem dX0_date_41 : decode cX0_date 41 = .ok (.getfield 57, 3) := dk_180 0 57 (dk_at dksX0_date_1 19 rfl rfl)
theorem dX0_date_44 : decode cX0_date 44 = .ok (.getfield 216, 3) := dk_180 0 216 (dk_at dksX0_date_2 0 rfl rfl)
theorem dX0_date_47 : decode cX0_date 47 = .ok (.iload_n 1, 1) := dk_27 (dk_at dksX0_date_2 3 rfl rfl)
theorem dX0_date_48 : decode cX0_date 48 = .ok (.iload_n 2, 1) := dk_28 (dk_at dksX0_date_2 4 rfl rfl)
theorem dX0_date_49 : decode cX0_date 49 = .ok (.iastore, 1) := dk_79 (dk_at dksX0_date_2 5 rfl rfl)
theorem dX0_date_50 : decode cX0_date 50 = .ok (.iload_n 3, 1) := dk_29 (dk_at dksX0_date_2 6 rfl rfl)
theorem dX0_date_51 : decode cX0_date 51 = .ok (.ireturn, 1) := dk_172 (dk_at dksX0_date_2 7 rfl rfl)
abbrev cX0_ill : ByteArray := prog_1_method_28_code
def yX0_ill : MethodName := ⟨RX0, "ill", "(II)I"⟩
def dkwX0_ill_2 : List UInt8 := [180, 0, 57, 180, 0, 223, 27, 28, 79, 29, 172]
abbrev dktX0_ill_2 : List UInt8 := dkwX0_ill_2 ++ []
def dkwX0_ill_1 : List UInt8 := [180, 0, 57, 180, 0, 223, 27, 46, 62, 29, 28, 160, 0, 6, 18, 222, 172, 42, 182, 0, 206, 42]
abbrev dktX0_ill_1 : List UInt8 := dkwX0_ill_1 ++ dktX0_ill_2
def dkwX0_ill_0 : List UInt8 := [42, 27, 182, 0, 200, 153, 0, 15, 28, 2, 159, 0, 13, 28, 184, 0, 203, 154, 0, 6, 18, 109, 172, 42]
abbrev dktX0_ill_0 : List UInt8 := dkwX0_ill_0 ++ dktX0_ill_1
theorem dksX0_ill_0 : cX0_ill.data.toList.drop 0 = dktX0_ill_0 := by decide +kernel
theorem dksX0_ill_1 : cX0_ill.data.toList.drop 24 = dktX0_ill_1 := dk_seg dksX0_ill_0 24 rfl rfl
theorem dksX0_ill_2 : cX0_ill.data.toList.drop 46 = dktX0_ill_2 := dk_seg dksX0_ill_1 22 rfl rfl
theorem dX0_ill_0 : decode cX0_ill 0 = .ok (.aload_n 0, 1) := dk_42 (dk_at dksX0_ill_0 0 rfl rfl)
theorem dX0_ill_1 : decode cX0_ill 1 = .ok (.iload_n 1, 1) := dk_27 (dk_at dksX0_ill_0 1 rfl rfl)
theorem dX0_ill_2 : decode cX0_ill 2 = .ok (.invokevirtual 200, 3) := dk_182 0 200 (dk_at dksX0_ill_0 2 rfl rfl)
theorem dX0_ill_5 : decode cX0_ill 5 = .ok (.ifCond .eq 15, 3) := dk_153 0 15 (dk_at dksX0_ill_0 5 rfl rfl)
theorem dX0_ill_8 : decode cX0_ill 8 = .ok (.iload_n 2, 1) := dk_28 (dk_at dksX0_ill_0 8 rfl rfl)
theorem dX0_ill_9 : decode cX0_ill 9 = .ok (.iconst (-1), 1) := dk_2 (dk_at dksX0_ill_0 9 rfl rfl)
theorem dX0_ill_10 : decode cX0_ill 10 = .ok (.if_icmp .eq 13, 3) := dk_159 0 13 (dk_at dksX0_ill_0 10 rfl rfl)
theorem dX0_ill_13 : decode cX0_ill 13 = .ok (.iload_n 2, 1) := dk_28 (dk_at dksX0_ill_0 13 rfl rfl)
theorem dX0_ill_14 : decode cX0_ill 14 = .ok (.invokestatic 203, 3) := dk_184 0 203 (dk_at dksX0_ill_0 14 rfl rfl)
theorem dX0_ill_17 : decode cX0_ill 17 = .ok (.ifCond .ne 6, 3) := dk_154 0 6 (dk_at dksX0_ill_0 17 rfl rfl)
theorem dX0_ill_20 : decode cX0_ill 20 = .ok (.ldc 109, 2) := dk_18 109 (dk_at dksX0_ill_0 20 rfl rfl)
theorem dX0_ill_22 : decode cX0_ill 22 = .ok (.ireturn, 1) := dk_172 (dk_at dksX0_ill_0 22 rfl rfl)
theorem dX0_ill_23 : decode cX0_ill 23 = .ok (.aload_n 0, 1) := dk_42 (dk_at dksX0_ill_0 23 rfl rfl)
theorem dX0_ill_24 : decode cX0_ill 24 = .ok (.getfield 57, 3) := dk_180 0 57 (dk_at dksX0_ill_1 0 rfl rfl)
theorem dX0_ill_27 : decode cX0_ill 27 = .ok (.getfield 223, 3) := dk_180 0 223 (dk_at dksX0_ill_1 3 rfl rfl)
theorem dX0_ill_30 : decode cX0_ill 30 = .ok (.iload_n 1, 1) := dk_27 (dk_at dksX0_ill_1 6 rfl rfl)
theorem dX0_ill_31 : decode cX0_ill 31 = .ok (.iaload, 1) := dk_46 (dk_at dksX0_ill_1 7 rfl rfl)
theorem dX0_ill_32 : decode cX0_ill 32 = .ok (.istore_n 3, 1) := dk_62 (dk_at dksX0_ill_1 8 rfl rfl)
theorem dX0_ill_33 : decode cX0_ill 33 = .ok (.iload_n 3, 1) := dk_29 (dk_at dksX0_ill_1 9 rfl rfl)
theorem dX0_ill_34 : decode cX0_ill 34 = .ok (.iload_n 2, 1) := dk_28 (dk_at dksX0_ill_1 10 rfl rfl)
theorem dX0_ill_35 : decode cX0_ill 35 = .ok (.if_icmp .ne 6, 3) := dk_160 0 6 (dk_at dksX0_ill_1 11 rfl rfl)
theorem dX0_ill_38 : decode cX0_ill 38 = .ok (.ldc 222, 2) := dk_18 222 (dk_at dksX0_ill_1 14 rfl rfl)
theorem dX0_ill_40 : decode cX0_ill 40 = .ok (.ireturn, 1) := dk_172 (dk_at dksX0_ill_1 16 rfl rfl)
theorem dX0_ill_41 : decode cX0_ill 41 = .ok (.aload_n 0, 1) := dk_42 (dk_at dksX0_ill_1 17 rfl rfl)
theorem dX0_ill_42 : decode cX0_ill 42 = .ok (.invokevirtual 206, 3) := dk_182 0 206 (dk_at dksX0_ill_1 18 rfl rfl)
theorem dX0_ill_45 : decode cX0_ill 45 = .ok (.aload_n 0, 1) := dk_42 (dk_at dksX0_ill_1 21 rfl rfl)
theorem dX0_ill_46 : decode cX0_ill 46 = .ok (.getfield 57, 3) := dk_180 0 57 (dk_at dksX0_ill_2 0 rfl rfl)
theorem dX0_ill_49 : decode cX0_ill 49 = .ok (.getfield 223, 3) := dk_180 0 223 (dk_at dksX0_ill_2 3 rfl rfl)
theorem dX0_ill_52 : decode cX0_ill 52 = .ok (.iload_n 1, 1) := dk_27 (dk_at dksX0_ill_2 6 rfl rfl)
theorem dX0_ill_53 : decode cX0_ill 53 = .ok (.iload_n 2, 1) := dk_28 (dk_at dksX0_ill_2 7 rfl rfl)
theorem dX0_ill_54 : decode cX0_ill 54 = .ok (.iastore, 1) := dk_79 (dk_at dksX0_ill_2 8 rfl rfl)
theorem dX0_ill_55 : decode cX0_ill 55 = .ok (.iload_n 3, 1) := dk_29 (dk_at dksX0_ill_2 9 rfl rfl)
theorem dX0_ill_56 : decode cX0_ill 56 = .ok (.ireturn, 1) := dk_172 (dk_at dksX0_ill_2 10 rfl rfl)
abbrev cX0_window : ByteArray := prog_1_method_29_code
def yX0_window : MethodName := ⟨RX0, "window", "(II)I"⟩
def dkwX0_window_4 : List UInt8 := [180, 0, 57, 182, 0, 181, 87, 29, 172]
abbrev dktX0_window_4 : List UInt8 := dkwX0_window_4 ++ []
def dkwX0_window_3 : List UInt8 := [180, 0, 57, 180, 0, 237, 62, 42, 180, 0, 57, 27, 181, 0, 234, 42, 180, 0, 57, 28, 181, 0, 237, 42]
abbrev dktX0_window_3 : List UInt8 := dkwX0_window_3 ++ dktX0_window_4
def dkwX0_window_2 : List UInt8 := [160, 0, 17, 42, 180, 0, 57, 180, 0, 237, 28, 160, 0, 6, 18, 222, 172, 42, 182, 0, 206, 42]
abbrev dktX0_window_2 : List UInt8 := dkwX0_window_2 ++ dktX0_window_3
def dkwX0_window_1 : List UInt8 := [27, 133, 20, 0, 232, 184, 0, 99, 154, 0, 6, 18, 109, 172, 42, 180, 0, 57, 180, 0, 234, 27]
abbrev dktX0_window_1 : List UInt8 := dkwX0_window_1 ++ dktX0_window_2
def dkwX0_window_0 : List UInt8 := [42, 182, 0, 226, 154, 0, 6, 18, 222, 172, 27, 133, 10, 20, 0, 230, 184, 0, 99, 153, 0, 16, 28, 133]
abbrev dktX0_window_0 : List UInt8 := dkwX0_window_0 ++ dktX0_window_1
theorem dksX0_window_0 : cX0_window.data.toList.drop 0 = dktX0_window_0 := by decide +kernel
theorem dksX0_window_1 : cX0_window.data.toList.drop 24 = dktX0_window_1 := dk_seg dksX0_window_0 24 rfl rfl
theorem dksX0_window_2 : cX0_window.data.toList.drop 46 = dktX0_window_2 := dk_seg dksX0_window_1 22 rfl rfl
theorem dksX0_window_3 : cX0_window.data.toList.drop 68 = dktX0_window_3 := dk_seg dksX0_window_2 22 rfl rfl
theorem dksX0_window_4 : cX0_window.data.toList.drop 92 = dktX0_window_4 := dk_seg dksX0_window_3 24 rfl rfl
theorem dX0_window_0 : decode cX0_window 0 = .ok (.aload_n 0, 1) := dk_42 (dk_at dksX0_window_0 0 rfl rfl)
theorem dX0_window_1 : decode cX0_window 1 = .ok (.invokevirtual 226, 3) := dk_182 0 226 (dk_at dksX0_window_0 1 rfl rfl)
theorem dX0_window_4 : decode cX0_window 4 = .ok (.ifCond .ne 6, 3) := dk_154 0 6 (dk_at dksX0_window_0 4 rfl rfl)
theorem dX0_window_7 : decode cX0_window 7 = .ok (.ldc 222, 2) := dk_18 222 (dk_at dksX0_window_0 7 rfl rfl)
theorem dX0_window_9 : decode cX0_window 9 = .ok (.ireturn, 1) := dk_172 (dk_at dksX0_window_0 9 rfl rfl)
theorem dX0_window_10 : decode cX0_window 10 = .ok (.iload_n 1, 1) := dk_27 (dk_at dksX0_window_0 10 rfl rfl)
theorem dX0_window_11 : decode cX0_window 11 = .ok (.i2l, 1) := dk_133 (dk_at dksX0_window_0 11 rfl rfl)
theorem dX0_window_12 : decode cX0_window 12 = .ok (.lconst 1, 1) := dk_10 (dk_at dksX0_window_0 12 rfl rfl)
theorem dX0_window_13 : decode cX0_window 13 = .ok (.ldc2_w 230, 3) := dk_20 0 230 (dk_at dksX0_window_0 13 rfl rfl)
theorem dX0_window_16 : decode cX0_window 16 = .ok (.invokestatic 99, 3) := dk_184 0 99 (dk_at dksX0_window_0 16 rfl rfl)
theorem dX0_window_19 : decode cX0_window 19 = .ok (.ifCond .eq 16, 3) := dk_153 0 16 (dk_at dksX0_window_0 19 rfl rfl)
theorem dX0_window_22 : decode cX0_window 22 = .ok (.iload_n 2, 1) := dk_28 (dk_at dksX0_window_0 22 rfl rfl)
theorem dX0_window_23 : decode cX0_window 23 = .ok (.i2l, 1) := dk_133 (dk_at dksX0_window_0 23 rfl rfl)
theorem dX0_window_24 : decode cX0_window 24 = .ok (.iload_n 1, 1) := dk_27 (dk_at dksX0_window_1 0 rfl rfl)
theorem dX0_window_25 : decode cX0_window 25 = .ok (.i2l, 1) := dk_133 (dk_at dksX0_window_1 1 rfl rfl)
theorem dX0_window_26 : decode cX0_window 26 = .ok (.ldc2_w 232, 3) := dk_20 0 232 (dk_at dksX0_window_1 2 rfl rfl)
theorem dX0_window_29 : decode cX0_window 29 = .ok (.invokestatic 99, 3) := dk_184 0 99 (dk_at dksX0_window_1 5 rfl rfl)
theorem dX0_window_32 : decode cX0_window 32 = .ok (.ifCond .ne 6, 3) := dk_154 0 6 (dk_at dksX0_window_1 8 rfl rfl)
theorem dX0_window_35 : decode cX0_window 35 = .ok (.ldc 109, 2) := dk_18 109 (dk_at dksX0_window_1 11 rfl rfl)
theorem dX0_window_37 : decode cX0_window 37 = .ok (.ireturn, 1) := dk_172 (dk_at dksX0_window_1 13 rfl rfl)
theorem dX0_window_38 : decode cX0_window 38 = .ok (.aload_n 0, 1) := dk_42 (dk_at dksX0_window_1 14 rfl rfl)
theorem dX0_window_39 : decode cX0_window 39 = .ok (.getfield 57, 3) := dk_180 0 57 (dk_at dksX0_window_1 15 rfl rfl)
theorem dX0_window_42 : decode cX0_window 42 = .ok (.getfield 234, 3) := dk_180 0 234 (dk_at dksX0_window_1 18 rfl rfl)
theorem dX0_window_45 : decode cX0_window 45 = .ok (.iload_n 1, 1) := dk_27 (dk_at dksX0_window_1 21 rfl rfl)
theorem dX0_window_46 : decode cX0_window 46 = .ok (.if_icmp .ne 17, 3) := dk_160 0 17 (dk_at dksX0_window_2 0 rfl rfl)
theorem dX0_window_49 : decode cX0_window 49 = .ok (.aload_n 0, 1) := dk_42 (dk_at dksX0_window_2 3 rfl rfl)
theorem dX0_window_50 : decode cX0_window 50 = .ok (.getfield 57, 3) := dk_180 0 57 (dk_at dksX0_window_2 4 rfl rfl)
theorem dX0_window_53 : decode cX0_window 53 = .ok (.getfield 237, 3) := dk_180 0 237 (dk_at dksX0_window_2 7 rfl rfl)
theorem dX0_window_56 : decode cX0_window 56 = .ok (.iload_n 2, 1) := dk_28 (dk_at dksX0_window_2 10 rfl rfl)
theorem dX0_window_57 : decode cX0_window 57 = .ok (.if_icmp .ne 6, 3) := dk_160 0 6 (dk_at dksX0_window_2 11 rfl rfl)
theorem dX0_window_60 : decode cX0_window 60 = .ok (.ldc 222, 2) := dk_18 222 (dk_at dksX0_window_2 14 rfl rfl)
theorem dX0_window_62 : decode cX0_window 62 = .ok (.ireturn, 1) := dk_172 (dk_at dksX0_window_2 16 rfl rfl)
theorem dX0_window_63 : decode cX0_window 63 = .ok (.aload_n 0, 1) := dk_42 (dk_at dksX0_window_2 17 rfl rfl)
theorem dX0_window_64 : decode cX0_window 64 = .ok (.invokevirtual 206, 3) := dk_182 0 206 (dk_at dksX0_window_2 18 rfl rfl)
theorem dX0_window_67 : decode cX0_window 67 = .ok (.aload_n 0, 1) := dk_42 (dk_at dksX0_window_2 21 rfl rfl)
theorem dX0_window_68 : decode cX0_window 68 = .ok (.getfield 57, 3) := dk_180 0 57 (dk_at dksX0_window_3 0 rfl rfl)
theorem dX0_window_71 : decode cX0_window 71 = .ok (.getfield 237, 3) := dk_180 0 237 (dk_at dksX0_window_3 3 rfl rfl)
theorem dX0_window_74 : decode cX0_window 74 = .ok (.istore_n 3, 1) := dk_62 (dk_at dksX0_window_3 6 rfl rfl)
theorem dX0_window_75 : decode cX0_window 75 = .ok (.aload_n 0, 1) := dk_42 (dk_at dksX0_window_3 7 rfl rfl)
theorem dX0_window_76 : decode cX0_window 76 = .ok (.getfield 57, 3) := dk_180 0 57 (dk_at dksX0_window_3 8 rfl rfl)
theorem dX0_window_79 : decode cX0_window 79 = .ok (.iload_n 1, 1) := dk_27 (dk_at dksX0_window_3 11 rfl rfl)
theorem dX0_window_80 : decode cX0_window 80 = .ok (.putfield 234, 3) := dk_181 0 234 (dk_at dksX0_window_3 12 rfl rfl)
theorem dX0_window_83 : decode cX0_window 83 = .ok (.aload_n 0, 1) := dk_42 (dk_at dksX0_window_3 15 rfl rfl)
theorem dX0_window_84 : decode cX0_window 84 = .ok (.getfield 57, 3) := dk_180 0 57 (dk_at dksX0_window_3 16 rfl rfl)
theorem dX0_window_87 : decode cX0_window 87 = .ok (.iload_n 2, 1) := dk_28 (dk_at dksX0_window_3 19 rfl rfl)
theorem dX0_window_88 : decode cX0_window 88 = .ok (.putfield 237, 3) := dk_181 0 237 (dk_at dksX0_window_3 20 rfl rfl)
theorem dX0_window_91 : decode cX0_window 91 = .ok (.aload_n 0, 1) := dk_42 (dk_at dksX0_window_3 23 rfl rfl)
theorem dX0_window_92 : decode cX0_window 92 = .ok (.getfield 57, 3) := dk_180 0 57 (dk_at dksX0_window_4 0 rfl rfl)
theorem dX0_window_95 : decode cX0_window 95 = .ok (.invokevirtual 181, 3) := dk_182 0 181 (dk_at dksX0_window_4 3 rfl rfl)
theorem dX0_window_98 : decode cX0_window 98 = .ok (.pop, 1) := dk_87 (dk_at dksX0_window_4 6 rfl rfl)
theorem dX0_window_99 : decode cX0_window 99 = .ok (.iload_n 3, 1) := dk_29 (dk_at dksX0_window_4 7 rfl rfl)
theorem dX0_window_100 : decode cX0_window 100 = .ok (.ireturn, 1) := dk_172 (dk_at dksX0_window_4 8 rfl rfl)
abbrev cX0_isThere : ByteArray := prog_1_method_20_code
def yX0_isThere : MethodName := ⟨RX0, "isThere", "()Z"⟩
def dkwX0_isThere_0 : List UInt8 := [42, 180, 0, 57, 180, 0, 192, 158, 0, 7, 4, 167, 0, 4, 3, 172]
abbrev dktX0_isThere_0 : List UInt8 := dkwX0_isThere_0 ++ []
theorem dksX0_isThere_0 : cX0_isThere.data.toList.drop 0 = dktX0_isThere_0 := by decide +kernel
theorem dX0_isThere_0 : decode cX0_isThere 0 = .ok (.aload_n 0, 1) := dk_42 (dk_at dksX0_isThere_0 0 rfl rfl)
theorem dX0_isThere_1 : decode cX0_isThere 1 = .ok (.getfield 57, 3) := dk_180 0 57 (dk_at dksX0_isThere_0 1 rfl rfl)
theorem dX0_isThere_4 : decode cX0_isThere 4 = .ok (.getfield 192, 3) := dk_180 0 192 (dk_at dksX0_isThere_0 4 rfl rfl)
theorem dX0_isThere_7 : decode cX0_isThere 7 = .ok (.ifCond .le 7, 3) := dk_158 0 7 (dk_at dksX0_isThere_0 7 rfl rfl)
theorem dX0_isThere_10 : decode cX0_isThere 10 = .ok (.iconst 1, 1) := dk_4 (dk_at dksX0_isThere_0 10 rfl rfl)
theorem dX0_isThere_11 : decode cX0_isThere 11 = .ok (.goto 4, 3) := dk_167 0 4 (dk_at dksX0_isThere_0 11 rfl rfl)
theorem dX0_isThere_14 : decode cX0_isThere 14 = .ok (.iconst 0, 1) := dk_3 (dk_at dksX0_isThere_0 14 rfl rfl)
theorem dX0_isThere_15 : decode cX0_isThere 15 = .ok (.ireturn, 1) := dk_172 (dk_at dksX0_isThere_0 15 rfl rfl)
abbrev cX0_become : ByteArray := prog_1_method_30_code
def yX0_become : MethodName := ⟨RX0, "become", "(II)I"⟩
def dkwX0_become_2 : List UInt8 := [42, 180, 0, 57, 180, 0, 242, 27, 28, 27, 184, 0, 248, 83, 42, 180, 0, 57, 182, 0, 181, 87, 29, 172]
abbrev dktX0_become_2 : List UInt8 := dkwX0_become_2 ++ []
def dkwX0_become_1 : List UInt8 := [180, 0, 57, 180, 0, 242, 27, 50, 182, 0, 246, 62, 29, 28, 160, 0, 6, 18, 222, 172, 42, 182, 0, 206]
abbrev dktX0_become_1 : List UInt8 := dkwX0_become_1 ++ dktX0_become_2
def dkwX0_become_0 : List UInt8 := [42, 27, 182, 0, 200, 153, 0, 15, 28, 133, 10, 20, 0, 240, 184, 0, 99, 154, 0, 6, 18, 109, 172, 42]
abbrev dktX0_become_0 : List UInt8 := dkwX0_become_0 ++ dktX0_become_1
theorem dksX0_become_0 : cX0_become.data.toList.drop 0 = dktX0_become_0 := by decide +kernel
theorem dksX0_become_1 : cX0_become.data.toList.drop 24 = dktX0_become_1 := dk_seg dksX0_become_0 24 rfl rfl
theorem dksX0_become_2 : cX0_become.data.toList.drop 48 = dktX0_become_2 := dk_seg dksX0_become_1 24 rfl rfl
theorem dX0_become_0 : decode cX0_become 0 = .ok (.aload_n 0, 1) := dk_42 (dk_at dksX0_become_0 0 rfl rfl)
theorem dX0_become_1 : decode cX0_become 1 = .ok (.iload_n 1, 1) := dk_27 (dk_at dksX0_become_0 1 rfl rfl)
theorem dX0_become_2 : decode cX0_become 2 = .ok (.invokevirtual 200, 3) := dk_182 0 200 (dk_at dksX0_become_0 2 rfl rfl)
theorem dX0_become_5 : decode cX0_become 5 = .ok (.ifCond .eq 15, 3) := dk_153 0 15 (dk_at dksX0_become_0 5 rfl rfl)
theorem dX0_become_8 : decode cX0_become 8 = .ok (.iload_n 2, 1) := dk_28 (dk_at dksX0_become_0 8 rfl rfl)
theorem dX0_become_9 : decode cX0_become 9 = .ok (.i2l, 1) := dk_133 (dk_at dksX0_become_0 9 rfl rfl)
theorem dX0_become_10 : decode cX0_become 10 = .ok (.lconst 1, 1) := dk_10 (dk_at dksX0_become_0 10 rfl rfl)
theorem dX0_become_11 : decode cX0_become 11 = .ok (.ldc2_w 240, 3) := dk_20 0 240 (dk_at dksX0_become_0 11 rfl rfl)
theorem dX0_become_14 : decode cX0_become 14 = .ok (.invokestatic 99, 3) := dk_184 0 99 (dk_at dksX0_become_0 14 rfl rfl)
theorem dX0_become_17 : decode cX0_become 17 = .ok (.ifCond .ne 6, 3) := dk_154 0 6 (dk_at dksX0_become_0 17 rfl rfl)
theorem dX0_become_20 : decode cX0_become 20 = .ok (.ldc 109, 2) := dk_18 109 (dk_at dksX0_become_0 20 rfl rfl)
theorem dX0_become_22 : decode cX0_become 22 = .ok (.ireturn, 1) := dk_172 (dk_at dksX0_become_0 22 rfl rfl)
theorem dX0_become_23 : decode cX0_become 23 = .ok (.aload_n 0, 1) := dk_42 (dk_at dksX0_become_0 23 rfl rfl)
theorem dX0_become_24 : decode cX0_become 24 = .ok (.getfield 57, 3) := dk_180 0 57 (dk_at dksX0_become_1 0 rfl rfl)
theorem dX0_become_27 : decode cX0_become 27 = .ok (.getfield 242, 3) := dk_180 0 242 (dk_at dksX0_become_1 3 rfl rfl)
theorem dX0_become_30 : decode cX0_become 30 = .ok (.iload_n 1, 1) := dk_27 (dk_at dksX0_become_1 6 rfl rfl)
theorem dX0_become_31 : decode cX0_become 31 = .ok (.aaload, 1) := dk_50 (dk_at dksX0_become_1 7 rfl rfl)
theorem dX0_become_32 : decode cX0_become 32 = .ok (.invokevirtual 246, 3) := dk_182 0 246 (dk_at dksX0_become_1 8 rfl rfl)
theorem dX0_become_35 : decode cX0_become 35 = .ok (.istore_n 3, 1) := dk_62 (dk_at dksX0_become_1 11 rfl rfl)
theorem dX0_become_36 : decode cX0_become 36 = .ok (.iload_n 3, 1) := dk_29 (dk_at dksX0_become_1 12 rfl rfl)
theorem dX0_become_37 : decode cX0_become 37 = .ok (.iload_n 2, 1) := dk_28 (dk_at dksX0_become_1 13 rfl rfl)
theorem dX0_become_38 : decode cX0_become 38 = .ok (.if_icmp .ne 6, 3) := dk_160 0 6 (dk_at dksX0_become_1 14 rfl rfl)
theorem dX0_become_41 : decode cX0_become 41 = .ok (.ldc 222, 2) := dk_18 222 (dk_at dksX0_become_1 17 rfl rfl)
theorem dX0_become_43 : decode cX0_become 43 = .ok (.ireturn, 1) := dk_172 (dk_at dksX0_become_1 19 rfl rfl)
theorem dX0_become_44 : decode cX0_become 44 = .ok (.aload_n 0, 1) := dk_42 (dk_at dksX0_become_1 20 rfl rfl)
theorem dX0_become_45 : decode cX0_become 45 = .ok (.invokevirtual 206, 3) := dk_182 0 206 (dk_at dksX0_become_1 21 rfl rfl)
theorem dX0_become_48 : decode cX0_become 48 = .ok (.aload_n 0, 1) := dk_42 (dk_at dksX0_become_2 0 rfl rfl)
theorem dX0_become_49 : decode cX0_become 49 = .ok (.getfield 57, 3) := dk_180 0 57 (dk_at dksX0_become_2 1 rfl rfl)
theorem dX0_become_52 : decode cX0_become 52 = .ok (.getfield 242, 3) := dk_180 0 242 (dk_at dksX0_become_2 4 rfl rfl)
theorem dX0_become_55 : decode cX0_become 55 = .ok (.iload_n 1, 1) := dk_27 (dk_at dksX0_become_2 7 rfl rfl)
theorem dX0_become_56 : decode cX0_become 56 = .ok (.iload_n 2, 1) := dk_28 (dk_at dksX0_become_2 8 rfl rfl)
theorem dX0_become_57 : decode cX0_become 57 = .ok (.iload_n 1, 1) := dk_27 (dk_at dksX0_become_2 9 rfl rfl)
theorem dX0_become_58 : decode cX0_become 58 = .ok (.invokestatic 248, 3) := dk_184 0 248 (dk_at dksX0_become_2 10 rfl rfl)
theorem dX0_become_61 : decode cX0_become 61 = .ok (.aastore, 1) := dk_83 (dk_at dksX0_become_2 13 rfl rfl)
theorem dX0_become_62 : decode cX0_become 62 = .ok (.aload_n 0, 1) := dk_42 (dk_at dksX0_become_2 14 rfl rfl)
theorem dX0_become_63 : decode cX0_become 63 = .ok (.getfield 57, 3) := dk_180 0 57 (dk_at dksX0_become_2 15 rfl rfl)
theorem dX0_become_66 : decode cX0_become 66 = .ok (.invokevirtual 181, 3) := dk_182 0 181 (dk_at dksX0_become_2 18 rfl rfl)
theorem dX0_become_69 : decode cX0_become 69 = .ok (.pop, 1) := dk_87 (dk_at dksX0_become_2 21 rfl rfl)
theorem dX0_become_70 : decode cX0_become 70 = .ok (.iload_n 3, 1) := dk_29 (dk_at dksX0_become_2 22 rfl rfl)
theorem dX0_become_71 : decode cX0_become 71 = .ok (.ireturn, 1) := dk_172 (dk_at dksX0_become_2 23 rfl rfl)
abbrev cX0_undo : ByteArray := prog_1_method_31_code
def yX0_undo : MethodName := ⟨RX0, "undo", "()I"⟩
def dkwX0_undo_1 : List UInt8 := [42, 180, 0, 78, 42, 180, 0, 189, 50, 182, 0, 185, 87, 42, 180, 0, 189, 172]
abbrev dktX0_undo_1 : List UInt8 := dkwX0_undo_1 ++ []
def dkwX0_undo_0 : List UInt8 := [42, 180, 0, 189, 154, 0, 6, 18, 222, 172, 42, 89, 180, 0, 189, 4, 100, 181, 0, 189, 42, 180, 0, 57]
abbrev dktX0_undo_0 : List UInt8 := dkwX0_undo_0 ++ dktX0_undo_1
theorem dksX0_undo_0 : cX0_undo.data.toList.drop 0 = dktX0_undo_0 := by decide +kernel
theorem dksX0_undo_1 : cX0_undo.data.toList.drop 24 = dktX0_undo_1 := dk_seg dksX0_undo_0 24 rfl rfl
theorem dX0_undo_0 : decode cX0_undo 0 = .ok (.aload_n 0, 1) := dk_42 (dk_at dksX0_undo_0 0 rfl rfl)
theorem dX0_undo_1 : decode cX0_undo 1 = .ok (.getfield 189, 3) := dk_180 0 189 (dk_at dksX0_undo_0 1 rfl rfl)
theorem dX0_undo_4 : decode cX0_undo 4 = .ok (.ifCond .ne 6, 3) := dk_154 0 6 (dk_at dksX0_undo_0 4 rfl rfl)
theorem dX0_undo_7 : decode cX0_undo 7 = .ok (.ldc 222, 2) := dk_18 222 (dk_at dksX0_undo_0 7 rfl rfl)
theorem dX0_undo_9 : decode cX0_undo 9 = .ok (.ireturn, 1) := dk_172 (dk_at dksX0_undo_0 9 rfl rfl)
theorem dX0_undo_10 : decode cX0_undo 10 = .ok (.aload_n 0, 1) := dk_42 (dk_at dksX0_undo_0 10 rfl rfl)
theorem dX0_undo_11 : decode cX0_undo 11 = .ok (.dup, 1) := dk_89 (dk_at dksX0_undo_0 11 rfl rfl)
theorem dX0_undo_12 : decode cX0_undo 12 = .ok (.getfield 189, 3) := dk_180 0 189 (dk_at dksX0_undo_0 12 rfl rfl)
theorem dX0_undo_15 : decode cX0_undo 15 = .ok (.iconst 1, 1) := dk_4 (dk_at dksX0_undo_0 15 rfl rfl)
theorem dX0_undo_16 : decode cX0_undo 16 = .ok (.isub, 1) := dk_100 (dk_at dksX0_undo_0 16 rfl rfl)
theorem dX0_undo_17 : decode cX0_undo 17 = .ok (.putfield 189, 3) := dk_181 0 189 (dk_at dksX0_undo_0 17 rfl rfl)
theorem dX0_undo_20 : decode cX0_undo 20 = .ok (.aload_n 0, 1) := dk_42 (dk_at dksX0_undo_0 20 rfl rfl)
theorem dX0_undo_21 : decode cX0_undo 21 = .ok (.getfield 57, 3) := dk_180 0 57 (dk_at dksX0_undo_0 21 rfl rfl)
theorem dX0_undo_24 : decode cX0_undo 24 = .ok (.aload_n 0, 1) := dk_42 (dk_at dksX0_undo_1 0 rfl rfl)
theorem dX0_undo_25 : decode cX0_undo 25 = .ok (.getfield 78, 3) := dk_180 0 78 (dk_at dksX0_undo_1 1 rfl rfl)
theorem dX0_undo_28 : decode cX0_undo 28 = .ok (.aload_n 0, 1) := dk_42 (dk_at dksX0_undo_1 4 rfl rfl)
theorem dX0_undo_29 : decode cX0_undo 29 = .ok (.getfield 189, 3) := dk_180 0 189 (dk_at dksX0_undo_1 5 rfl rfl)
theorem dX0_undo_32 : decode cX0_undo 32 = .ok (.aaload, 1) := dk_50 (dk_at dksX0_undo_1 8 rfl rfl)
theorem dX0_undo_33 : decode cX0_undo 33 = .ok (.invokevirtual 185, 3) := dk_182 0 185 (dk_at dksX0_undo_1 9 rfl rfl)
theorem dX0_undo_36 : decode cX0_undo 36 = .ok (.pop, 1) := dk_87 (dk_at dksX0_undo_1 12 rfl rfl)
theorem dX0_undo_37 : decode cX0_undo 37 = .ok (.aload_n 0, 1) := dk_42 (dk_at dksX0_undo_1 13 rfl rfl)
theorem dX0_undo_38 : decode cX0_undo 38 = .ok (.getfield 189, 3) := dk_180 0 189 (dk_at dksX0_undo_1 14 rfl rfl)
theorem dX0_undo_41 : decode cX0_undo 41 = .ok (.ireturn, 1) := dk_172 (dk_at dksX0_undo_1 17 rfl rfl)
abbrev cX0_person : ByteArray := prog_1_method_32_code
def yX0_person : MethodName := ⟨RX0, "person", "(II)I"⟩
def dkwX0_person_4 : List UInt8 := [42, 180, 0, 57, 27, 182, 1, 8, 167, 0, 5, 18, 109, 172]
abbrev dktX0_person_4 : List UInt8 := dkwX0_person_4 ++ []
def dkwX0_person_3 : List UInt8 := [167, 0, 37, 45, 185, 1, 5, 1, 0, 167, 0, 28, 42, 180, 0, 57, 180, 0, 223, 27, 46, 167, 0, 16]
abbrev dktX0_person_3 : List UInt8 := dkwX0_person_3 ++ dktX0_person_4
def dkwX0_person_2 : List UInt8 := [45, 199, 0, 8, 18, 33, 167, 0, 55, 45, 185, 1, 0, 1, 0, 167, 0, 46, 45, 199, 0, 8, 18, 33]
abbrev dktX0_person_2 : List UInt8 := dkwX0_person_2 ++ dktX0_person_3
def dkwX0_person_1 : List UInt8 := [170, 0, 0, 0, 0, 0, 90, 0, 0, 0, 0, 0, 0, 0, 3, 0, 0, 0, 31, 0, 0, 0, 49, 0, 0, 0, 67, 0, 0, 0, 79]
abbrev dktX0_person_1 : List UInt8 := dkwX0_person_1 ++ dktX0_person_2
def dkwX0_person_0 : List UInt8 := [42, 27, 182, 0, 200, 154, 0, 6, 18, 109, 172, 42, 180, 0, 57, 27, 182, 0, 252, 78, 28]
abbrev dktX0_person_0 : List UInt8 := dkwX0_person_0 ++ dktX0_person_1
theorem dksX0_person_0 : cX0_person.data.toList.drop 0 = dktX0_person_0 := by decide +kernel
theorem dksX0_person_1 : cX0_person.data.toList.drop 21 = dktX0_person_1 := dk_seg dksX0_person_0 21 rfl rfl
theorem dksX0_person_2 : cX0_person.data.toList.drop 52 = dktX0_person_2 := dk_seg dksX0_person_1 31 rfl rfl
theorem dksX0_person_3 : cX0_person.data.toList.drop 76 = dktX0_person_3 := dk_seg dksX0_person_2 24 rfl rfl
theorem dksX0_person_4 : cX0_person.data.toList.drop 100 = dktX0_person_4 := dk_seg dksX0_person_3 24 rfl rfl
theorem dX0_person_0 : decode cX0_person 0 = .ok (.aload_n 0, 1) := dk_42 (dk_at dksX0_person_0 0 rfl rfl)
theorem dX0_person_1 : decode cX0_person 1 = .ok (.iload_n 1, 1) := dk_27 (dk_at dksX0_person_0 1 rfl rfl)
theorem dX0_person_2 : decode cX0_person 2 = .ok (.invokevirtual 200, 3) := dk_182 0 200 (dk_at dksX0_person_0 2 rfl rfl)
theorem dX0_person_5 : decode cX0_person 5 = .ok (.ifCond .ne 6, 3) := dk_154 0 6 (dk_at dksX0_person_0 5 rfl rfl)
theorem dX0_person_8 : decode cX0_person 8 = .ok (.ldc 109, 2) := dk_18 109 (dk_at dksX0_person_0 8 rfl rfl)
theorem dX0_person_10 : decode cX0_person 10 = .ok (.ireturn, 1) := dk_172 (dk_at dksX0_person_0 10 rfl rfl)
theorem dX0_person_11 : decode cX0_person 11 = .ok (.aload_n 0, 1) := dk_42 (dk_at dksX0_person_0 11 rfl rfl)
theorem dX0_person_12 : decode cX0_person 12 = .ok (.getfield 57, 3) := dk_180 0 57 (dk_at dksX0_person_0 12 rfl rfl)
theorem dX0_person_15 : decode cX0_person 15 = .ok (.iload_n 1, 1) := dk_27 (dk_at dksX0_person_0 15 rfl rfl)
theorem dX0_person_16 : decode cX0_person 16 = .ok (.invokevirtual 252, 3) := dk_182 0 252 (dk_at dksX0_person_0 16 rfl rfl)
theorem dX0_person_19 : decode cX0_person 19 = .ok (.astore_n 3, 1) := dk_78 (dk_at dksX0_person_0 19 rfl rfl)
theorem dX0_person_20 : decode cX0_person 20 = .ok (.iload_n 2, 1) := dk_28 (dk_at dksX0_person_0 20 rfl rfl)
theorem dX0_person_21 : decode cX0_person 21 = .ok (.tableswitch 90 0 3 #[31, 49, 67, 79], 31) := by decide +kernel
theorem dX0_person_52 : decode cX0_person 52 = .ok (.aload_n 3, 1) := dk_45 (dk_at dksX0_person_2 0 rfl rfl)
theorem dX0_person_53 : decode cX0_person 53 = .ok (.ifnonnull 8, 3) := dk_199 0 8 (dk_at dksX0_person_2 1 rfl rfl)
theorem dX0_person_56 : decode cX0_person 56 = .ok (.ldc 33, 2) := dk_18 33 (dk_at dksX0_person_2 4 rfl rfl)
theorem dX0_person_58 : decode cX0_person 58 = .ok (.goto 55, 3) := dk_167 0 55 (dk_at dksX0_person_2 6 rfl rfl)
theorem dX0_person_61 : decode cX0_person 61 = .ok (.aload_n 3, 1) := dk_45 (dk_at dksX0_person_2 9 rfl rfl)
theorem dX0_person_62 : decode cX0_person 62 = .ok (.invokeinterface 256 1, 5) := by decide +kernel
theorem dX0_person_67 : decode cX0_person 67 = .ok (.goto 46, 3) := dk_167 0 46 (dk_at dksX0_person_2 15 rfl rfl)
theorem dX0_person_70 : decode cX0_person 70 = .ok (.aload_n 3, 1) := dk_45 (dk_at dksX0_person_2 18 rfl rfl)
theorem dX0_person_71 : decode cX0_person 71 = .ok (.ifnonnull 8, 3) := dk_199 0 8 (dk_at dksX0_person_2 19 rfl rfl)
theorem dX0_person_74 : decode cX0_person 74 = .ok (.ldc 33, 2) := dk_18 33 (dk_at dksX0_person_2 22 rfl rfl)
theorem dX0_person_76 : decode cX0_person 76 = .ok (.goto 37, 3) := dk_167 0 37 (dk_at dksX0_person_3 0 rfl rfl)
theorem dX0_person_79 : decode cX0_person 79 = .ok (.aload_n 3, 1) := dk_45 (dk_at dksX0_person_3 3 rfl rfl)
theorem dX0_person_80 : decode cX0_person 80 = .ok (.invokeinterface 261 1, 5) := by decide +kernel
theorem dX0_person_85 : decode cX0_person 85 = .ok (.goto 28, 3) := dk_167 0 28 (dk_at dksX0_person_3 9 rfl rfl)
theorem dX0_person_88 : decode cX0_person 88 = .ok (.aload_n 0, 1) := dk_42 (dk_at dksX0_person_3 12 rfl rfl)
theorem dX0_person_89 : decode cX0_person 89 = .ok (.getfield 57, 3) := dk_180 0 57 (dk_at dksX0_person_3 13 rfl rfl)
theorem dX0_person_92 : decode cX0_person 92 = .ok (.getfield 223, 3) := dk_180 0 223 (dk_at dksX0_person_3 16 rfl rfl)
theorem dX0_person_95 : decode cX0_person 95 = .ok (.iload_n 1, 1) := dk_27 (dk_at dksX0_person_3 19 rfl rfl)
theorem dX0_person_96 : decode cX0_person 96 = .ok (.iaload, 1) := dk_46 (dk_at dksX0_person_3 20 rfl rfl)
theorem dX0_person_97 : decode cX0_person 97 = .ok (.goto 16, 3) := dk_167 0 16 (dk_at dksX0_person_3 21 rfl rfl)
theorem dX0_person_100 : decode cX0_person 100 = .ok (.aload_n 0, 1) := dk_42 (dk_at dksX0_person_4 0 rfl rfl)
theorem dX0_person_101 : decode cX0_person 101 = .ok (.getfield 57, 3) := dk_180 0 57 (dk_at dksX0_person_4 1 rfl rfl)
theorem dX0_person_104 : decode cX0_person 104 = .ok (.iload_n 1, 1) := dk_27 (dk_at dksX0_person_4 4 rfl rfl)
theorem dX0_person_105 : decode cX0_person 105 = .ok (.invokevirtual 264, 3) := dk_182 1 8 (dk_at dksX0_person_4 5 rfl rfl)
theorem dX0_person_108 : decode cX0_person 108 = .ok (.goto 5, 3) := dk_167 0 5 (dk_at dksX0_person_4 8 rfl rfl)
theorem dX0_person_111 : decode cX0_person 111 = .ok (.ldc 109, 2) := dk_18 109 (dk_at dksX0_person_4 11 rfl rfl)
theorem dX0_person_113 : decode cX0_person 113 = .ok (.ireturn, 1) := dk_172 (dk_at dksX0_person_4 13 rfl rfl)
abbrev cX0_contact : ByteArray := prog_1_method_33_code
def yX0_contact : MethodName := ⟨RX0, "contact", "(II)I"⟩
def dkwX0_contact_3 : List UInt8 := [42, 180, 0, 57, 180, 0, 216, 27, 46, 167, 0, 5, 18, 109, 172]
abbrev dktX0_contact_3 : List UInt8 := dkwX0_contact_3 ++ []
def dkwX0_contact_2 : List UInt8 := [42, 180, 0, 57, 180, 0, 209, 27, 46, 167, 0, 29, 42, 180, 0, 57, 180, 0, 213, 27, 46, 167, 0, 17]
abbrev dktX0_contact_2 : List UInt8 := dkwX0_contact_2 ++ dktX0_contact_3
def dkwX0_contact_1 : List UInt8 := [170, 0, 0, 0, 0, 0, 0, 64, 0, 0, 0, 0, 0, 0, 0, 2, 0, 0, 0, 28, 0, 0, 0, 40, 0, 0, 0, 52]
abbrev dktX0_contact_1 : List UInt8 := dkwX0_contact_1 ++ dktX0_contact_2
def dkwX0_contact_0 : List UInt8 := [42, 27, 182, 0, 219, 154, 0, 6, 18, 109, 172, 28]
abbrev dktX0_contact_0 : List UInt8 := dkwX0_contact_0 ++ dktX0_contact_1
theorem dksX0_contact_0 : cX0_contact.data.toList.drop 0 = dktX0_contact_0 := by decide +kernel
theorem dksX0_contact_1 : cX0_contact.data.toList.drop 12 = dktX0_contact_1 := dk_seg dksX0_contact_0 12 rfl rfl
theorem dksX0_contact_2 : cX0_contact.data.toList.drop 40 = dktX0_contact_2 := dk_seg dksX0_contact_1 28 rfl rfl
theorem dksX0_contact_3 : cX0_contact.data.toList.drop 64 = dktX0_contact_3 := dk_seg dksX0_contact_2 24 rfl rfl
theorem dX0_contact_0 : decode cX0_contact 0 = .ok (.aload_n 0, 1) := dk_42 (dk_at dksX0_contact_0 0 rfl rfl)
theorem dX0_contact_1 : decode cX0_contact 1 = .ok (.iload_n 1, 1) := dk_27 (dk_at dksX0_contact_0 1 rfl rfl)
theorem dX0_contact_2 : decode cX0_contact 2 = .ok (.invokevirtual 219, 3) := dk_182 0 219 (dk_at dksX0_contact_0 2 rfl rfl)
theorem dX0_contact_5 : decode cX0_contact 5 = .ok (.ifCond .ne 6, 3) := dk_154 0 6 (dk_at dksX0_contact_0 5 rfl rfl)
theorem dX0_contact_8 : decode cX0_contact 8 = .ok (.ldc 109, 2) := dk_18 109 (dk_at dksX0_contact_0 8 rfl rfl)
theorem dX0_contact_10 : decode cX0_contact 10 = .ok (.ireturn, 1) := dk_172 (dk_at dksX0_contact_0 10 rfl rfl)
theorem dX0_contact_11 : decode cX0_contact 11 = .ok (.iload_n 2, 1) := dk_28 (dk_at dksX0_contact_0 11 rfl rfl)
theorem dX0_contact_12 : decode cX0_contact 12 = .ok (.tableswitch 64 0 2 #[28, 40, 52], 28) := by decide +kernel
theorem dX0_contact_40 : decode cX0_contact 40 = .ok (.aload_n 0, 1) := dk_42 (dk_at dksX0_contact_2 0 rfl rfl)
theorem dX0_contact_41 : decode cX0_contact 41 = .ok (.getfield 57, 3) := dk_180 0 57 (dk_at dksX0_contact_2 1 rfl rfl)
theorem dX0_contact_44 : decode cX0_contact 44 = .ok (.getfield 209, 3) := dk_180 0 209 (dk_at dksX0_contact_2 4 rfl rfl)
theorem dX0_contact_47 : decode cX0_contact 47 = .ok (.iload_n 1, 1) := dk_27 (dk_at dksX0_contact_2 7 rfl rfl)
theorem dX0_contact_48 : decode cX0_contact 48 = .ok (.iaload, 1) := dk_46 (dk_at dksX0_contact_2 8 rfl rfl)
theorem dX0_contact_49 : decode cX0_contact 49 = .ok (.goto 29, 3) := dk_167 0 29 (dk_at dksX0_contact_2 9 rfl rfl)
theorem dX0_contact_52 : decode cX0_contact 52 = .ok (.aload_n 0, 1) := dk_42 (dk_at dksX0_contact_2 12 rfl rfl)
theorem dX0_contact_53 : decode cX0_contact 53 = .ok (.getfield 57, 3) := dk_180 0 57 (dk_at dksX0_contact_2 13 rfl rfl)
theorem dX0_contact_56 : decode cX0_contact 56 = .ok (.getfield 213, 3) := dk_180 0 213 (dk_at dksX0_contact_2 16 rfl rfl)
theorem dX0_contact_59 : decode cX0_contact 59 = .ok (.iload_n 1, 1) := dk_27 (dk_at dksX0_contact_2 19 rfl rfl)
theorem dX0_contact_60 : decode cX0_contact 60 = .ok (.iaload, 1) := dk_46 (dk_at dksX0_contact_2 20 rfl rfl)
theorem dX0_contact_61 : decode cX0_contact 61 = .ok (.goto 17, 3) := dk_167 0 17 (dk_at dksX0_contact_2 21 rfl rfl)
theorem dX0_contact_64 : decode cX0_contact 64 = .ok (.aload_n 0, 1) := dk_42 (dk_at dksX0_contact_3 0 rfl rfl)
theorem dX0_contact_65 : decode cX0_contact 65 = .ok (.getfield 57, 3) := dk_180 0 57 (dk_at dksX0_contact_3 1 rfl rfl)
theorem dX0_contact_68 : decode cX0_contact 68 = .ok (.getfield 216, 3) := dk_180 0 216 (dk_at dksX0_contact_3 4 rfl rfl)
theorem dX0_contact_71 : decode cX0_contact 71 = .ok (.iload_n 1, 1) := dk_27 (dk_at dksX0_contact_3 7 rfl rfl)
theorem dX0_contact_72 : decode cX0_contact 72 = .ok (.iaload, 1) := dk_46 (dk_at dksX0_contact_3 8 rfl rfl)
theorem dX0_contact_73 : decode cX0_contact 73 = .ok (.goto 5, 3) := dk_167 0 5 (dk_at dksX0_contact_3 9 rfl rfl)
theorem dX0_contact_76 : decode cX0_contact 76 = .ok (.ldc 109, 2) := dk_18 109 (dk_at dksX0_contact_3 12 rfl rfl)
theorem dX0_contact_78 : decode cX0_contact 78 = .ok (.ireturn, 1) := dk_172 (dk_at dksX0_contact_3 14 rfl rfl)
abbrev cX0_days : ByteArray := prog_1_method_35_code
def yX0_days : MethodName := ⟨RX0, "days", "(III)I"⟩
def dkwX0_days_1 : List UInt8 := [180, 1, 19, 29, 46, 167, 0, 5, 18, 109, 172]
abbrev dktX0_days_1 : List UInt8 := dkwX0_days_1 ++ []
def dkwX0_days_0 : List UInt8 := [42, 27, 28, 29, 182, 1, 11, 153, 0, 25, 42, 180, 0, 67, 42, 180, 0, 57, 27, 28, 3, 182, 1, 15]
abbrev dktX0_days_0 : List UInt8 := dkwX0_days_0 ++ dktX0_days_1
theorem dksX0_days_0 : cX0_days.data.toList.drop 0 = dktX0_days_0 := by decide +kernel
theorem dksX0_days_1 : cX0_days.data.toList.drop 24 = dktX0_days_1 := dk_seg dksX0_days_0 24 rfl rfl
theorem dX0_days_0 : decode cX0_days 0 = .ok (.aload_n 0, 1) := dk_42 (dk_at dksX0_days_0 0 rfl rfl)
theorem dX0_days_1 : decode cX0_days 1 = .ok (.iload_n 1, 1) := dk_27 (dk_at dksX0_days_0 1 rfl rfl)
theorem dX0_days_2 : decode cX0_days 2 = .ok (.iload_n 2, 1) := dk_28 (dk_at dksX0_days_0 2 rfl rfl)
theorem dX0_days_3 : decode cX0_days 3 = .ok (.iload_n 3, 1) := dk_29 (dk_at dksX0_days_0 3 rfl rfl)
theorem dX0_days_4 : decode cX0_days 4 = .ok (.invokevirtual 267, 3) := dk_182 1 11 (dk_at dksX0_days_0 4 rfl rfl)
theorem dX0_days_7 : decode cX0_days 7 = .ok (.ifCond .eq 25, 3) := dk_153 0 25 (dk_at dksX0_days_0 7 rfl rfl)
theorem dX0_days_10 : decode cX0_days 10 = .ok (.aload_n 0, 1) := dk_42 (dk_at dksX0_days_0 10 rfl rfl)
theorem dX0_days_11 : decode cX0_days 11 = .ok (.getfield 67, 3) := dk_180 0 67 (dk_at dksX0_days_0 11 rfl rfl)
theorem dX0_days_14 : decode cX0_days 14 = .ok (.aload_n 0, 1) := dk_42 (dk_at dksX0_days_0 14 rfl rfl)
theorem dX0_days_15 : decode cX0_days 15 = .ok (.getfield 57, 3) := dk_180 0 57 (dk_at dksX0_days_0 15 rfl rfl)
theorem dX0_days_18 : decode cX0_days 18 = .ok (.iload_n 1, 1) := dk_27 (dk_at dksX0_days_0 18 rfl rfl)
theorem dX0_days_19 : decode cX0_days 19 = .ok (.iload_n 2, 1) := dk_28 (dk_at dksX0_days_0 19 rfl rfl)
theorem dX0_days_20 : decode cX0_days 20 = .ok (.iconst 0, 1) := dk_3 (dk_at dksX0_days_0 20 rfl rfl)
theorem dX0_days_21 : decode cX0_days 21 = .ok (.invokevirtual 271, 3) := dk_182 1 15 (dk_at dksX0_days_0 21 rfl rfl)
theorem dX0_days_24 : decode cX0_days 24 = .ok (.getfield 275, 3) := dk_180 1 19 (dk_at dksX0_days_1 0 rfl rfl)
theorem dX0_days_27 : decode cX0_days 27 = .ok (.iload_n 3, 1) := dk_29 (dk_at dksX0_days_1 3 rfl rfl)
theorem dX0_days_28 : decode cX0_days 28 = .ok (.iaload, 1) := dk_46 (dk_at dksX0_days_1 4 rfl rfl)
theorem dX0_days_29 : decode cX0_days 29 = .ok (.goto 5, 3) := dk_167 0 5 (dk_at dksX0_days_1 5 rfl rfl)
theorem dX0_days_32 : decode cX0_days 32 = .ok (.ldc 109, 2) := dk_18 109 (dk_at dksX0_days_1 8 rfl rfl)
theorem dX0_days_34 : decode cX0_days 34 = .ok (.ireturn, 1) := dk_172 (dk_at dksX0_days_1 10 rfl rfl)
abbrev cX0_areSo : ByteArray := prog_1_method_34_code
def yX0_areSo : MethodName := ⟨RX0, "areSo", "(III)Z"⟩
def dkwX0_areSo_1 : List UInt8 := [167, 0, 4, 3, 172]
abbrev dktX0_areSo_1 : List UInt8 := dkwX0_areSo_1 ++ []
def dkwX0_areSo_0 : List UInt8 := [42, 27, 182, 0, 200, 153, 0, 22, 28, 184, 0, 203, 153, 0, 15, 42, 29, 182, 0, 200, 153, 0, 7, 4]
abbrev dktX0_areSo_0 : List UInt8 := dkwX0_areSo_0 ++ dktX0_areSo_1
theorem dksX0_areSo_0 : cX0_areSo.data.toList.drop 0 = dktX0_areSo_0 := by decide +kernel
theorem dksX0_areSo_1 : cX0_areSo.data.toList.drop 24 = dktX0_areSo_1 := dk_seg dksX0_areSo_0 24 rfl rfl
theorem dX0_areSo_0 : decode cX0_areSo 0 = .ok (.aload_n 0, 1) := dk_42 (dk_at dksX0_areSo_0 0 rfl rfl)
theorem dX0_areSo_1 : decode cX0_areSo 1 = .ok (.iload_n 1, 1) := dk_27 (dk_at dksX0_areSo_0 1 rfl rfl)
theorem dX0_areSo_2 : decode cX0_areSo 2 = .ok (.invokevirtual 200, 3) := dk_182 0 200 (dk_at dksX0_areSo_0 2 rfl rfl)
theorem dX0_areSo_5 : decode cX0_areSo 5 = .ok (.ifCond .eq 22, 3) := dk_153 0 22 (dk_at dksX0_areSo_0 5 rfl rfl)
theorem dX0_areSo_8 : decode cX0_areSo 8 = .ok (.iload_n 2, 1) := dk_28 (dk_at dksX0_areSo_0 8 rfl rfl)
theorem dX0_areSo_9 : decode cX0_areSo 9 = .ok (.invokestatic 203, 3) := dk_184 0 203 (dk_at dksX0_areSo_0 9 rfl rfl)
theorem dX0_areSo_12 : decode cX0_areSo 12 = .ok (.ifCond .eq 15, 3) := dk_153 0 15 (dk_at dksX0_areSo_0 12 rfl rfl)
theorem dX0_areSo_15 : decode cX0_areSo 15 = .ok (.aload_n 0, 1) := dk_42 (dk_at dksX0_areSo_0 15 rfl rfl)
theorem dX0_areSo_16 : decode cX0_areSo 16 = .ok (.iload_n 3, 1) := dk_29 (dk_at dksX0_areSo_0 16 rfl rfl)
theorem dX0_areSo_17 : decode cX0_areSo 17 = .ok (.invokevirtual 200, 3) := dk_182 0 200 (dk_at dksX0_areSo_0 17 rfl rfl)
theorem dX0_areSo_20 : decode cX0_areSo 20 = .ok (.ifCond .eq 7, 3) := dk_153 0 7 (dk_at dksX0_areSo_0 20 rfl rfl)
theorem dX0_areSo_23 : decode cX0_areSo 23 = .ok (.iconst 1, 1) := dk_4 (dk_at dksX0_areSo_0 23 rfl rfl)
theorem dX0_areSo_24 : decode cX0_areSo 24 = .ok (.goto 4, 3) := dk_167 0 4 (dk_at dksX0_areSo_1 0 rfl rfl)
theorem dX0_areSo_27 : decode cX0_areSo 27 = .ok (.iconst 0, 1) := dk_3 (dk_at dksX0_areSo_1 3 rfl rfl)
theorem dX0_areSo_28 : decode cX0_areSo 28 = .ok (.ireturn, 1) := dk_172 (dk_at dksX0_areSo_1 4 rfl rfl)
abbrev cX0_has : ByteArray := prog_1_method_2_code
def yX0_has : MethodName := ⟨RX0, "has", "(II)Z"⟩
def dkwX0_has_0 : List UInt8 := [26, 27, 122, 4, 126, 4, 160, 0, 7, 4, 167, 0, 4, 3, 172]
abbrev dktX0_has_0 : List UInt8 := dkwX0_has_0 ++ []
theorem dksX0_has_0 : cX0_has.data.toList.drop 0 = dktX0_has_0 := by decide +kernel
theorem dX0_has_0 : decode cX0_has 0 = .ok (.iload_n 0, 1) := dk_26 (dk_at dksX0_has_0 0 rfl rfl)
theorem dX0_has_1 : decode cX0_has 1 = .ok (.iload_n 1, 1) := dk_27 (dk_at dksX0_has_0 1 rfl rfl)
theorem dX0_has_2 : decode cX0_has 2 = .ok (.ishr, 1) := dk_122 (dk_at dksX0_has_0 2 rfl rfl)
theorem dX0_has_3 : decode cX0_has 3 = .ok (.iconst 1, 1) := dk_4 (dk_at dksX0_has_0 3 rfl rfl)
theorem dX0_has_4 : decode cX0_has 4 = .ok (.iand, 1) := dk_126 (dk_at dksX0_has_0 4 rfl rfl)
theorem dX0_has_5 : decode cX0_has 5 = .ok (.iconst 1, 1) := dk_4 (dk_at dksX0_has_0 5 rfl rfl)
theorem dX0_has_6 : decode cX0_has 6 = .ok (.if_icmp .ne 7, 3) := dk_160 0 7 (dk_at dksX0_has_0 6 rfl rfl)
theorem dX0_has_9 : decode cX0_has 9 = .ok (.iconst 1, 1) := dk_4 (dk_at dksX0_has_0 9 rfl rfl)
theorem dX0_has_10 : decode cX0_has 10 = .ok (.goto 4, 3) := dk_167 0 4 (dk_at dksX0_has_0 10 rfl rfl)
theorem dX0_has_13 : decode cX0_has 13 = .ok (.iconst 0, 1) := dk_3 (dk_at dksX0_has_0 13 rfl rfl)
theorem dX0_has_14 : decode cX0_has 14 = .ok (.ireturn, 1) := dk_172 (dk_at dksX0_has_0 14 rfl rfl)
abbrev cX0_givers : ByteArray := prog_1_method_36_code
def yX0_givers : MethodName := ⟨RX0, "givers", "(III)I"⟩
def dkwX0_givers_4 : List UInt8 := [167, 0, 4, 3, 128, 54, 4, 132, 5, 1, 167, 255, 185, 21, 4, 172]
abbrev dktX0_givers_4 : List UInt8 := dkwX0_givers_4 ++ []
def dkwX0_givers_3 : List UInt8 := [21, 5, 21, 6, 42, 180, 0, 67, 180, 1, 19, 21, 6, 46, 182, 1, 25, 153, 0, 10, 4, 21, 6, 120]
abbrev dktX0_givers_3 : List UInt8 := dkwX0_givers_3 ++ dktX0_givers_4
def dkwX0_givers_2 : List UInt8 := [180, 0, 57, 21, 5, 29, 182, 1, 22, 54, 6, 21, 4, 21, 6, 18, 33, 159, 0, 34, 42, 180, 0, 57]
abbrev dktX0_givers_2 : List UInt8 := dkwX0_givers_2 ++ dktX0_givers_3
def dkwX0_givers_1 : List UInt8 := [182, 1, 15, 87, 3, 54, 4, 3, 54, 5, 21, 5, 42, 180, 0, 57, 180, 0, 195, 162, 0, 65, 42]
abbrev dktX0_givers_1 : List UInt8 := dkwX0_givers_1 ++ dktX0_givers_2
def dkwX0_givers_0 : List UInt8 := [42, 27, 28, 29, 182, 1, 11, 154, 0, 6, 18, 109, 172, 42, 180, 0, 67, 42, 180, 0, 57, 27, 28, 3]
abbrev dktX0_givers_0 : List UInt8 := dkwX0_givers_0 ++ dktX0_givers_1
theorem dksX0_givers_0 : cX0_givers.data.toList.drop 0 = dktX0_givers_0 := by decide +kernel
theorem dksX0_givers_1 : cX0_givers.data.toList.drop 24 = dktX0_givers_1 := dk_seg dksX0_givers_0 24 rfl rfl
theorem dksX0_givers_2 : cX0_givers.data.toList.drop 47 = dktX0_givers_2 := dk_seg dksX0_givers_1 23 rfl rfl
theorem dksX0_givers_3 : cX0_givers.data.toList.drop 71 = dktX0_givers_3 := dk_seg dksX0_givers_2 24 rfl rfl
theorem dksX0_givers_4 : cX0_givers.data.toList.drop 95 = dktX0_givers_4 := dk_seg dksX0_givers_3 24 rfl rfl
theorem dX0_givers_0 : decode cX0_givers 0 = .ok (.aload_n 0, 1) := dk_42 (dk_at dksX0_givers_0 0 rfl rfl)
theorem dX0_givers_1 : decode cX0_givers 1 = .ok (.iload_n 1, 1) := dk_27 (dk_at dksX0_givers_0 1 rfl rfl)
theorem dX0_givers_2 : decode cX0_givers 2 = .ok (.iload_n 2, 1) := dk_28 (dk_at dksX0_givers_0 2 rfl rfl)
theorem dX0_givers_3 : decode cX0_givers 3 = .ok (.iload_n 3, 1) := dk_29 (dk_at dksX0_givers_0 3 rfl rfl)
theorem dX0_givers_4 : decode cX0_givers 4 = .ok (.invokevirtual 267, 3) := dk_182 1 11 (dk_at dksX0_givers_0 4 rfl rfl)
theorem dX0_givers_7 : decode cX0_givers 7 = .ok (.ifCond .ne 6, 3) := dk_154 0 6 (dk_at dksX0_givers_0 7 rfl rfl)
theorem dX0_givers_10 : decode cX0_givers 10 = .ok (.ldc 109, 2) := dk_18 109 (dk_at dksX0_givers_0 10 rfl rfl)
theorem dX0_givers_12 : decode cX0_givers 12 = .ok (.ireturn, 1) := dk_172 (dk_at dksX0_givers_0 12 rfl rfl)
theorem dX0_givers_13 : decode cX0_givers 13 = .ok (.aload_n 0, 1) := dk_42 (dk_at dksX0_givers_0 13 rfl rfl)
theorem dX0_givers_14 : decode cX0_givers 14 = .ok (.getfield 67, 3) := dk_180 0 67 (dk_at dksX0_givers_0 14 rfl rfl)
theorem dX0_givers_17 : decode cX0_givers 17 = .ok (.aload_n 0, 1) := dk_42 (dk_at dksX0_givers_0 17 rfl rfl)
theorem dX0_givers_18 : decode cX0_givers 18 = .ok (.getfield 57, 3) := dk_180 0 57 (dk_at dksX0_givers_0 18 rfl rfl)
theorem dX0_givers_21 : decode cX0_givers 21 = .ok (.iload_n 1, 1) := dk_27 (dk_at dksX0_givers_0 21 rfl rfl)
theorem dX0_givers_22 : decode cX0_givers 22 = .ok (.iload_n 2, 1) := dk_28 (dk_at dksX0_givers_0 22 rfl rfl)
theorem dX0_givers_23 : decode cX0_givers 23 = .ok (.iconst 0, 1) := dk_3 (dk_at dksX0_givers_0 23 rfl rfl)
theorem dX0_givers_24 : decode cX0_givers 24 = .ok (.invokevirtual 271, 3) := dk_182 1 15 (dk_at dksX0_givers_1 0 rfl rfl)
theorem dX0_givers_27 : decode cX0_givers 27 = .ok (.pop, 1) := dk_87 (dk_at dksX0_givers_1 3 rfl rfl)
theorem dX0_givers_28 : decode cX0_givers 28 = .ok (.iconst 0, 1) := dk_3 (dk_at dksX0_givers_1 4 rfl rfl)
theorem dX0_givers_29 : decode cX0_givers 29 = .ok (.istore 4, 2) := dk_54 4 (dk_at dksX0_givers_1 5 rfl rfl)
theorem dX0_givers_31 : decode cX0_givers 31 = .ok (.iconst 0, 1) := dk_3 (dk_at dksX0_givers_1 7 rfl rfl)
theorem dX0_givers_32 : decode cX0_givers 32 = .ok (.istore 5, 2) := dk_54 5 (dk_at dksX0_givers_1 8 rfl rfl)
theorem dX0_givers_34 : decode cX0_givers 34 = .ok (.iload 5, 2) := dk_21 5 (dk_at dksX0_givers_1 10 rfl rfl)
theorem dX0_givers_36 : decode cX0_givers 36 = .ok (.aload_n 0, 1) := dk_42 (dk_at dksX0_givers_1 12 rfl rfl)
theorem dX0_givers_37 : decode cX0_givers 37 = .ok (.getfield 57, 3) := dk_180 0 57 (dk_at dksX0_givers_1 13 rfl rfl)
theorem dX0_givers_40 : decode cX0_givers 40 = .ok (.getfield 195, 3) := dk_180 0 195 (dk_at dksX0_givers_1 16 rfl rfl)
theorem dX0_givers_43 : decode cX0_givers 43 = .ok (.if_icmp .ge 65, 3) := dk_162 0 65 (dk_at dksX0_givers_1 19 rfl rfl)
theorem dX0_givers_46 : decode cX0_givers 46 = .ok (.aload_n 0, 1) := dk_42 (dk_at dksX0_givers_1 22 rfl rfl)
theorem dX0_givers_47 : decode cX0_givers 47 = .ok (.getfield 57, 3) := dk_180 0 57 (dk_at dksX0_givers_2 0 rfl rfl)
theorem dX0_givers_50 : decode cX0_givers 50 = .ok (.iload 5, 2) := dk_21 5 (dk_at dksX0_givers_2 3 rfl rfl)
theorem dX0_givers_52 : decode cX0_givers 52 = .ok (.iload_n 3, 1) := dk_29 (dk_at dksX0_givers_2 5 rfl rfl)
theorem dX0_givers_53 : decode cX0_givers 53 = .ok (.invokevirtual 278, 3) := dk_182 1 22 (dk_at dksX0_givers_2 6 rfl rfl)
theorem dX0_givers_56 : decode cX0_givers 56 = .ok (.istore 6, 2) := dk_54 6 (dk_at dksX0_givers_2 9 rfl rfl)
theorem dX0_givers_58 : decode cX0_givers 58 = .ok (.iload 4, 2) := dk_21 4 (dk_at dksX0_givers_2 11 rfl rfl)
theorem dX0_givers_60 : decode cX0_givers 60 = .ok (.iload 6, 2) := dk_21 6 (dk_at dksX0_givers_2 13 rfl rfl)
theorem dX0_givers_62 : decode cX0_givers 62 = .ok (.ldc 33, 2) := dk_18 33 (dk_at dksX0_givers_2 15 rfl rfl)
theorem dX0_givers_64 : decode cX0_givers 64 = .ok (.if_icmp .eq 34, 3) := dk_159 0 34 (dk_at dksX0_givers_2 17 rfl rfl)
theorem dX0_givers_67 : decode cX0_givers 67 = .ok (.aload_n 0, 1) := dk_42 (dk_at dksX0_givers_2 20 rfl rfl)
theorem dX0_givers_68 : decode cX0_givers 68 = .ok (.getfield 57, 3) := dk_180 0 57 (dk_at dksX0_givers_2 21 rfl rfl)
theorem dX0_givers_71 : decode cX0_givers 71 = .ok (.iload 5, 2) := dk_21 5 (dk_at dksX0_givers_3 0 rfl rfl)
theorem dX0_givers_73 : decode cX0_givers 73 = .ok (.iload 6, 2) := dk_21 6 (dk_at dksX0_givers_3 2 rfl rfl)
theorem dX0_givers_75 : decode cX0_givers 75 = .ok (.aload_n 0, 1) := dk_42 (dk_at dksX0_givers_3 4 rfl rfl)
theorem dX0_givers_76 : decode cX0_givers 76 = .ok (.getfield 67, 3) := dk_180 0 67 (dk_at dksX0_givers_3 5 rfl rfl)
theorem dX0_givers_79 : decode cX0_givers 79 = .ok (.getfield 275, 3) := dk_180 1 19 (dk_at dksX0_givers_3 8 rfl rfl)
theorem dX0_givers_82 : decode cX0_givers 82 = .ok (.iload 6, 2) := dk_21 6 (dk_at dksX0_givers_3 11 rfl rfl)
theorem dX0_givers_84 : decode cX0_givers 84 = .ok (.iaload, 1) := dk_46 (dk_at dksX0_givers_3 13 rfl rfl)
theorem dX0_givers_85 : decode cX0_givers 85 = .ok (.invokevirtual 281, 3) := dk_182 1 25 (dk_at dksX0_givers_3 14 rfl rfl)
theorem dX0_givers_88 : decode cX0_givers 88 = .ok (.ifCond .eq 10, 3) := dk_153 0 10 (dk_at dksX0_givers_3 17 rfl rfl)
theorem dX0_givers_91 : decode cX0_givers 91 = .ok (.iconst 1, 1) := dk_4 (dk_at dksX0_givers_3 20 rfl rfl)
theorem dX0_givers_92 : decode cX0_givers 92 = .ok (.iload 6, 2) := dk_21 6 (dk_at dksX0_givers_3 21 rfl rfl)
theorem dX0_givers_94 : decode cX0_givers 94 = .ok (.ishl, 1) := dk_120 (dk_at dksX0_givers_3 23 rfl rfl)
theorem dX0_givers_95 : decode cX0_givers 95 = .ok (.goto 4, 3) := dk_167 0 4 (dk_at dksX0_givers_4 0 rfl rfl)
theorem dX0_givers_98 : decode cX0_givers 98 = .ok (.iconst 0, 1) := dk_3 (dk_at dksX0_givers_4 3 rfl rfl)
theorem dX0_givers_99 : decode cX0_givers 99 = .ok (.ior, 1) := dk_128 (dk_at dksX0_givers_4 4 rfl rfl)
theorem dX0_givers_100 : decode cX0_givers 100 = .ok (.istore 4, 2) := dk_54 4 (dk_at dksX0_givers_4 5 rfl rfl)
theorem dX0_givers_102 : decode cX0_givers 102 = .ok (.iinc 5 1, 3) := dk_132 5 1 (dk_at dksX0_givers_4 7 rfl rfl)
theorem dX0_givers_105 : decode cX0_givers 105 = .ok (.goto (-71), 3) := dk_167 255 185 (dk_at dksX0_givers_4 10 rfl rfl)
theorem dX0_givers_108 : decode cX0_givers 108 = .ok (.iload 4, 2) := dk_21 4 (dk_at dksX0_givers_4 13 rfl rfl)
theorem dX0_givers_110 : decode cX0_givers 110 = .ok (.ireturn, 1) := dk_172 (dk_at dksX0_givers_4 15 rfl rfl)
abbrev cX0_chain : ByteArray := prog_1_method_37_code
def yX0_chain : MethodName := ⟨RX0, "chain", "(IIII)I"⟩
def dkwX0_chain_3 : List UInt8 := [180, 0, 74, 180, 1, 34, 21, 4, 46, 167, 0, 5, 18, 33, 172]
abbrev dktX0_chain_3 : List UInt8 := dkwX0_chain_3 ++ []
def dkwX0_chain_2 : List UInt8 := [180, 0, 74, 180, 1, 32, 167, 0, 30, 21, 4, 42, 180, 0, 74, 180, 1, 32, 162, 0, 16, 42]
abbrev dktX0_chain_2 : List UInt8 := dkwX0_chain_2 ++ dktX0_chain_3
def dkwX0_chain_1 : List UInt8 := [180, 0, 57, 27, 28, 29, 182, 1, 28, 154, 0, 6, 18, 33, 172, 21, 4, 2, 160, 0, 13, 42]
abbrev dktX0_chain_1 : List UInt8 := dkwX0_chain_1 ++ dktX0_chain_2
def dkwX0_chain_0 : List UInt8 := [42, 27, 28, 29, 182, 1, 11, 153, 0, 9, 21, 4, 2, 162, 0, 6, 18, 109, 172, 42, 180, 0, 74, 42]
abbrev dktX0_chain_0 : List UInt8 := dkwX0_chain_0 ++ dktX0_chain_1
theorem dksX0_chain_0 : cX0_chain.data.toList.drop 0 = dktX0_chain_0 := by decide +kernel
theorem dksX0_chain_1 : cX0_chain.data.toList.drop 24 = dktX0_chain_1 := dk_seg dksX0_chain_0 24 rfl rfl
theorem dksX0_chain_2 : cX0_chain.data.toList.drop 46 = dktX0_chain_2 := dk_seg dksX0_chain_1 22 rfl rfl
theorem dksX0_chain_3 : cX0_chain.data.toList.drop 68 = dktX0_chain_3 := dk_seg dksX0_chain_2 22 rfl rfl
theorem dX0_chain_0 : decode cX0_chain 0 = .ok (.aload_n 0, 1) := dk_42 (dk_at dksX0_chain_0 0 rfl rfl)
theorem dX0_chain_1 : decode cX0_chain 1 = .ok (.iload_n 1, 1) := dk_27 (dk_at dksX0_chain_0 1 rfl rfl)
theorem dX0_chain_2 : decode cX0_chain 2 = .ok (.iload_n 2, 1) := dk_28 (dk_at dksX0_chain_0 2 rfl rfl)
theorem dX0_chain_3 : decode cX0_chain 3 = .ok (.iload_n 3, 1) := dk_29 (dk_at dksX0_chain_0 3 rfl rfl)
theorem dX0_chain_4 : decode cX0_chain 4 = .ok (.invokevirtual 267, 3) := dk_182 1 11 (dk_at dksX0_chain_0 4 rfl rfl)
theorem dX0_chain_7 : decode cX0_chain 7 = .ok (.ifCond .eq 9, 3) := dk_153 0 9 (dk_at dksX0_chain_0 7 rfl rfl)
theorem dX0_chain_10 : decode cX0_chain 10 = .ok (.iload 4, 2) := dk_21 4 (dk_at dksX0_chain_0 10 rfl rfl)
theorem dX0_chain_12 : decode cX0_chain 12 = .ok (.iconst (-1), 1) := dk_2 (dk_at dksX0_chain_0 12 rfl rfl)
theorem dX0_chain_13 : decode cX0_chain 13 = .ok (.if_icmp .ge 6, 3) := dk_162 0 6 (dk_at dksX0_chain_0 13 rfl rfl)
theorem dX0_chain_16 : decode cX0_chain 16 = .ok (.ldc 109, 2) := dk_18 109 (dk_at dksX0_chain_0 16 rfl rfl)
theorem dX0_chain_18 : decode cX0_chain 18 = .ok (.ireturn, 1) := dk_172 (dk_at dksX0_chain_0 18 rfl rfl)
theorem dX0_chain_19 : decode cX0_chain 19 = .ok (.aload_n 0, 1) := dk_42 (dk_at dksX0_chain_0 19 rfl rfl)
theorem dX0_chain_20 : decode cX0_chain 20 = .ok (.getfield 74, 3) := dk_180 0 74 (dk_at dksX0_chain_0 20 rfl rfl)
theorem dX0_chain_23 : decode cX0_chain 23 = .ok (.aload_n 0, 1) := dk_42 (dk_at dksX0_chain_0 23 rfl rfl)
theorem dX0_chain_24 : decode cX0_chain 24 = .ok (.getfield 57, 3) := dk_180 0 57 (dk_at dksX0_chain_1 0 rfl rfl)
theorem dX0_chain_27 : decode cX0_chain 27 = .ok (.iload_n 1, 1) := dk_27 (dk_at dksX0_chain_1 3 rfl rfl)
theorem dX0_chain_28 : decode cX0_chain 28 = .ok (.iload_n 2, 1) := dk_28 (dk_at dksX0_chain_1 4 rfl rfl)
theorem dX0_chain_29 : decode cX0_chain 29 = .ok (.iload_n 3, 1) := dk_29 (dk_at dksX0_chain_1 5 rfl rfl)
theorem dX0_chain_30 : decode cX0_chain 30 = .ok (.invokevirtual 284, 3) := dk_182 1 28 (dk_at dksX0_chain_1 6 rfl rfl)
theorem dX0_chain_33 : decode cX0_chain 33 = .ok (.ifCond .ne 6, 3) := dk_154 0 6 (dk_at dksX0_chain_1 9 rfl rfl)
theorem dX0_chain_36 : decode cX0_chain 36 = .ok (.ldc 33, 2) := dk_18 33 (dk_at dksX0_chain_1 12 rfl rfl)
theorem dX0_chain_38 : decode cX0_chain 38 = .ok (.ireturn, 1) := dk_172 (dk_at dksX0_chain_1 14 rfl rfl)
theorem dX0_chain_39 : decode cX0_chain 39 = .ok (.iload 4, 2) := dk_21 4 (dk_at dksX0_chain_1 15 rfl rfl)
theorem dX0_chain_41 : decode cX0_chain 41 = .ok (.iconst (-1), 1) := dk_2 (dk_at dksX0_chain_1 17 rfl rfl)
theorem dX0_chain_42 : decode cX0_chain 42 = .ok (.if_icmp .ne 13, 3) := dk_160 0 13 (dk_at dksX0_chain_1 18 rfl rfl)
theorem dX0_chain_45 : decode cX0_chain 45 = .ok (.aload_n 0, 1) := dk_42 (dk_at dksX0_chain_1 21 rfl rfl)
theorem dX0_chain_46 : decode cX0_chain 46 = .ok (.getfield 74, 3) := dk_180 0 74 (dk_at dksX0_chain_2 0 rfl rfl)
theorem dX0_chain_49 : decode cX0_chain 49 = .ok (.getfield 288, 3) := dk_180 1 32 (dk_at dksX0_chain_2 3 rfl rfl)
theorem dX0_chain_52 : decode cX0_chain 52 = .ok (.goto 30, 3) := dk_167 0 30 (dk_at dksX0_chain_2 6 rfl rfl)
theorem dX0_chain_55 : decode cX0_chain 55 = .ok (.iload 4, 2) := dk_21 4 (dk_at dksX0_chain_2 9 rfl rfl)
theorem dX0_chain_57 : decode cX0_chain 57 = .ok (.aload_n 0, 1) := dk_42 (dk_at dksX0_chain_2 11 rfl rfl)
theorem dX0_chain_58 : decode cX0_chain 58 = .ok (.getfield 74, 3) := dk_180 0 74 (dk_at dksX0_chain_2 12 rfl rfl)
theorem dX0_chain_61 : decode cX0_chain 61 = .ok (.getfield 288, 3) := dk_180 1 32 (dk_at dksX0_chain_2 15 rfl rfl)
theorem dX0_chain_64 : decode cX0_chain 64 = .ok (.if_icmp .ge 16, 3) := dk_162 0 16 (dk_at dksX0_chain_2 18 rfl rfl)
theorem dX0_chain_67 : decode cX0_chain 67 = .ok (.aload_n 0, 1) := dk_42 (dk_at dksX0_chain_2 21 rfl rfl)
theorem dX0_chain_68 : decode cX0_chain 68 = .ok (.getfield 74, 3) := dk_180 0 74 (dk_at dksX0_chain_3 0 rfl rfl)
theorem dX0_chain_71 : decode cX0_chain 71 = .ok (.getfield 290, 3) := dk_180 1 34 (dk_at dksX0_chain_3 3 rfl rfl)
theorem dX0_chain_74 : decode cX0_chain 74 = .ok (.iload 4, 2) := dk_21 4 (dk_at dksX0_chain_3 6 rfl rfl)
theorem dX0_chain_76 : decode cX0_chain 76 = .ok (.iaload, 1) := dk_46 (dk_at dksX0_chain_3 8 rfl rfl)
theorem dX0_chain_77 : decode cX0_chain 77 = .ok (.goto 5, 3) := dk_167 0 5 (dk_at dksX0_chain_3 9 rfl rfl)
theorem dX0_chain_80 : decode cX0_chain 80 = .ok (.ldc 33, 2) := dk_18 33 (dk_at dksX0_chain_3 12 rfl rfl)
theorem dX0_chain_82 : decode cX0_chain 82 = .ok (.ireturn, 1) := dk_172 (dk_at dksX0_chain_3 14 rfl rfl)
abbrev cX0_written : ByteArray := prog_1_method_38_code
def yX0_written : MethodName := ⟨RX0, "written", "(IIII)I"⟩
def dkwX0_written_2 : List UInt8 := [21, 4, 184, 1, 41, 167, 0, 5, 18, 33, 172]
abbrev dktX0_written_2 : List UInt8 := dkwX0_written_2 ++ []
def dkwX0_written_1 : List UInt8 := [180, 0, 57, 27, 28, 29, 182, 1, 28, 153, 0, 23, 42, 180, 0, 74, 42, 180, 0, 57, 27, 182, 1, 37]
abbrev dktX0_written_1 : List UInt8 := dkwX0_written_1 ++ dktX0_written_2
def dkwX0_written_0 : List UInt8 := [42, 27, 28, 29, 182, 1, 11, 153, 0, 9, 21, 4, 2, 162, 0, 6, 18, 109, 172, 42, 180, 0, 74, 42]
abbrev dktX0_written_0 : List UInt8 := dkwX0_written_0 ++ dktX0_written_1
theorem dksX0_written_0 : cX0_written.data.toList.drop 0 = dktX0_written_0 := by decide +kernel
theorem dksX0_written_1 : cX0_written.data.toList.drop 24 = dktX0_written_1 := dk_seg dksX0_written_0 24 rfl rfl
theorem dksX0_written_2 : cX0_written.data.toList.drop 48 = dktX0_written_2 := dk_seg dksX0_written_1 24 rfl rfl
theorem dX0_written_0 : decode cX0_written 0 = .ok (.aload_n 0, 1) := dk_42 (dk_at dksX0_written_0 0 rfl rfl)
theorem dX0_written_1 : decode cX0_written 1 = .ok (.iload_n 1, 1) := dk_27 (dk_at dksX0_written_0 1 rfl rfl)
theorem dX0_written_2 : decode cX0_written 2 = .ok (.iload_n 2, 1) := dk_28 (dk_at dksX0_written_0 2 rfl rfl)
theorem dX0_written_3 : decode cX0_written 3 = .ok (.iload_n 3, 1) := dk_29 (dk_at dksX0_written_0 3 rfl rfl)
theorem dX0_written_4 : decode cX0_written 4 = .ok (.invokevirtual 267, 3) := dk_182 1 11 (dk_at dksX0_written_0 4 rfl rfl)
theorem dX0_written_7 : decode cX0_written 7 = .ok (.ifCond .eq 9, 3) := dk_153 0 9 (dk_at dksX0_written_0 7 rfl rfl)
theorem dX0_written_10 : decode cX0_written 10 = .ok (.iload 4, 2) := dk_21 4 (dk_at dksX0_written_0 10 rfl rfl)
theorem dX0_written_12 : decode cX0_written 12 = .ok (.iconst (-1), 1) := dk_2 (dk_at dksX0_written_0 12 rfl rfl)
theorem dX0_written_13 : decode cX0_written 13 = .ok (.if_icmp .ge 6, 3) := dk_162 0 6 (dk_at dksX0_written_0 13 rfl rfl)
theorem dX0_written_16 : decode cX0_written 16 = .ok (.ldc 109, 2) := dk_18 109 (dk_at dksX0_written_0 16 rfl rfl)
theorem dX0_written_18 : decode cX0_written 18 = .ok (.ireturn, 1) := dk_172 (dk_at dksX0_written_0 18 rfl rfl)
theorem dX0_written_19 : decode cX0_written 19 = .ok (.aload_n 0, 1) := dk_42 (dk_at dksX0_written_0 19 rfl rfl)
theorem dX0_written_20 : decode cX0_written 20 = .ok (.getfield 74, 3) := dk_180 0 74 (dk_at dksX0_written_0 20 rfl rfl)
theorem dX0_written_23 : decode cX0_written 23 = .ok (.aload_n 0, 1) := dk_42 (dk_at dksX0_written_0 23 rfl rfl)
theorem dX0_written_24 : decode cX0_written 24 = .ok (.getfield 57, 3) := dk_180 0 57 (dk_at dksX0_written_1 0 rfl rfl)
theorem dX0_written_27 : decode cX0_written 27 = .ok (.iload_n 1, 1) := dk_27 (dk_at dksX0_written_1 3 rfl rfl)
theorem dX0_written_28 : decode cX0_written 28 = .ok (.iload_n 2, 1) := dk_28 (dk_at dksX0_written_1 4 rfl rfl)
theorem dX0_written_29 : decode cX0_written 29 = .ok (.iload_n 3, 1) := dk_29 (dk_at dksX0_written_1 5 rfl rfl)
theorem dX0_written_30 : decode cX0_written 30 = .ok (.invokevirtual 284, 3) := dk_182 1 28 (dk_at dksX0_written_1 6 rfl rfl)
theorem dX0_written_33 : decode cX0_written 33 = .ok (.ifCond .eq 23, 3) := dk_153 0 23 (dk_at dksX0_written_1 9 rfl rfl)
theorem dX0_written_36 : decode cX0_written 36 = .ok (.aload_n 0, 1) := dk_42 (dk_at dksX0_written_1 12 rfl rfl)
theorem dX0_written_37 : decode cX0_written 37 = .ok (.getfield 74, 3) := dk_180 0 74 (dk_at dksX0_written_1 13 rfl rfl)
theorem dX0_written_40 : decode cX0_written 40 = .ok (.aload_n 0, 1) := dk_42 (dk_at dksX0_written_1 16 rfl rfl)
theorem dX0_written_41 : decode cX0_written 41 = .ok (.getfield 57, 3) := dk_180 0 57 (dk_at dksX0_written_1 17 rfl rfl)
theorem dX0_written_44 : decode cX0_written 44 = .ok (.iload_n 1, 1) := dk_27 (dk_at dksX0_written_1 20 rfl rfl)
theorem dX0_written_45 : decode cX0_written 45 = .ok (.invokevirtual 293, 3) := dk_182 1 37 (dk_at dksX0_written_1 21 rfl rfl)
theorem dX0_written_48 : decode cX0_written 48 = .ok (.iload 4, 2) := dk_21 4 (dk_at dksX0_written_2 0 rfl rfl)
theorem dX0_written_50 : decode cX0_written 50 = .ok (.invokestatic 297, 3) := dk_184 1 41 (dk_at dksX0_written_2 2 rfl rfl)
theorem dX0_written_53 : decode cX0_written 53 = .ok (.goto 5, 3) := dk_167 0 5 (dk_at dksX0_written_2 5 rfl rfl)
theorem dX0_written_56 : decode cX0_written 56 = .ok (.ldc 33, 2) := dk_18 33 (dk_at dksX0_written_2 8 rfl rfl)
theorem dX0_written_58 : decode cX0_written 58 = .ok (.ireturn, 1) := dk_172 (dk_at dksX0_written_2 10 rfl rfl)
abbrev cX0_signOf : ByteArray := prog_1_method_5_code
def yX0_signOf : MethodName := ⟨RX0, "signOf", "(Ljava/lang/CharSequence;I)I"⟩
def dkwX0_signOf_1 : List UInt8 := [42, 27, 185, 0, 27, 2, 0, 167, 0, 5, 18, 33, 172]
abbrev dktX0_signOf_1 : List UInt8 := dkwX0_signOf_1 ++ []
def dkwX0_signOf_0 : List UInt8 := [27, 2, 160, 0, 12, 42, 185, 0, 21, 1, 0, 167, 0, 25, 27, 42, 185, 0, 21, 1, 0, 162, 0, 13]
abbrev dktX0_signOf_0 : List UInt8 := dkwX0_signOf_0 ++ dktX0_signOf_1
theorem dksX0_signOf_0 : cX0_signOf.data.toList.drop 0 = dktX0_signOf_0 := by decide +kernel
theorem dksX0_signOf_1 : cX0_signOf.data.toList.drop 24 = dktX0_signOf_1 := dk_seg dksX0_signOf_0 24 rfl rfl
theorem dX0_signOf_0 : decode cX0_signOf 0 = .ok (.iload_n 1, 1) := dk_27 (dk_at dksX0_signOf_0 0 rfl rfl)
theorem dX0_signOf_1 : decode cX0_signOf 1 = .ok (.iconst (-1), 1) := dk_2 (dk_at dksX0_signOf_0 1 rfl rfl)
theorem dX0_signOf_2 : decode cX0_signOf 2 = .ok (.if_icmp .ne 12, 3) := dk_160 0 12 (dk_at dksX0_signOf_0 2 rfl rfl)
theorem dX0_signOf_5 : decode cX0_signOf 5 = .ok (.aload_n 0, 1) := dk_42 (dk_at dksX0_signOf_0 5 rfl rfl)
theorem dX0_signOf_6 : decode cX0_signOf 6 = .ok (.invokeinterface 21 1, 5) := by decide +kernel
theorem dX0_signOf_11 : decode cX0_signOf 11 = .ok (.goto 25, 3) := dk_167 0 25 (dk_at dksX0_signOf_0 11 rfl rfl)
theorem dX0_signOf_14 : decode cX0_signOf 14 = .ok (.iload_n 1, 1) := dk_27 (dk_at dksX0_signOf_0 14 rfl rfl)
theorem dX0_signOf_15 : decode cX0_signOf 15 = .ok (.aload_n 0, 1) := dk_42 (dk_at dksX0_signOf_0 15 rfl rfl)
theorem dX0_signOf_16 : decode cX0_signOf 16 = .ok (.invokeinterface 21 1, 5) := by decide +kernel
theorem dX0_signOf_21 : decode cX0_signOf 21 = .ok (.if_icmp .ge 13, 3) := dk_162 0 13 (dk_at dksX0_signOf_0 21 rfl rfl)
theorem dX0_signOf_24 : decode cX0_signOf 24 = .ok (.aload_n 0, 1) := dk_42 (dk_at dksX0_signOf_1 0 rfl rfl)
theorem dX0_signOf_25 : decode cX0_signOf 25 = .ok (.iload_n 1, 1) := dk_27 (dk_at dksX0_signOf_1 1 rfl rfl)
theorem dX0_signOf_26 : decode cX0_signOf 26 = .ok (.invokeinterface 27 2, 5) := by decide +kernel
theorem dX0_signOf_31 : decode cX0_signOf 31 = .ok (.goto 5, 3) := dk_167 0 5 (dk_at dksX0_signOf_1 7 rfl rfl)
theorem dX0_signOf_34 : decode cX0_signOf 34 = .ok (.ldc 33, 2) := dk_18 33 (dk_at dksX0_signOf_1 10 rfl rfl)
theorem dX0_signOf_36 : decode cX0_signOf 36 = .ok (.ireturn, 1) := dk_172 (dk_at dksX0_signOf_1 12 rfl rfl)
abbrev cX0_accounts : ByteArray := prog_1_method_41_code
def yX0_accounts : MethodName := ⟨RX0, "accounts", "(I)I"⟩
def dkwX0_accounts_0 : List UInt8 := [42, 27, 182, 0, 200, 153, 0, 11, 42, 27, 182, 1, 51, 167, 0, 5, 18, 109, 172]
abbrev dktX0_accounts_0 : List UInt8 := dkwX0_accounts_0 ++ []
theorem dksX0_accounts_0 : cX0_accounts.data.toList.drop 0 = dktX0_accounts_0 := by decide +kernel
theorem dX0_accounts_0 : decode cX0_accounts 0 = .ok (.aload_n 0, 1) := dk_42 (dk_at dksX0_accounts_0 0 rfl rfl)
theorem dX0_accounts_1 : decode cX0_accounts 1 = .ok (.iload_n 1, 1) := dk_27 (dk_at dksX0_accounts_0 1 rfl rfl)
theorem dX0_accounts_2 : decode cX0_accounts 2 = .ok (.invokevirtual 200, 3) := dk_182 0 200 (dk_at dksX0_accounts_0 2 rfl rfl)
theorem dX0_accounts_5 : decode cX0_accounts 5 = .ok (.ifCond .eq 11, 3) := dk_153 0 11 (dk_at dksX0_accounts_0 5 rfl rfl)
theorem dX0_accounts_8 : decode cX0_accounts 8 = .ok (.aload_n 0, 1) := dk_42 (dk_at dksX0_accounts_0 8 rfl rfl)
theorem dX0_accounts_9 : decode cX0_accounts 9 = .ok (.iload_n 1, 1) := dk_27 (dk_at dksX0_accounts_0 9 rfl rfl)
theorem dX0_accounts_10 : decode cX0_accounts 10 = .ok (.invokevirtual 307, 3) := dk_182 1 51 (dk_at dksX0_accounts_0 10 rfl rfl)
theorem dX0_accounts_13 : decode cX0_accounts 13 = .ok (.goto 5, 3) := dk_167 0 5 (dk_at dksX0_accounts_0 13 rfl rfl)
theorem dX0_accounts_16 : decode cX0_accounts 16 = .ok (.ldc 109, 2) := dk_18 109 (dk_at dksX0_accounts_0 16 rfl rfl)
theorem dX0_accounts_18 : decode cX0_accounts 18 = .ok (.ireturn, 1) := dk_172 (dk_at dksX0_accounts_0 18 rfl rfl)
abbrev cX0_accountsOf : ByteArray := prog_1_method_40_code
def yX0_accountsOf : MethodName := ⟨RX0, "accountsOf", "(I)I"⟩
def dkwX0_accountsOf_2 : List UInt8 := [28, 172]
abbrev dktX0_accountsOf_2 : List UInt8 := dkwX0_accountsOf_2 ++ []
def dkwX0_accountsOf_1 : List UInt8 := [87, 28, 42, 182, 1, 48, 153, 0, 9, 4, 29, 120, 167, 0, 4, 3, 128, 61, 132, 3, 1, 167, 255, 215]
abbrev dktX0_accountsOf_1 : List UInt8 := dkwX0_accountsOf_1 ++ dktX0_accountsOf_2
def dkwX0_accountsOf_0 : List UInt8 := [3, 61, 3, 62, 29, 16, 31, 162, 0, 41, 42, 180, 0, 67, 42, 180, 0, 57, 27, 29, 3, 182, 1, 15]
abbrev dktX0_accountsOf_0 : List UInt8 := dkwX0_accountsOf_0 ++ dktX0_accountsOf_1
theorem dksX0_accountsOf_0 : cX0_accountsOf.data.toList.drop 0 = dktX0_accountsOf_0 := by decide +kernel
theorem dksX0_accountsOf_1 : cX0_accountsOf.data.toList.drop 24 = dktX0_accountsOf_1 := dk_seg dksX0_accountsOf_0 24 rfl rfl
theorem dksX0_accountsOf_2 : cX0_accountsOf.data.toList.drop 48 = dktX0_accountsOf_2 := dk_seg dksX0_accountsOf_1 24 rfl rfl
theorem dX0_accountsOf_0 : decode cX0_accountsOf 0 = .ok (.iconst 0, 1) := dk_3 (dk_at dksX0_accountsOf_0 0 rfl rfl)
theorem dX0_accountsOf_1 : decode cX0_accountsOf 1 = .ok (.istore_n 2, 1) := dk_61 (dk_at dksX0_accountsOf_0 1 rfl rfl)
theorem dX0_accountsOf_2 : decode cX0_accountsOf 2 = .ok (.iconst 0, 1) := dk_3 (dk_at dksX0_accountsOf_0 2 rfl rfl)
theorem dX0_accountsOf_3 : decode cX0_accountsOf 3 = .ok (.istore_n 3, 1) := dk_62 (dk_at dksX0_accountsOf_0 3 rfl rfl)
theorem dX0_accountsOf_4 : decode cX0_accountsOf 4 = .ok (.iload_n 3, 1) := dk_29 (dk_at dksX0_accountsOf_0 4 rfl rfl)
theorem dX0_accountsOf_5 : decode cX0_accountsOf 5 = .ok (.bipush 31, 2) := dk_16 31 (dk_at dksX0_accountsOf_0 5 rfl rfl)
theorem dX0_accountsOf_7 : decode cX0_accountsOf 7 = .ok (.if_icmp .ge 41, 3) := dk_162 0 41 (dk_at dksX0_accountsOf_0 7 rfl rfl)
theorem dX0_accountsOf_10 : decode cX0_accountsOf 10 = .ok (.aload_n 0, 1) := dk_42 (dk_at dksX0_accountsOf_0 10 rfl rfl)
theorem dX0_accountsOf_11 : decode cX0_accountsOf 11 = .ok (.getfield 67, 3) := dk_180 0 67 (dk_at dksX0_accountsOf_0 11 rfl rfl)
theorem dX0_accountsOf_14 : decode cX0_accountsOf 14 = .ok (.aload_n 0, 1) := dk_42 (dk_at dksX0_accountsOf_0 14 rfl rfl)
theorem dX0_accountsOf_15 : decode cX0_accountsOf 15 = .ok (.getfield 57, 3) := dk_180 0 57 (dk_at dksX0_accountsOf_0 15 rfl rfl)
theorem dX0_accountsOf_18 : decode cX0_accountsOf 18 = .ok (.iload_n 1, 1) := dk_27 (dk_at dksX0_accountsOf_0 18 rfl rfl)
theorem dX0_accountsOf_19 : decode cX0_accountsOf 19 = .ok (.iload_n 3, 1) := dk_29 (dk_at dksX0_accountsOf_0 19 rfl rfl)
theorem dX0_accountsOf_20 : decode cX0_accountsOf 20 = .ok (.iconst 0, 1) := dk_3 (dk_at dksX0_accountsOf_0 20 rfl rfl)
theorem dX0_accountsOf_21 : decode cX0_accountsOf 21 = .ok (.invokevirtual 271, 3) := dk_182 1 15 (dk_at dksX0_accountsOf_0 21 rfl rfl)
theorem dX0_accountsOf_24 : decode cX0_accountsOf 24 = .ok (.pop, 1) := dk_87 (dk_at dksX0_accountsOf_1 0 rfl rfl)
theorem dX0_accountsOf_25 : decode cX0_accountsOf 25 = .ok (.iload_n 2, 1) := dk_28 (dk_at dksX0_accountsOf_1 1 rfl rfl)
theorem dX0_accountsOf_26 : decode cX0_accountsOf 26 = .ok (.aload_n 0, 1) := dk_42 (dk_at dksX0_accountsOf_1 2 rfl rfl)
theorem dX0_accountsOf_27 : decode cX0_accountsOf 27 = .ok (.invokevirtual 304, 3) := dk_182 1 48 (dk_at dksX0_accountsOf_1 3 rfl rfl)
theorem dX0_accountsOf_30 : decode cX0_accountsOf 30 = .ok (.ifCond .eq 9, 3) := dk_153 0 9 (dk_at dksX0_accountsOf_1 6 rfl rfl)
theorem dX0_accountsOf_33 : decode cX0_accountsOf 33 = .ok (.iconst 1, 1) := dk_4 (dk_at dksX0_accountsOf_1 9 rfl rfl)
theorem dX0_accountsOf_34 : decode cX0_accountsOf 34 = .ok (.iload_n 3, 1) := dk_29 (dk_at dksX0_accountsOf_1 10 rfl rfl)
theorem dX0_accountsOf_35 : decode cX0_accountsOf 35 = .ok (.ishl, 1) := dk_120 (dk_at dksX0_accountsOf_1 11 rfl rfl)
theorem dX0_accountsOf_36 : decode cX0_accountsOf 36 = .ok (.goto 4, 3) := dk_167 0 4 (dk_at dksX0_accountsOf_1 12 rfl rfl)
theorem dX0_accountsOf_39 : decode cX0_accountsOf 39 = .ok (.iconst 0, 1) := dk_3 (dk_at dksX0_accountsOf_1 15 rfl rfl)
theorem dX0_accountsOf_40 : decode cX0_accountsOf 40 = .ok (.ior, 1) := dk_128 (dk_at dksX0_accountsOf_1 16 rfl rfl)
theorem dX0_accountsOf_41 : decode cX0_accountsOf 41 = .ok (.istore_n 2, 1) := dk_61 (dk_at dksX0_accountsOf_1 17 rfl rfl)
theorem dX0_accountsOf_42 : decode cX0_accountsOf 42 = .ok (.iinc 3 1, 3) := dk_132 3 1 (dk_at dksX0_accountsOf_1 18 rfl rfl)
theorem dX0_accountsOf_45 : decode cX0_accountsOf 45 = .ok (.goto (-41), 3) := dk_167 255 215 (dk_at dksX0_accountsOf_1 21 rfl rfl)
theorem dX0_accountsOf_48 : decode cX0_accountsOf 48 = .ok (.iload_n 2, 1) := dk_28 (dk_at dksX0_accountsOf_2 0 rfl rfl)
theorem dX0_accountsOf_49 : decode cX0_accountsOf 49 = .ok (.ireturn, 1) := dk_172 (dk_at dksX0_accountsOf_2 1 rfl rfl)
abbrev cX0_isAccounted : ByteArray := prog_1_method_39_code
def yX0_isAccounted : MethodName := ⟨RX0, "isAccounted", "()Z"⟩
def dkwX0_isAccounted_2 : List UInt8 := [184, 1, 45, 126, 154, 0, 5, 3, 172, 132, 1, 1, 167, 255, 202, 4, 172]
abbrev dktX0_isAccounted_2 : List UInt8 := dkwX0_isAccounted_2 ++ []
def dkwX0_isAccounted_1 : List UInt8 := [155, 0, 31, 42, 180, 0, 67, 180, 1, 19, 27, 46, 3, 42, 180, 0, 57, 180, 0, 223, 27, 46]
abbrev dktX0_isAccounted_1 : List UInt8 := dkwX0_isAccounted_1 ++ dktX0_isAccounted_2
def dkwX0_isAccounted_0 : List UInt8 := [3, 60, 27, 42, 180, 0, 57, 180, 0, 192, 162, 0, 49, 42, 180, 0, 57, 180, 0, 223, 27, 46]
abbrev dktX0_isAccounted_0 : List UInt8 := dkwX0_isAccounted_0 ++ dktX0_isAccounted_1
theorem dksX0_isAccounted_0 : cX0_isAccounted.data.toList.drop 0 = dktX0_isAccounted_0 := by decide +kernel
theorem dksX0_isAccounted_1 : cX0_isAccounted.data.toList.drop 22 = dktX0_isAccounted_1 := dk_seg dksX0_isAccounted_0 22 rfl rfl
theorem dksX0_isAccounted_2 : cX0_isAccounted.data.toList.drop 44 = dktX0_isAccounted_2 := dk_seg dksX0_isAccounted_1 22 rfl rfl
theorem dX0_isAccounted_0 : decode cX0_isAccounted 0 = .ok (.iconst 0, 1) := dk_3 (dk_at dksX0_isAccounted_0 0 rfl rfl)
theorem dX0_isAccounted_1 : decode cX0_isAccounted 1 = .ok (.istore_n 1, 1) := dk_60 (dk_at dksX0_isAccounted_0 1 rfl rfl)
theorem dX0_isAccounted_2 : decode cX0_isAccounted 2 = .ok (.iload_n 1, 1) := dk_27 (dk_at dksX0_isAccounted_0 2 rfl rfl)
theorem dX0_isAccounted_3 : decode cX0_isAccounted 3 = .ok (.aload_n 0, 1) := dk_42 (dk_at dksX0_isAccounted_0 3 rfl rfl)
theorem dX0_isAccounted_4 : decode cX0_isAccounted 4 = .ok (.getfield 57, 3) := dk_180 0 57 (dk_at dksX0_isAccounted_0 4 rfl rfl)
theorem dX0_isAccounted_7 : decode cX0_isAccounted 7 = .ok (.getfield 192, 3) := dk_180 0 192 (dk_at dksX0_isAccounted_0 7 rfl rfl)
theorem dX0_isAccounted_10 : decode cX0_isAccounted 10 = .ok (.if_icmp .ge 49, 3) := dk_162 0 49 (dk_at dksX0_isAccounted_0 10 rfl rfl)
theorem dX0_isAccounted_13 : decode cX0_isAccounted 13 = .ok (.aload_n 0, 1) := dk_42 (dk_at dksX0_isAccounted_0 13 rfl rfl)
theorem dX0_isAccounted_14 : decode cX0_isAccounted 14 = .ok (.getfield 57, 3) := dk_180 0 57 (dk_at dksX0_isAccounted_0 14 rfl rfl)
theorem dX0_isAccounted_17 : decode cX0_isAccounted 17 = .ok (.getfield 223, 3) := dk_180 0 223 (dk_at dksX0_isAccounted_0 17 rfl rfl)
theorem dX0_isAccounted_20 : decode cX0_isAccounted 20 = .ok (.iload_n 1, 1) := dk_27 (dk_at dksX0_isAccounted_0 20 rfl rfl)
theorem dX0_isAccounted_21 : decode cX0_isAccounted 21 = .ok (.iaload, 1) := dk_46 (dk_at dksX0_isAccounted_0 21 rfl rfl)
theorem dX0_isAccounted_22 : decode cX0_isAccounted 22 = .ok (.ifCond .lt 31, 3) := dk_155 0 31 (dk_at dksX0_isAccounted_1 0 rfl rfl)
theorem dX0_isAccounted_25 : decode cX0_isAccounted 25 = .ok (.aload_n 0, 1) := dk_42 (dk_at dksX0_isAccounted_1 3 rfl rfl)
theorem dX0_isAccounted_26 : decode cX0_isAccounted 26 = .ok (.getfield 67, 3) := dk_180 0 67 (dk_at dksX0_isAccounted_1 4 rfl rfl)
theorem dX0_isAccounted_29 : decode cX0_isAccounted 29 = .ok (.getfield 275, 3) := dk_180 1 19 (dk_at dksX0_isAccounted_1 7 rfl rfl)
theorem dX0_isAccounted_32 : decode cX0_isAccounted 32 = .ok (.iload_n 1, 1) := dk_27 (dk_at dksX0_isAccounted_1 10 rfl rfl)
theorem dX0_isAccounted_33 : decode cX0_isAccounted 33 = .ok (.iaload, 1) := dk_46 (dk_at dksX0_isAccounted_1 11 rfl rfl)
theorem dX0_isAccounted_34 : decode cX0_isAccounted 34 = .ok (.iconst 0, 1) := dk_3 (dk_at dksX0_isAccounted_1 12 rfl rfl)
theorem dX0_isAccounted_35 : decode cX0_isAccounted 35 = .ok (.aload_n 0, 1) := dk_42 (dk_at dksX0_isAccounted_1 13 rfl rfl)
theorem dX0_isAccounted_36 : decode cX0_isAccounted 36 = .ok (.getfield 57, 3) := dk_180 0 57 (dk_at dksX0_isAccounted_1 14 rfl rfl)
theorem dX0_isAccounted_39 : decode cX0_isAccounted 39 = .ok (.getfield 223, 3) := dk_180 0 223 (dk_at dksX0_isAccounted_1 17 rfl rfl)
theorem dX0_isAccounted_42 : decode cX0_isAccounted 42 = .ok (.iload_n 1, 1) := dk_27 (dk_at dksX0_isAccounted_1 20 rfl rfl)
theorem dX0_isAccounted_43 : decode cX0_isAccounted 43 = .ok (.iaload, 1) := dk_46 (dk_at dksX0_isAccounted_1 21 rfl rfl)
theorem dX0_isAccounted_44 : decode cX0_isAccounted 44 = .ok (.invokestatic 301, 3) := dk_184 1 45 (dk_at dksX0_isAccounted_2 0 rfl rfl)
theorem dX0_isAccounted_47 : decode cX0_isAccounted 47 = .ok (.iand, 1) := dk_126 (dk_at dksX0_isAccounted_2 3 rfl rfl)
theorem dX0_isAccounted_48 : decode cX0_isAccounted 48 = .ok (.ifCond .ne 5, 3) := dk_154 0 5 (dk_at dksX0_isAccounted_2 4 rfl rfl)
theorem dX0_isAccounted_51 : decode cX0_isAccounted 51 = .ok (.iconst 0, 1) := dk_3 (dk_at dksX0_isAccounted_2 7 rfl rfl)
theorem dX0_isAccounted_52 : decode cX0_isAccounted 52 = .ok (.ireturn, 1) := dk_172 (dk_at dksX0_isAccounted_2 8 rfl rfl)
theorem dX0_isAccounted_53 : decode cX0_isAccounted 53 = .ok (.iinc 1 1, 3) := dk_132 1 1 (dk_at dksX0_isAccounted_2 9 rfl rfl)
theorem dX0_isAccounted_56 : decode cX0_isAccounted 56 = .ok (.goto (-54), 3) := dk_167 255 202 (dk_at dksX0_isAccounted_2 12 rfl rfl)
theorem dX0_isAccounted_59 : decode cX0_isAccounted 59 = .ok (.iconst 1, 1) := dk_4 (dk_at dksX0_isAccounted_2 15 rfl rfl)
theorem dX0_isAccounted_60 : decode cX0_isAccounted 60 = .ok (.ireturn, 1) := dk_172 (dk_at dksX0_isAccounted_2 16 rfl rfl)
abbrev cX0_sources : ByteArray := prog_1_method_42_code
def yX0_sources : MethodName := ⟨RX0, "sources", "()I"⟩
def dkwX0_sources_2 : List UInt8 := [167, 255, 224, 27, 172]
abbrev dktX0_sources_2 : List UInt8 := dkwX0_sources_2 ++ []
def dkwX0_sources_1 : List UInt8 := [162, 0, 27, 27, 42, 28, 182, 1, 51, 154, 0, 7, 3, 167, 0, 6, 4, 28, 120, 128, 60, 132, 2, 1]
abbrev dktX0_sources_1 : List UInt8 := dkwX0_sources_1 ++ dktX0_sources_2
def dkwX0_sources_0 : List UInt8 := [42, 182, 0, 226, 154, 0, 6, 18, 222, 172, 3, 60, 3, 61, 28, 42, 180, 0, 57, 180, 0, 192]
abbrev dktX0_sources_0 : List UInt8 := dkwX0_sources_0 ++ dktX0_sources_1
theorem dksX0_sources_0 : cX0_sources.data.toList.drop 0 = dktX0_sources_0 := by decide +kernel
theorem dksX0_sources_1 : cX0_sources.data.toList.drop 22 = dktX0_sources_1 := dk_seg dksX0_sources_0 22 rfl rfl
theorem dksX0_sources_2 : cX0_sources.data.toList.drop 46 = dktX0_sources_2 := dk_seg dksX0_sources_1 24 rfl rfl
theorem dX0_sources_0 : decode cX0_sources 0 = .ok (.aload_n 0, 1) := dk_42 (dk_at dksX0_sources_0 0 rfl rfl)
theorem dX0_sources_1 : decode cX0_sources 1 = .ok (.invokevirtual 226, 3) := dk_182 0 226 (dk_at dksX0_sources_0 1 rfl rfl)
theorem dX0_sources_4 : decode cX0_sources 4 = .ok (.ifCond .ne 6, 3) := dk_154 0 6 (dk_at dksX0_sources_0 4 rfl rfl)
theorem dX0_sources_7 : decode cX0_sources 7 = .ok (.ldc 222, 2) := dk_18 222 (dk_at dksX0_sources_0 7 rfl rfl)
theorem dX0_sources_9 : decode cX0_sources 9 = .ok (.ireturn, 1) := dk_172 (dk_at dksX0_sources_0 9 rfl rfl)
theorem dX0_sources_10 : decode cX0_sources 10 = .ok (.iconst 0, 1) := dk_3 (dk_at dksX0_sources_0 10 rfl rfl)
theorem dX0_sources_11 : decode cX0_sources 11 = .ok (.istore_n 1, 1) := dk_60 (dk_at dksX0_sources_0 11 rfl rfl)
theorem dX0_sources_12 : decode cX0_sources 12 = .ok (.iconst 0, 1) := dk_3 (dk_at dksX0_sources_0 12 rfl rfl)
theorem dX0_sources_13 : decode cX0_sources 13 = .ok (.istore_n 2, 1) := dk_61 (dk_at dksX0_sources_0 13 rfl rfl)
theorem dX0_sources_14 : decode cX0_sources 14 = .ok (.iload_n 2, 1) := dk_28 (dk_at dksX0_sources_0 14 rfl rfl)
theorem dX0_sources_15 : decode cX0_sources 15 = .ok (.aload_n 0, 1) := dk_42 (dk_at dksX0_sources_0 15 rfl rfl)
theorem dX0_sources_16 : decode cX0_sources 16 = .ok (.getfield 57, 3) := dk_180 0 57 (dk_at dksX0_sources_0 16 rfl rfl)
theorem dX0_sources_19 : decode cX0_sources 19 = .ok (.getfield 192, 3) := dk_180 0 192 (dk_at dksX0_sources_0 19 rfl rfl)
theorem dX0_sources_22 : decode cX0_sources 22 = .ok (.if_icmp .ge 27, 3) := dk_162 0 27 (dk_at dksX0_sources_1 0 rfl rfl)
theorem dX0_sources_25 : decode cX0_sources 25 = .ok (.iload_n 1, 1) := dk_27 (dk_at dksX0_sources_1 3 rfl rfl)
theorem dX0_sources_26 : decode cX0_sources 26 = .ok (.aload_n 0, 1) := dk_42 (dk_at dksX0_sources_1 4 rfl rfl)
theorem dX0_sources_27 : decode cX0_sources 27 = .ok (.iload_n 2, 1) := dk_28 (dk_at dksX0_sources_1 5 rfl rfl)
theorem dX0_sources_28 : decode cX0_sources 28 = .ok (.invokevirtual 307, 3) := dk_182 1 51 (dk_at dksX0_sources_1 6 rfl rfl)
theorem dX0_sources_31 : decode cX0_sources 31 = .ok (.ifCond .ne 7, 3) := dk_154 0 7 (dk_at dksX0_sources_1 9 rfl rfl)
theorem dX0_sources_34 : decode cX0_sources 34 = .ok (.iconst 0, 1) := dk_3 (dk_at dksX0_sources_1 12 rfl rfl)
theorem dX0_sources_35 : decode cX0_sources 35 = .ok (.goto 6, 3) := dk_167 0 6 (dk_at dksX0_sources_1 13 rfl rfl)
theorem dX0_sources_38 : decode cX0_sources 38 = .ok (.iconst 1, 1) := dk_4 (dk_at dksX0_sources_1 16 rfl rfl)
theorem dX0_sources_39 : decode cX0_sources 39 = .ok (.iload_n 2, 1) := dk_28 (dk_at dksX0_sources_1 17 rfl rfl)
theorem dX0_sources_40 : decode cX0_sources 40 = .ok (.ishl, 1) := dk_120 (dk_at dksX0_sources_1 18 rfl rfl)
theorem dX0_sources_41 : decode cX0_sources 41 = .ok (.ior, 1) := dk_128 (dk_at dksX0_sources_1 19 rfl rfl)
theorem dX0_sources_42 : decode cX0_sources 42 = .ok (.istore_n 1, 1) := dk_60 (dk_at dksX0_sources_1 20 rfl rfl)
theorem dX0_sources_43 : decode cX0_sources 43 = .ok (.iinc 2 1, 3) := dk_132 2 1 (dk_at dksX0_sources_1 21 rfl rfl)
theorem dX0_sources_46 : decode cX0_sources 46 = .ok (.goto (-32), 3) := dk_167 255 224 (dk_at dksX0_sources_2 0 rfl rfl)
theorem dX0_sources_49 : decode cX0_sources 49 = .ok (.iload_n 1, 1) := dk_27 (dk_at dksX0_sources_2 3 rfl rfl)
theorem dX0_sources_50 : decode cX0_sources 50 = .ok (.ireturn, 1) := dk_172 (dk_at dksX0_sources_2 4 rfl rfl)
abbrev cX0_cut : ByteArray := prog_1_method_43_code
def yX0_cut : MethodName := ⟨RX0, "cut", "(III)I"⟩
def dkwX0_cut_5 : List UInt8 := [21, 4, 172]
abbrev dktX0_cut_5 : List UInt8 := dkwX0_cut_5 ++ []
def dkwX0_cut_4 : List UInt8 := [21, 5, 182, 1, 15, 180, 1, 19, 29, 46, 154, 0, 7, 21, 5, 54, 4, 132, 5, 1, 167, 255, 178]
abbrev dktX0_cut_4 : List UInt8 := dkwX0_cut_4 ++ dktX0_cut_5
def dkwX0_cut_3 : List UInt8 := [160, 0, 13, 21, 5, 21, 4, 164, 0, 6, 167, 0, 30, 42, 180, 0, 67, 42, 180, 0, 57, 27, 28]
abbrev dktX0_cut_3 : List UInt8 := dkwX0_cut_3 ++ dktX0_cut_4
def dkwX0_cut_2 : List UInt8 := [21, 5, 184, 1, 56, 21, 4, 184, 1, 56, 163, 0, 53, 21, 5, 184, 1, 56, 21, 4, 184, 1, 56]
abbrev dktX0_cut_2 : List UInt8 := dkwX0_cut_2 ++ dktX0_cut_3
def dkwX0_cut_1 : List UInt8 := [180, 0, 57, 182, 1, 54, 54, 4, 3, 54, 5, 21, 5, 42, 180, 0, 57, 182, 1, 54, 162, 0, 72]
abbrev dktX0_cut_1 : List UInt8 := dkwX0_cut_1 ++ dktX0_cut_2
def dkwX0_cut_0 : List UInt8 := [42, 27, 28, 29, 182, 1, 11, 154, 0, 6, 18, 109, 172, 27, 29, 160, 0, 6, 18, 33, 172, 42]
abbrev dktX0_cut_0 : List UInt8 := dkwX0_cut_0 ++ dktX0_cut_1
theorem dksX0_cut_0 : cX0_cut.data.toList.drop 0 = dktX0_cut_0 := by decide +kernel
theorem dksX0_cut_1 : cX0_cut.data.toList.drop 22 = dktX0_cut_1 := dk_seg dksX0_cut_0 22 rfl rfl
theorem dksX0_cut_2 : cX0_cut.data.toList.drop 45 = dktX0_cut_2 := dk_seg dksX0_cut_1 23 rfl rfl
theorem dksX0_cut_3 : cX0_cut.data.toList.drop 68 = dktX0_cut_3 := dk_seg dksX0_cut_2 23 rfl rfl
theorem dksX0_cut_4 : cX0_cut.data.toList.drop 91 = dktX0_cut_4 := dk_seg dksX0_cut_3 23 rfl rfl
theorem dksX0_cut_5 : cX0_cut.data.toList.drop 114 = dktX0_cut_5 := dk_seg dksX0_cut_4 23 rfl rfl
theorem dX0_cut_0 : decode cX0_cut 0 = .ok (.aload_n 0, 1) := dk_42 (dk_at dksX0_cut_0 0 rfl rfl)
theorem dX0_cut_1 : decode cX0_cut 1 = .ok (.iload_n 1, 1) := dk_27 (dk_at dksX0_cut_0 1 rfl rfl)
theorem dX0_cut_2 : decode cX0_cut 2 = .ok (.iload_n 2, 1) := dk_28 (dk_at dksX0_cut_0 2 rfl rfl)
theorem dX0_cut_3 : decode cX0_cut 3 = .ok (.iload_n 3, 1) := dk_29 (dk_at dksX0_cut_0 3 rfl rfl)
theorem dX0_cut_4 : decode cX0_cut 4 = .ok (.invokevirtual 267, 3) := dk_182 1 11 (dk_at dksX0_cut_0 4 rfl rfl)
theorem dX0_cut_7 : decode cX0_cut 7 = .ok (.ifCond .ne 6, 3) := dk_154 0 6 (dk_at dksX0_cut_0 7 rfl rfl)
theorem dX0_cut_10 : decode cX0_cut 10 = .ok (.ldc 109, 2) := dk_18 109 (dk_at dksX0_cut_0 10 rfl rfl)
theorem dX0_cut_12 : decode cX0_cut 12 = .ok (.ireturn, 1) := dk_172 (dk_at dksX0_cut_0 12 rfl rfl)
theorem dX0_cut_13 : decode cX0_cut 13 = .ok (.iload_n 1, 1) := dk_27 (dk_at dksX0_cut_0 13 rfl rfl)
theorem dX0_cut_14 : decode cX0_cut 14 = .ok (.iload_n 3, 1) := dk_29 (dk_at dksX0_cut_0 14 rfl rfl)
theorem dX0_cut_15 : decode cX0_cut 15 = .ok (.if_icmp .ne 6, 3) := dk_160 0 6 (dk_at dksX0_cut_0 15 rfl rfl)
theorem dX0_cut_18 : decode cX0_cut 18 = .ok (.ldc 33, 2) := dk_18 33 (dk_at dksX0_cut_0 18 rfl rfl)
theorem dX0_cut_20 : decode cX0_cut 20 = .ok (.ireturn, 1) := dk_172 (dk_at dksX0_cut_0 20 rfl rfl)
theorem dX0_cut_21 : decode cX0_cut 21 = .ok (.aload_n 0, 1) := dk_42 (dk_at dksX0_cut_0 21 rfl rfl)
theorem dX0_cut_22 : decode cX0_cut 22 = .ok (.getfield 57, 3) := dk_180 0 57 (dk_at dksX0_cut_1 0 rfl rfl)
theorem dX0_cut_25 : decode cX0_cut 25 = .ok (.invokevirtual 310, 3) := dk_182 1 54 (dk_at dksX0_cut_1 3 rfl rfl)
theorem dX0_cut_28 : decode cX0_cut 28 = .ok (.istore 4, 2) := dk_54 4 (dk_at dksX0_cut_1 6 rfl rfl)
theorem dX0_cut_30 : decode cX0_cut 30 = .ok (.iconst 0, 1) := dk_3 (dk_at dksX0_cut_1 8 rfl rfl)
theorem dX0_cut_31 : decode cX0_cut 31 = .ok (.istore 5, 2) := dk_54 5 (dk_at dksX0_cut_1 9 rfl rfl)
theorem dX0_cut_33 : decode cX0_cut 33 = .ok (.iload 5, 2) := dk_21 5 (dk_at dksX0_cut_1 11 rfl rfl)
theorem dX0_cut_35 : decode cX0_cut 35 = .ok (.aload_n 0, 1) := dk_42 (dk_at dksX0_cut_1 13 rfl rfl)
theorem dX0_cut_36 : decode cX0_cut 36 = .ok (.getfield 57, 3) := dk_180 0 57 (dk_at dksX0_cut_1 14 rfl rfl)
theorem dX0_cut_39 : decode cX0_cut 39 = .ok (.invokevirtual 310, 3) := dk_182 1 54 (dk_at dksX0_cut_1 17 rfl rfl)
theorem dX0_cut_42 : decode cX0_cut 42 = .ok (.if_icmp .ge 72, 3) := dk_162 0 72 (dk_at dksX0_cut_1 20 rfl rfl)
theorem dX0_cut_45 : decode cX0_cut 45 = .ok (.iload 5, 2) := dk_21 5 (dk_at dksX0_cut_2 0 rfl rfl)
theorem dX0_cut_47 : decode cX0_cut 47 = .ok (.invokestatic 312, 3) := dk_184 1 56 (dk_at dksX0_cut_2 2 rfl rfl)
theorem dX0_cut_50 : decode cX0_cut 50 = .ok (.iload 4, 2) := dk_21 4 (dk_at dksX0_cut_2 5 rfl rfl)
theorem dX0_cut_52 : decode cX0_cut 52 = .ok (.invokestatic 312, 3) := dk_184 1 56 (dk_at dksX0_cut_2 7 rfl rfl)
theorem dX0_cut_55 : decode cX0_cut 55 = .ok (.if_icmp .gt 53, 3) := dk_163 0 53 (dk_at dksX0_cut_2 10 rfl rfl)
theorem dX0_cut_58 : decode cX0_cut 58 = .ok (.iload 5, 2) := dk_21 5 (dk_at dksX0_cut_2 13 rfl rfl)
theorem dX0_cut_60 : decode cX0_cut 60 = .ok (.invokestatic 312, 3) := dk_184 1 56 (dk_at dksX0_cut_2 15 rfl rfl)
theorem dX0_cut_63 : decode cX0_cut 63 = .ok (.iload 4, 2) := dk_21 4 (dk_at dksX0_cut_2 18 rfl rfl)
theorem dX0_cut_65 : decode cX0_cut 65 = .ok (.invokestatic 312, 3) := dk_184 1 56 (dk_at dksX0_cut_2 20 rfl rfl)
theorem dX0_cut_68 : decode cX0_cut 68 = .ok (.if_icmp .ne 13, 3) := dk_160 0 13 (dk_at dksX0_cut_3 0 rfl rfl)
theorem dX0_cut_71 : decode cX0_cut 71 = .ok (.iload 5, 2) := dk_21 5 (dk_at dksX0_cut_3 3 rfl rfl)
theorem dX0_cut_73 : decode cX0_cut 73 = .ok (.iload 4, 2) := dk_21 4 (dk_at dksX0_cut_3 5 rfl rfl)
theorem dX0_cut_75 : decode cX0_cut 75 = .ok (.if_icmp .le 6, 3) := dk_164 0 6 (dk_at dksX0_cut_3 7 rfl rfl)
theorem dX0_cut_78 : decode cX0_cut 78 = .ok (.goto 30, 3) := dk_167 0 30 (dk_at dksX0_cut_3 10 rfl rfl)
theorem dX0_cut_81 : decode cX0_cut 81 = .ok (.aload_n 0, 1) := dk_42 (dk_at dksX0_cut_3 13 rfl rfl)
theorem dX0_cut_82 : decode cX0_cut 82 = .ok (.getfield 67, 3) := dk_180 0 67 (dk_at dksX0_cut_3 14 rfl rfl)
theorem dX0_cut_85 : decode cX0_cut 85 = .ok (.aload_n 0, 1) := dk_42 (dk_at dksX0_cut_3 17 rfl rfl)
theorem dX0_cut_86 : decode cX0_cut 86 = .ok (.getfield 57, 3) := dk_180 0 57 (dk_at dksX0_cut_3 18 rfl rfl)
theorem dX0_cut_89 : decode cX0_cut 89 = .ok (.iload_n 1, 1) := dk_27 (dk_at dksX0_cut_3 21 rfl rfl)
theorem dX0_cut_90 : decode cX0_cut 90 = .ok (.iload_n 2, 1) := dk_28 (dk_at dksX0_cut_3 22 rfl rfl)
theorem dX0_cut_91 : decode cX0_cut 91 = .ok (.iload 5, 2) := dk_21 5 (dk_at dksX0_cut_4 0 rfl rfl)
theorem dX0_cut_93 : decode cX0_cut 93 = .ok (.invokevirtual 271, 3) := dk_182 1 15 (dk_at dksX0_cut_4 2 rfl rfl)
theorem dX0_cut_96 : decode cX0_cut 96 = .ok (.getfield 275, 3) := dk_180 1 19 (dk_at dksX0_cut_4 5 rfl rfl)
theorem dX0_cut_99 : decode cX0_cut 99 = .ok (.iload_n 3, 1) := dk_29 (dk_at dksX0_cut_4 8 rfl rfl)
theorem dX0_cut_100 : decode cX0_cut 100 = .ok (.iaload, 1) := dk_46 (dk_at dksX0_cut_4 9 rfl rfl)
theorem dX0_cut_101 : decode cX0_cut 101 = .ok (.ifCond .ne 7, 3) := dk_154 0 7 (dk_at dksX0_cut_4 10 rfl rfl)
theorem dX0_cut_104 : decode cX0_cut 104 = .ok (.iload 5, 2) := dk_21 5 (dk_at dksX0_cut_4 13 rfl rfl)
theorem dX0_cut_106 : decode cX0_cut 106 = .ok (.istore 4, 2) := dk_54 4 (dk_at dksX0_cut_4 15 rfl rfl)
theorem dX0_cut_108 : decode cX0_cut 108 = .ok (.iinc 5 1, 3) := dk_132 5 1 (dk_at dksX0_cut_4 17 rfl rfl)
theorem dX0_cut_111 : decode cX0_cut 111 = .ok (.goto (-78), 3) := dk_167 255 178 (dk_at dksX0_cut_4 20 rfl rfl)
theorem dX0_cut_114 : decode cX0_cut 114 = .ok (.iload 4, 2) := dk_21 4 (dk_at dksX0_cut_5 0 rfl rfl)
theorem dX0_cut_116 : decode cX0_cut 116 = .ok (.ireturn, 1) := dk_172 (dk_at dksX0_cut_5 2 rfl rfl)
abbrev cX0_common : ByteArray := prog_1_method_44_code
def yX0_common : MethodName := ⟨RX0, "common", "(III)I"⟩
def dkwX0_common_5 : List UInt8 := [167, 255, 183, 21, 4, 172]
abbrev dktX0_common_5 : List UInt8 := dkwX0_common_5 ++ []
def dkwX0_common_4 : List UInt8 := [180, 1, 19, 29, 46, 154, 0, 10, 4, 21, 5, 120, 167, 0, 4, 3, 128, 54, 4, 132, 5, 1]
abbrev dktX0_common_4 : List UInt8 := dkwX0_common_4 ++ dktX0_common_5
def dkwX0_common_3 : List UInt8 := [21, 4, 42, 180, 0, 67, 42, 180, 0, 57, 27, 28, 42, 180, 0, 57, 21, 5, 182, 1, 8, 182, 1, 15]
abbrev dktX0_common_3 : List UInt8 := dkwX0_common_3 ++ dktX0_common_4
def dkwX0_common_2 : List UInt8 := [180, 0, 57, 180, 0, 192, 162, 0, 67, 21, 5, 27, 159, 0, 55, 21, 5, 29, 160, 0, 6, 167, 0, 46]
abbrev dktX0_common_2 : List UInt8 := dkwX0_common_2 ++ dktX0_common_3
def dkwX0_common_1 : List UInt8 := [182, 1, 15, 180, 1, 19, 29, 46, 154, 0, 5, 3, 172, 3, 54, 4, 3, 54, 5, 21, 5, 42]
abbrev dktX0_common_1 : List UInt8 := dkwX0_common_1 ++ dktX0_common_2
def dkwX0_common_0 : List UInt8 := [42, 27, 28, 29, 182, 1, 11, 154, 0, 6, 18, 109, 172, 42, 180, 0, 67, 42, 180, 0, 57, 27, 28, 3]
abbrev dktX0_common_0 : List UInt8 := dkwX0_common_0 ++ dktX0_common_1
theorem dksX0_common_0 : cX0_common.data.toList.drop 0 = dktX0_common_0 := by decide +kernel
theorem dksX0_common_1 : cX0_common.data.toList.drop 24 = dktX0_common_1 := dk_seg dksX0_common_0 24 rfl rfl
theorem dksX0_common_2 : cX0_common.data.toList.drop 46 = dktX0_common_2 := dk_seg dksX0_common_1 22 rfl rfl
theorem dksX0_common_3 : cX0_common.data.toList.drop 70 = dktX0_common_3 := dk_seg dksX0_common_2 24 rfl rfl
theorem dksX0_common_4 : cX0_common.data.toList.drop 94 = dktX0_common_4 := dk_seg dksX0_common_3 24 rfl rfl
theorem dksX0_common_5 : cX0_common.data.toList.drop 116 = dktX0_common_5 := dk_seg dksX0_common_4 22 rfl rfl
theorem dX0_common_0 : decode cX0_common 0 = .ok (.aload_n 0, 1) := dk_42 (dk_at dksX0_common_0 0 rfl rfl)
theorem dX0_common_1 : decode cX0_common 1 = .ok (.iload_n 1, 1) := dk_27 (dk_at dksX0_common_0 1 rfl rfl)
theorem dX0_common_2 : decode cX0_common 2 = .ok (.iload_n 2, 1) := dk_28 (dk_at dksX0_common_0 2 rfl rfl)
theorem dX0_common_3 : decode cX0_common 3 = .ok (.iload_n 3, 1) := dk_29 (dk_at dksX0_common_0 3 rfl rfl)
theorem dX0_common_4 : decode cX0_common 4 = .ok (.invokevirtual 267, 3) := dk_182 1 11 (dk_at dksX0_common_0 4 rfl rfl)
theorem dX0_common_7 : decode cX0_common 7 = .ok (.ifCond .ne 6, 3) := dk_154 0 6 (dk_at dksX0_common_0 7 rfl rfl)
theorem dX0_common_10 : decode cX0_common 10 = .ok (.ldc 109, 2) := dk_18 109 (dk_at dksX0_common_0 10 rfl rfl)
theorem dX0_common_12 : decode cX0_common 12 = .ok (.ireturn, 1) := dk_172 (dk_at dksX0_common_0 12 rfl rfl)
theorem dX0_common_13 : decode cX0_common 13 = .ok (.aload_n 0, 1) := dk_42 (dk_at dksX0_common_0 13 rfl rfl)
theorem dX0_common_14 : decode cX0_common 14 = .ok (.getfield 67, 3) := dk_180 0 67 (dk_at dksX0_common_0 14 rfl rfl)
theorem dX0_common_17 : decode cX0_common 17 = .ok (.aload_n 0, 1) := dk_42 (dk_at dksX0_common_0 17 rfl rfl)
theorem dX0_common_18 : decode cX0_common 18 = .ok (.getfield 57, 3) := dk_180 0 57 (dk_at dksX0_common_0 18 rfl rfl)
theorem dX0_common_21 : decode cX0_common 21 = .ok (.iload_n 1, 1) := dk_27 (dk_at dksX0_common_0 21 rfl rfl)
theorem dX0_common_22 : decode cX0_common 22 = .ok (.iload_n 2, 1) := dk_28 (dk_at dksX0_common_0 22 rfl rfl)
theorem dX0_common_23 : decode cX0_common 23 = .ok (.iconst 0, 1) := dk_3 (dk_at dksX0_common_0 23 rfl rfl)
theorem dX0_common_24 : decode cX0_common 24 = .ok (.invokevirtual 271, 3) := dk_182 1 15 (dk_at dksX0_common_1 0 rfl rfl)
theorem dX0_common_27 : decode cX0_common 27 = .ok (.getfield 275, 3) := dk_180 1 19 (dk_at dksX0_common_1 3 rfl rfl)
theorem dX0_common_30 : decode cX0_common 30 = .ok (.iload_n 3, 1) := dk_29 (dk_at dksX0_common_1 6 rfl rfl)
theorem dX0_common_31 : decode cX0_common 31 = .ok (.iaload, 1) := dk_46 (dk_at dksX0_common_1 7 rfl rfl)
theorem dX0_common_32 : decode cX0_common 32 = .ok (.ifCond .ne 5, 3) := dk_154 0 5 (dk_at dksX0_common_1 8 rfl rfl)
theorem dX0_common_35 : decode cX0_common 35 = .ok (.iconst 0, 1) := dk_3 (dk_at dksX0_common_1 11 rfl rfl)
theorem dX0_common_36 : decode cX0_common 36 = .ok (.ireturn, 1) := dk_172 (dk_at dksX0_common_1 12 rfl rfl)
theorem dX0_common_37 : decode cX0_common 37 = .ok (.iconst 0, 1) := dk_3 (dk_at dksX0_common_1 13 rfl rfl)
theorem dX0_common_38 : decode cX0_common 38 = .ok (.istore 4, 2) := dk_54 4 (dk_at dksX0_common_1 14 rfl rfl)
theorem dX0_common_40 : decode cX0_common 40 = .ok (.iconst 0, 1) := dk_3 (dk_at dksX0_common_1 16 rfl rfl)
theorem dX0_common_41 : decode cX0_common 41 = .ok (.istore 5, 2) := dk_54 5 (dk_at dksX0_common_1 17 rfl rfl)
theorem dX0_common_43 : decode cX0_common 43 = .ok (.iload 5, 2) := dk_21 5 (dk_at dksX0_common_1 19 rfl rfl)
theorem dX0_common_45 : decode cX0_common 45 = .ok (.aload_n 0, 1) := dk_42 (dk_at dksX0_common_1 21 rfl rfl)
theorem dX0_common_46 : decode cX0_common 46 = .ok (.getfield 57, 3) := dk_180 0 57 (dk_at dksX0_common_2 0 rfl rfl)
theorem dX0_common_49 : decode cX0_common 49 = .ok (.getfield 192, 3) := dk_180 0 192 (dk_at dksX0_common_2 3 rfl rfl)
theorem dX0_common_52 : decode cX0_common 52 = .ok (.if_icmp .ge 67, 3) := dk_162 0 67 (dk_at dksX0_common_2 6 rfl rfl)
theorem dX0_common_55 : decode cX0_common 55 = .ok (.iload 5, 2) := dk_21 5 (dk_at dksX0_common_2 9 rfl rfl)
theorem dX0_common_57 : decode cX0_common 57 = .ok (.iload_n 1, 1) := dk_27 (dk_at dksX0_common_2 11 rfl rfl)
theorem dX0_common_58 : decode cX0_common 58 = .ok (.if_icmp .eq 55, 3) := dk_159 0 55 (dk_at dksX0_common_2 12 rfl rfl)
theorem dX0_common_61 : decode cX0_common 61 = .ok (.iload 5, 2) := dk_21 5 (dk_at dksX0_common_2 15 rfl rfl)
theorem dX0_common_63 : decode cX0_common 63 = .ok (.iload_n 3, 1) := dk_29 (dk_at dksX0_common_2 17 rfl rfl)
theorem dX0_common_64 : decode cX0_common 64 = .ok (.if_icmp .ne 6, 3) := dk_160 0 6 (dk_at dksX0_common_2 18 rfl rfl)
theorem dX0_common_67 : decode cX0_common 67 = .ok (.goto 46, 3) := dk_167 0 46 (dk_at dksX0_common_2 21 rfl rfl)
theorem dX0_common_70 : decode cX0_common 70 = .ok (.iload 4, 2) := dk_21 4 (dk_at dksX0_common_3 0 rfl rfl)
theorem dX0_common_72 : decode cX0_common 72 = .ok (.aload_n 0, 1) := dk_42 (dk_at dksX0_common_3 2 rfl rfl)
theorem dX0_common_73 : decode cX0_common 73 = .ok (.getfield 67, 3) := dk_180 0 67 (dk_at dksX0_common_3 3 rfl rfl)
theorem dX0_common_76 : decode cX0_common 76 = .ok (.aload_n 0, 1) := dk_42 (dk_at dksX0_common_3 6 rfl rfl)
theorem dX0_common_77 : decode cX0_common 77 = .ok (.getfield 57, 3) := dk_180 0 57 (dk_at dksX0_common_3 7 rfl rfl)
theorem dX0_common_80 : decode cX0_common 80 = .ok (.iload_n 1, 1) := dk_27 (dk_at dksX0_common_3 10 rfl rfl)
theorem dX0_common_81 : decode cX0_common 81 = .ok (.iload_n 2, 1) := dk_28 (dk_at dksX0_common_3 11 rfl rfl)
theorem dX0_common_82 : decode cX0_common 82 = .ok (.aload_n 0, 1) := dk_42 (dk_at dksX0_common_3 12 rfl rfl)
theorem dX0_common_83 : decode cX0_common 83 = .ok (.getfield 57, 3) := dk_180 0 57 (dk_at dksX0_common_3 13 rfl rfl)
theorem dX0_common_86 : decode cX0_common 86 = .ok (.iload 5, 2) := dk_21 5 (dk_at dksX0_common_3 16 rfl rfl)
theorem dX0_common_88 : decode cX0_common 88 = .ok (.invokevirtual 264, 3) := dk_182 1 8 (dk_at dksX0_common_3 18 rfl rfl)
theorem dX0_common_91 : decode cX0_common 91 = .ok (.invokevirtual 271, 3) := dk_182 1 15 (dk_at dksX0_common_3 21 rfl rfl)
theorem dX0_common_94 : decode cX0_common 94 = .ok (.getfield 275, 3) := dk_180 1 19 (dk_at dksX0_common_4 0 rfl rfl)
theorem dX0_common_97 : decode cX0_common 97 = .ok (.iload_n 3, 1) := dk_29 (dk_at dksX0_common_4 3 rfl rfl)
theorem dX0_common_98 : decode cX0_common 98 = .ok (.iaload, 1) := dk_46 (dk_at dksX0_common_4 4 rfl rfl)
theorem dX0_common_99 : decode cX0_common 99 = .ok (.ifCond .ne 10, 3) := dk_154 0 10 (dk_at dksX0_common_4 5 rfl rfl)
theorem dX0_common_102 : decode cX0_common 102 = .ok (.iconst 1, 1) := dk_4 (dk_at dksX0_common_4 8 rfl rfl)
theorem dX0_common_103 : decode cX0_common 103 = .ok (.iload 5, 2) := dk_21 5 (dk_at dksX0_common_4 9 rfl rfl)
theorem dX0_common_105 : decode cX0_common 105 = .ok (.ishl, 1) := dk_120 (dk_at dksX0_common_4 11 rfl rfl)
theorem dX0_common_106 : decode cX0_common 106 = .ok (.goto 4, 3) := dk_167 0 4 (dk_at dksX0_common_4 12 rfl rfl)
theorem dX0_common_109 : decode cX0_common 109 = .ok (.iconst 0, 1) := dk_3 (dk_at dksX0_common_4 15 rfl rfl)
theorem dX0_common_110 : decode cX0_common 110 = .ok (.ior, 1) := dk_128 (dk_at dksX0_common_4 16 rfl rfl)
theorem dX0_common_111 : decode cX0_common 111 = .ok (.istore 4, 2) := dk_54 4 (dk_at dksX0_common_4 17 rfl rfl)
theorem dX0_common_113 : decode cX0_common 113 = .ok (.iinc 5 1, 3) := dk_132 5 1 (dk_at dksX0_common_4 19 rfl rfl)
theorem dX0_common_116 : decode cX0_common 116 = .ok (.goto (-73), 3) := dk_167 255 183 (dk_at dksX0_common_5 0 rfl rfl)
theorem dX0_common_119 : decode cX0_common 119 = .ok (.iload 4, 2) := dk_21 4 (dk_at dksX0_common_5 3 rfl rfl)
theorem dX0_common_121 : decode cX0_common 121 = .ok (.ireturn, 1) := dk_172 (dk_at dksX0_common_5 5 rfl rfl)
abbrev cX0_spared : ByteArray := prog_1_method_46_code
def yX0_spared : MethodName := ⟨RX0, "spared", "(IIII)J"⟩
def dkwX0_spared_7 : List UInt8 := [154, 0, 8, 22, 5, 167, 0, 5, 22, 7, 22, 5, 22, 7, 184, 1, 69, 109, 173]
abbrev dktX0_spared_7 : List UInt8 := dkwX0_spared_7 ++ []
def dkwX0_spared_6 : List UInt8 := [180, 1, 19, 28, 46, 154, 0, 10, 22, 5, 22, 10, 97, 55, 5, 132, 9, 1, 167, 255, 148, 21, 4]
abbrev dktX0_spared_6 : List UInt8 := dkwX0_spared_6 ++ dktX0_spared_7
def dkwX0_spared_5 : List UInt8 := [55, 7, 22, 10, 9, 148, 158, 0, 33, 42, 180, 0, 67, 42, 180, 0, 57, 27, 3, 21, 9, 182, 1, 15]
abbrev dktX0_spared_5 : List UInt8 := dkwX0_spared_5 ++ dktX0_spared_6
def dkwX0_spared_4 : List UInt8 := [29, 133, 167, 0, 8, 16, 10, 29, 100, 133, 105, 55, 10, 132, 12, 1, 167, 255, 216, 22, 7, 22, 10, 97]
abbrev dktX0_spared_4 : List UInt8 := dkwX0_spared_4 ++ dktX0_spared_5
def dkwX0_spared_3 : List UInt8 := [21, 12, 42, 180, 0, 57, 180, 0, 195, 162, 0, 34, 22, 10, 21, 9, 21, 12, 184, 1, 65, 153, 0, 8]
abbrev dktX0_spared_3 : List UInt8 := dkwX0_spared_3 ++ dktX0_spared_4
def dkwX0_spared_2 : List UInt8 := [9, 55, 7, 3, 54, 9, 21, 9, 42, 180, 0, 57, 182, 1, 54, 163, 0, 102, 10, 55, 10, 3, 54, 12]
abbrev dktX0_spared_2 : List UInt8 := dkwX0_spared_2 ++ dktX0_spared_3
def dkwX0_spared_1 : List UInt8 := [184, 0, 99, 153, 0, 14, 21, 4, 133, 9, 10, 184, 0, 99, 154, 0, 7, 20, 1, 63, 173, 9, 55, 5]
abbrev dktX0_spared_1 : List UInt8 := dkwX0_spared_1 ++ dktX0_spared_2
def dkwX0_spared_0 : List UInt8 := [42, 27, 182, 0, 200, 153, 0, 34, 42, 28, 182, 0, 200, 153, 0, 26, 29, 133, 9, 20, 1, 61]
abbrev dktX0_spared_0 : List UInt8 := dkwX0_spared_0 ++ dktX0_spared_1
theorem dksX0_spared_0 : cX0_spared.data.toList.drop 0 = dktX0_spared_0 := by decide +kernel
theorem dksX0_spared_1 : cX0_spared.data.toList.drop 22 = dktX0_spared_1 := dk_seg dksX0_spared_0 22 rfl rfl
theorem dksX0_spared_2 : cX0_spared.data.toList.drop 46 = dktX0_spared_2 := dk_seg dksX0_spared_1 24 rfl rfl
theorem dksX0_spared_3 : cX0_spared.data.toList.drop 70 = dktX0_spared_3 := dk_seg dksX0_spared_2 24 rfl rfl
theorem dksX0_spared_4 : cX0_spared.data.toList.drop 94 = dktX0_spared_4 := dk_seg dksX0_spared_3 24 rfl rfl
theorem dksX0_spared_5 : cX0_spared.data.toList.drop 118 = dktX0_spared_5 := dk_seg dksX0_spared_4 24 rfl rfl
theorem dksX0_spared_6 : cX0_spared.data.toList.drop 142 = dktX0_spared_6 := dk_seg dksX0_spared_5 24 rfl rfl
theorem dksX0_spared_7 : cX0_spared.data.toList.drop 165 = dktX0_spared_7 := dk_seg dksX0_spared_6 23 rfl rfl
theorem dX0_spared_0 : decode cX0_spared 0 = .ok (.aload_n 0, 1) := dk_42 (dk_at dksX0_spared_0 0 rfl rfl)
theorem dX0_spared_1 : decode cX0_spared 1 = .ok (.iload_n 1, 1) := dk_27 (dk_at dksX0_spared_0 1 rfl rfl)
theorem dX0_spared_2 : decode cX0_spared 2 = .ok (.invokevirtual 200, 3) := dk_182 0 200 (dk_at dksX0_spared_0 2 rfl rfl)
theorem dX0_spared_5 : decode cX0_spared 5 = .ok (.ifCond .eq 34, 3) := dk_153 0 34 (dk_at dksX0_spared_0 5 rfl rfl)
theorem dX0_spared_8 : decode cX0_spared 8 = .ok (.aload_n 0, 1) := dk_42 (dk_at dksX0_spared_0 8 rfl rfl)
theorem dX0_spared_9 : decode cX0_spared 9 = .ok (.iload_n 2, 1) := dk_28 (dk_at dksX0_spared_0 9 rfl rfl)
theorem dX0_spared_10 : decode cX0_spared 10 = .ok (.invokevirtual 200, 3) := dk_182 0 200 (dk_at dksX0_spared_0 10 rfl rfl)
theorem dX0_spared_13 : decode cX0_spared 13 = .ok (.ifCond .eq 26, 3) := dk_153 0 26 (dk_at dksX0_spared_0 13 rfl rfl)
theorem dX0_spared_16 : decode cX0_spared 16 = .ok (.iload_n 3, 1) := dk_29 (dk_at dksX0_spared_0 16 rfl rfl)
theorem dX0_spared_17 : decode cX0_spared 17 = .ok (.i2l, 1) := dk_133 (dk_at dksX0_spared_0 17 rfl rfl)
theorem dX0_spared_18 : decode cX0_spared 18 = .ok (.lconst 0, 1) := dk_9 (dk_at dksX0_spared_0 18 rfl rfl)
theorem dX0_spared_19 : decode cX0_spared 19 = .ok (.ldc2_w 317, 3) := dk_20 1 61 (dk_at dksX0_spared_0 19 rfl rfl)
theorem dX0_spared_22 : decode cX0_spared 22 = .ok (.invokestatic 99, 3) := dk_184 0 99 (dk_at dksX0_spared_1 0 rfl rfl)
theorem dX0_spared_25 : decode cX0_spared 25 = .ok (.ifCond .eq 14, 3) := dk_153 0 14 (dk_at dksX0_spared_1 3 rfl rfl)
theorem dX0_spared_28 : decode cX0_spared 28 = .ok (.iload 4, 2) := dk_21 4 (dk_at dksX0_spared_1 6 rfl rfl)
theorem dX0_spared_30 : decode cX0_spared 30 = .ok (.i2l, 1) := dk_133 (dk_at dksX0_spared_1 8 rfl rfl)
theorem dX0_spared_31 : decode cX0_spared 31 = .ok (.lconst 0, 1) := dk_9 (dk_at dksX0_spared_1 9 rfl rfl)
theorem dX0_spared_32 : decode cX0_spared 32 = .ok (.lconst 1, 1) := dk_10 (dk_at dksX0_spared_1 10 rfl rfl)
theorem dX0_spared_33 : decode cX0_spared 33 = .ok (.invokestatic 99, 3) := dk_184 0 99 (dk_at dksX0_spared_1 11 rfl rfl)
theorem dX0_spared_36 : decode cX0_spared 36 = .ok (.ifCond .ne 7, 3) := dk_154 0 7 (dk_at dksX0_spared_1 14 rfl rfl)
theorem dX0_spared_39 : decode cX0_spared 39 = .ok (.ldc2_w 319, 3) := dk_20 1 63 (dk_at dksX0_spared_1 17 rfl rfl)
theorem dX0_spared_42 : decode cX0_spared 42 = .ok (.lreturn, 1) := dk_173 (dk_at dksX0_spared_1 20 rfl rfl)
theorem dX0_spared_43 : decode cX0_spared 43 = .ok (.lconst 0, 1) := dk_9 (dk_at dksX0_spared_1 21 rfl rfl)
theorem dX0_spared_44 : decode cX0_spared 44 = .ok (.lstore 5, 2) := dk_55 5 (dk_at dksX0_spared_1 22 rfl rfl)
theorem dX0_spared_46 : decode cX0_spared 46 = .ok (.lconst 0, 1) := dk_9 (dk_at dksX0_spared_2 0 rfl rfl)
theorem dX0_spared_47 : decode cX0_spared 47 = .ok (.lstore 7, 2) := dk_55 7 (dk_at dksX0_spared_2 1 rfl rfl)
theorem dX0_spared_49 : decode cX0_spared 49 = .ok (.iconst 0, 1) := dk_3 (dk_at dksX0_spared_2 3 rfl rfl)
theorem dX0_spared_50 : decode cX0_spared 50 = .ok (.istore 9, 2) := dk_54 9 (dk_at dksX0_spared_2 4 rfl rfl)
theorem dX0_spared_52 : decode cX0_spared 52 = .ok (.iload 9, 2) := dk_21 9 (dk_at dksX0_spared_2 6 rfl rfl)
theorem dX0_spared_54 : decode cX0_spared 54 = .ok (.aload_n 0, 1) := dk_42 (dk_at dksX0_spared_2 8 rfl rfl)
theorem dX0_spared_55 : decode cX0_spared 55 = .ok (.getfield 57, 3) := dk_180 0 57 (dk_at dksX0_spared_2 9 rfl rfl)
theorem dX0_spared_58 : decode cX0_spared 58 = .ok (.invokevirtual 310, 3) := dk_182 1 54 (dk_at dksX0_spared_2 12 rfl rfl)
theorem dX0_spared_61 : decode cX0_spared 61 = .ok (.if_icmp .gt 102, 3) := dk_163 0 102 (dk_at dksX0_spared_2 15 rfl rfl)
theorem dX0_spared_64 : decode cX0_spared 64 = .ok (.lconst 1, 1) := dk_10 (dk_at dksX0_spared_2 18 rfl rfl)
theorem dX0_spared_65 : decode cX0_spared 65 = .ok (.lstore 10, 2) := dk_55 10 (dk_at dksX0_spared_2 19 rfl rfl)
theorem dX0_spared_67 : decode cX0_spared 67 = .ok (.iconst 0, 1) := dk_3 (dk_at dksX0_spared_2 21 rfl rfl)
theorem dX0_spared_68 : decode cX0_spared 68 = .ok (.istore 12, 2) := dk_54 12 (dk_at dksX0_spared_2 22 rfl rfl)
theorem dX0_spared_70 : decode cX0_spared 70 = .ok (.iload 12, 2) := dk_21 12 (dk_at dksX0_spared_3 0 rfl rfl)
theorem dX0_spared_72 : decode cX0_spared 72 = .ok (.aload_n 0, 1) := dk_42 (dk_at dksX0_spared_3 2 rfl rfl)
theorem dX0_spared_73 : decode cX0_spared 73 = .ok (.getfield 57, 3) := dk_180 0 57 (dk_at dksX0_spared_3 3 rfl rfl)
theorem dX0_spared_76 : decode cX0_spared 76 = .ok (.getfield 195, 3) := dk_180 0 195 (dk_at dksX0_spared_3 6 rfl rfl)
theorem dX0_spared_79 : decode cX0_spared 79 = .ok (.if_icmp .ge 34, 3) := dk_162 0 34 (dk_at dksX0_spared_3 9 rfl rfl)
theorem dX0_spared_82 : decode cX0_spared 82 = .ok (.lload 10, 2) := dk_22 10 (dk_at dksX0_spared_3 12 rfl rfl)
theorem dX0_spared_84 : decode cX0_spared 84 = .ok (.iload 9, 2) := dk_21 9 (dk_at dksX0_spared_3 14 rfl rfl)
theorem dX0_spared_86 : decode cX0_spared 86 = .ok (.iload 12, 2) := dk_21 12 (dk_at dksX0_spared_3 16 rfl rfl)
theorem dX0_spared_88 : decode cX0_spared 88 = .ok (.invokestatic 321, 3) := dk_184 1 65 (dk_at dksX0_spared_3 18 rfl rfl)
theorem dX0_spared_91 : decode cX0_spared 91 = .ok (.ifCond .eq 8, 3) := dk_153 0 8 (dk_at dksX0_spared_3 21 rfl rfl)
theorem dX0_spared_94 : decode cX0_spared 94 = .ok (.iload_n 3, 1) := dk_29 (dk_at dksX0_spared_4 0 rfl rfl)
theorem dX0_spared_95 : decode cX0_spared 95 = .ok (.i2l, 1) := dk_133 (dk_at dksX0_spared_4 1 rfl rfl)
theorem dX0_spared_96 : decode cX0_spared 96 = .ok (.goto 8, 3) := dk_167 0 8 (dk_at dksX0_spared_4 2 rfl rfl)
theorem dX0_spared_99 : decode cX0_spared 99 = .ok (.bipush 10, 2) := dk_16 10 (dk_at dksX0_spared_4 5 rfl rfl)
theorem dX0_spared_101 : decode cX0_spared 101 = .ok (.iload_n 3, 1) := dk_29 (dk_at dksX0_spared_4 7 rfl rfl)
theorem dX0_spared_102 : decode cX0_spared 102 = .ok (.isub, 1) := dk_100 (dk_at dksX0_spared_4 8 rfl rfl)
theorem dX0_spared_103 : decode cX0_spared 103 = .ok (.i2l, 1) := dk_133 (dk_at dksX0_spared_4 9 rfl rfl)
theorem dX0_spared_104 : decode cX0_spared 104 = .ok (.lmul, 1) := dk_105 (dk_at dksX0_spared_4 10 rfl rfl)
theorem dX0_spared_105 : decode cX0_spared 105 = .ok (.lstore 10, 2) := dk_55 10 (dk_at dksX0_spared_4 11 rfl rfl)
theorem dX0_spared_107 : decode cX0_spared 107 = .ok (.iinc 12 1, 3) := dk_132 12 1 (dk_at dksX0_spared_4 13 rfl rfl)
theorem dX0_spared_110 : decode cX0_spared 110 = .ok (.goto (-40), 3) := dk_167 255 216 (dk_at dksX0_spared_4 16 rfl rfl)
theorem dX0_spared_113 : decode cX0_spared 113 = .ok (.lload 7, 2) := dk_22 7 (dk_at dksX0_spared_4 19 rfl rfl)
theorem dX0_spared_115 : decode cX0_spared 115 = .ok (.lload 10, 2) := dk_22 10 (dk_at dksX0_spared_4 21 rfl rfl)
theorem dX0_spared_117 : decode cX0_spared 117 = .ok (.ladd, 1) := dk_97 (dk_at dksX0_spared_4 23 rfl rfl)
theorem dX0_spared_118 : decode cX0_spared 118 = .ok (.lstore 7, 2) := dk_55 7 (dk_at dksX0_spared_5 0 rfl rfl)
theorem dX0_spared_120 : decode cX0_spared 120 = .ok (.lload 10, 2) := dk_22 10 (dk_at dksX0_spared_5 2 rfl rfl)
theorem dX0_spared_122 : decode cX0_spared 122 = .ok (.lconst 0, 1) := dk_9 (dk_at dksX0_spared_5 4 rfl rfl)
theorem dX0_spared_123 : decode cX0_spared 123 = .ok (.lcmp, 1) := dk_148 (dk_at dksX0_spared_5 5 rfl rfl)
theorem dX0_spared_124 : decode cX0_spared 124 = .ok (.ifCond .le 33, 3) := dk_158 0 33 (dk_at dksX0_spared_5 6 rfl rfl)
theorem dX0_spared_127 : decode cX0_spared 127 = .ok (.aload_n 0, 1) := dk_42 (dk_at dksX0_spared_5 9 rfl rfl)
theorem dX0_spared_128 : decode cX0_spared 128 = .ok (.getfield 67, 3) := dk_180 0 67 (dk_at dksX0_spared_5 10 rfl rfl)
theorem dX0_spared_131 : decode cX0_spared 131 = .ok (.aload_n 0, 1) := dk_42 (dk_at dksX0_spared_5 13 rfl rfl)
theorem dX0_spared_132 : decode cX0_spared 132 = .ok (.getfield 57, 3) := dk_180 0 57 (dk_at dksX0_spared_5 14 rfl rfl)
theorem dX0_spared_135 : decode cX0_spared 135 = .ok (.iload_n 1, 1) := dk_27 (dk_at dksX0_spared_5 17 rfl rfl)
theorem dX0_spared_136 : decode cX0_spared 136 = .ok (.iconst 0, 1) := dk_3 (dk_at dksX0_spared_5 18 rfl rfl)
theorem dX0_spared_137 : decode cX0_spared 137 = .ok (.iload 9, 2) := dk_21 9 (dk_at dksX0_spared_5 19 rfl rfl)
theorem dX0_spared_139 : decode cX0_spared 139 = .ok (.invokevirtual 271, 3) := dk_182 1 15 (dk_at dksX0_spared_5 21 rfl rfl)
theorem dX0_spared_142 : decode cX0_spared 142 = .ok (.getfield 275, 3) := dk_180 1 19 (dk_at dksX0_spared_6 0 rfl rfl)
theorem dX0_spared_145 : decode cX0_spared 145 = .ok (.iload_n 2, 1) := dk_28 (dk_at dksX0_spared_6 3 rfl rfl)
theorem dX0_spared_146 : decode cX0_spared 146 = .ok (.iaload, 1) := dk_46 (dk_at dksX0_spared_6 4 rfl rfl)
theorem dX0_spared_147 : decode cX0_spared 147 = .ok (.ifCond .ne 10, 3) := dk_154 0 10 (dk_at dksX0_spared_6 5 rfl rfl)
theorem dX0_spared_150 : decode cX0_spared 150 = .ok (.lload 5, 2) := dk_22 5 (dk_at dksX0_spared_6 8 rfl rfl)
theorem dX0_spared_152 : decode cX0_spared 152 = .ok (.lload 10, 2) := dk_22 10 (dk_at dksX0_spared_6 10 rfl rfl)
theorem dX0_spared_154 : decode cX0_spared 154 = .ok (.ladd, 1) := dk_97 (dk_at dksX0_spared_6 12 rfl rfl)
theorem dX0_spared_155 : decode cX0_spared 155 = .ok (.lstore 5, 2) := dk_55 5 (dk_at dksX0_spared_6 13 rfl rfl)
theorem dX0_spared_157 : decode cX0_spared 157 = .ok (.iinc 9 1, 3) := dk_132 9 1 (dk_at dksX0_spared_6 15 rfl rfl)
theorem dX0_spared_160 : decode cX0_spared 160 = .ok (.goto (-108), 3) := dk_167 255 148 (dk_at dksX0_spared_6 18 rfl rfl)
theorem dX0_spared_163 : decode cX0_spared 163 = .ok (.iload 4, 2) := dk_21 4 (dk_at dksX0_spared_6 21 rfl rfl)
theorem dX0_spared_165 : decode cX0_spared 165 = .ok (.ifCond .ne 8, 3) := dk_154 0 8 (dk_at dksX0_spared_7 0 rfl rfl)
theorem dX0_spared_168 : decode cX0_spared 168 = .ok (.lload 5, 2) := dk_22 5 (dk_at dksX0_spared_7 3 rfl rfl)
theorem dX0_spared_170 : decode cX0_spared 170 = .ok (.goto 5, 3) := dk_167 0 5 (dk_at dksX0_spared_7 5 rfl rfl)
theorem dX0_spared_173 : decode cX0_spared 173 = .ok (.lload 7, 2) := dk_22 7 (dk_at dksX0_spared_7 8 rfl rfl)
theorem dX0_spared_175 : decode cX0_spared 175 = .ok (.lload 5, 2) := dk_22 5 (dk_at dksX0_spared_7 10 rfl rfl)
theorem dX0_spared_177 : decode cX0_spared 177 = .ok (.lload 7, 2) := dk_22 7 (dk_at dksX0_spared_7 12 rfl rfl)
theorem dX0_spared_179 : decode cX0_spared 179 = .ok (.invokestatic 325, 3) := dk_184 1 69 (dk_at dksX0_spared_7 14 rfl rfl)
theorem dX0_spared_182 : decode cX0_spared 182 = .ok (.ldiv, 1) := dk_109 (dk_at dksX0_spared_7 17 rfl rfl)
theorem dX0_spared_183 : decode cX0_spared 183 = .ok (.lreturn, 1) := dk_173 (dk_at dksX0_spared_7 18 rfl rfl)
abbrev cX0_measure : ByteArray := prog_1_method_45_code
def yX0_measure : MethodName := ⟨RX0, "measure", "(JJ)J"⟩
def dkwX0_measure_1 : List UInt8 := [22, 8, 55, 6, 167, 255, 234, 22, 4, 173]
abbrev dktX0_measure_1 : List UInt8 := dkwX0_measure_1 ++ []
def dkwX0_measure_0 : List UInt8 := [30, 55, 4, 32, 55, 6, 22, 6, 9, 148, 153, 0, 21, 22, 4, 22, 6, 113, 55, 8, 22, 6, 55, 4]
abbrev dktX0_measure_0 : List UInt8 := dkwX0_measure_0 ++ dktX0_measure_1
theorem dksX0_measure_0 : cX0_measure.data.toList.drop 0 = dktX0_measure_0 := by decide +kernel
theorem dksX0_measure_1 : cX0_measure.data.toList.drop 24 = dktX0_measure_1 := dk_seg dksX0_measure_0 24 rfl rfl
theorem dX0_measure_0 : decode cX0_measure 0 = .ok (.lload_n 0, 1) := dk_30 (dk_at dksX0_measure_0 0 rfl rfl)
theorem dX0_measure_1 : decode cX0_measure 1 = .ok (.lstore 4, 2) := dk_55 4 (dk_at dksX0_measure_0 1 rfl rfl)
theorem dX0_measure_3 : decode cX0_measure 3 = .ok (.lload_n 2, 1) := dk_32 (dk_at dksX0_measure_0 3 rfl rfl)
theorem dX0_measure_4 : decode cX0_measure 4 = .ok (.lstore 6, 2) := dk_55 6 (dk_at dksX0_measure_0 4 rfl rfl)
theorem dX0_measure_6 : decode cX0_measure 6 = .ok (.lload 6, 2) := dk_22 6 (dk_at dksX0_measure_0 6 rfl rfl)
theorem dX0_measure_8 : decode cX0_measure 8 = .ok (.lconst 0, 1) := dk_9 (dk_at dksX0_measure_0 8 rfl rfl)
theorem dX0_measure_9 : decode cX0_measure 9 = .ok (.lcmp, 1) := dk_148 (dk_at dksX0_measure_0 9 rfl rfl)
theorem dX0_measure_10 : decode cX0_measure 10 = .ok (.ifCond .eq 21, 3) := dk_153 0 21 (dk_at dksX0_measure_0 10 rfl rfl)
theorem dX0_measure_13 : decode cX0_measure 13 = .ok (.lload 4, 2) := dk_22 4 (dk_at dksX0_measure_0 13 rfl rfl)
theorem dX0_measure_15 : decode cX0_measure 15 = .ok (.lload 6, 2) := dk_22 6 (dk_at dksX0_measure_0 15 rfl rfl)
theorem dX0_measure_17 : decode cX0_measure 17 = .ok (.lrem, 1) := dk_113 (dk_at dksX0_measure_0 17 rfl rfl)
theorem dX0_measure_18 : decode cX0_measure 18 = .ok (.lstore 8, 2) := dk_55 8 (dk_at dksX0_measure_0 18 rfl rfl)
theorem dX0_measure_20 : decode cX0_measure 20 = .ok (.lload 6, 2) := dk_22 6 (dk_at dksX0_measure_0 20 rfl rfl)
theorem dX0_measure_22 : decode cX0_measure 22 = .ok (.lstore 4, 2) := dk_55 4 (dk_at dksX0_measure_0 22 rfl rfl)
theorem dX0_measure_24 : decode cX0_measure 24 = .ok (.lload 8, 2) := dk_22 8 (dk_at dksX0_measure_1 0 rfl rfl)
theorem dX0_measure_26 : decode cX0_measure 26 = .ok (.lstore 6, 2) := dk_55 6 (dk_at dksX0_measure_1 2 rfl rfl)
theorem dX0_measure_28 : decode cX0_measure 28 = .ok (.goto (-22), 3) := dk_167 255 234 (dk_at dksX0_measure_1 4 rfl rfl)
theorem dX0_measure_31 : decode cX0_measure 31 = .ok (.lload 4, 2) := dk_22 4 (dk_at dksX0_measure_1 7 rfl rfl)
theorem dX0_measure_33 : decode cX0_measure 33 = .ok (.lreturn, 1) := dk_173 (dk_at dksX0_measure_1 9 rfl rfl)
abbrev cX0_fits : ByteArray := prog_1_method_53_code
def yX0_fits : MethodName := ⟨RX0, "fits", "(IIIII)I"⟩
def dkwX0_fits_6 : List UInt8 := [172]
abbrev dktX0_fits_6 : List UInt8 := dkwX0_fits_6 ++ []
def dkwX0_fits_5 : List UInt8 := [25, 6, 182, 1, 103, 182, 0, 118, 172, 58, 6, 42, 4, 182, 0, 124, 172, 58, 6, 42, 5, 182, 0, 124]
abbrev dktX0_fits_5 : List UInt8 := dkwX0_fits_5 ++ dktX0_fits_6
def dkwX0_fits_4 : List UInt8 := [42, 27, 25, 6, 182, 1, 95, 167, 0, 22, 42, 27, 28, 25, 6, 182, 1, 99, 167, 0, 11, 42, 27, 28]
abbrev dktX0_fits_4 : List UInt8 := dkwX0_fits_4 ++ dktX0_fits_5
def dkwX0_fits_3 : List UInt8 := [171, 0, 0, 0, 46, 0, 0, 0, 2, 0, 0, 0, 0, 0, 0, 0, 25, 0, 0, 0, 1, 0, 0, 0, 35]
abbrev dktX0_fits_3 : List UInt8 := dkwX0_fits_3 ++ dktX0_fits_4
def dkwX0_fits_2 : List UInt8 := [42, 29, 3, 21, 4, 182, 1, 91, 58, 6, 42, 21, 5]
abbrev dktX0_fits_2 : List UInt8 := dkwX0_fits_2 ++ dktX0_fits_3
def dkwX0_fits_1 : List UInt8 := [153, 0, 21, 21, 4, 133, 10, 42, 180, 0, 57, 180, 0, 192, 133, 184, 0, 99, 154, 0, 6, 18, 109, 172]
abbrev dktX0_fits_1 : List UInt8 := dkwX0_fits_1 ++ dktX0_fits_2
def dkwX0_fits_0 : List UInt8 := [42, 27, 182, 0, 200, 153, 0, 38, 42, 28, 21, 5, 182, 1, 88, 153, 0, 28, 29, 184, 0, 103]
abbrev dktX0_fits_0 : List UInt8 := dkwX0_fits_0 ++ dktX0_fits_1
theorem dksX0_fits_0 : cX0_fits.data.toList.drop 0 = dktX0_fits_0 := by decide +kernel
theorem dksX0_fits_1 : cX0_fits.data.toList.drop 22 = dktX0_fits_1 := dk_seg dksX0_fits_0 22 rfl rfl
theorem dksX0_fits_2 : cX0_fits.data.toList.drop 46 = dktX0_fits_2 := dk_seg dksX0_fits_1 24 rfl rfl
theorem dksX0_fits_3 : cX0_fits.data.toList.drop 59 = dktX0_fits_3 := dk_seg dksX0_fits_2 13 rfl rfl
theorem dksX0_fits_4 : cX0_fits.data.toList.drop 84 = dktX0_fits_4 := dk_seg dksX0_fits_3 25 rfl rfl
theorem dksX0_fits_5 : cX0_fits.data.toList.drop 108 = dktX0_fits_5 := dk_seg dksX0_fits_4 24 rfl rfl
theorem dksX0_fits_6 : cX0_fits.data.toList.drop 132 = dktX0_fits_6 := dk_seg dksX0_fits_5 24 rfl rfl
theorem dX0_fits_0 : decode cX0_fits 0 = .ok (.aload_n 0, 1) := dk_42 (dk_at dksX0_fits_0 0 rfl rfl)
theorem dX0_fits_1 : decode cX0_fits 1 = .ok (.iload_n 1, 1) := dk_27 (dk_at dksX0_fits_0 1 rfl rfl)
theorem dX0_fits_2 : decode cX0_fits 2 = .ok (.invokevirtual 200, 3) := dk_182 0 200 (dk_at dksX0_fits_0 2 rfl rfl)
theorem dX0_fits_5 : decode cX0_fits 5 = .ok (.ifCond .eq 38, 3) := dk_153 0 38 (dk_at dksX0_fits_0 5 rfl rfl)
theorem dX0_fits_8 : decode cX0_fits 8 = .ok (.aload_n 0, 1) := dk_42 (dk_at dksX0_fits_0 8 rfl rfl)
theorem dX0_fits_9 : decode cX0_fits 9 = .ok (.iload_n 2, 1) := dk_28 (dk_at dksX0_fits_0 9 rfl rfl)
theorem dX0_fits_10 : decode cX0_fits 10 = .ok (.iload 5, 2) := dk_21 5 (dk_at dksX0_fits_0 10 rfl rfl)
theorem dX0_fits_12 : decode cX0_fits 12 = .ok (.invokevirtual 344, 3) := dk_182 1 88 (dk_at dksX0_fits_0 12 rfl rfl)
theorem dX0_fits_15 : decode cX0_fits 15 = .ok (.ifCond .eq 28, 3) := dk_153 0 28 (dk_at dksX0_fits_0 15 rfl rfl)
theorem dX0_fits_18 : decode cX0_fits 18 = .ok (.iload_n 3, 1) := dk_29 (dk_at dksX0_fits_0 18 rfl rfl)
theorem dX0_fits_19 : decode cX0_fits 19 = .ok (.invokestatic 103, 3) := dk_184 0 103 (dk_at dksX0_fits_0 19 rfl rfl)
theorem dX0_fits_22 : decode cX0_fits 22 = .ok (.ifCond .eq 21, 3) := dk_153 0 21 (dk_at dksX0_fits_1 0 rfl rfl)
theorem dX0_fits_25 : decode cX0_fits 25 = .ok (.iload 4, 2) := dk_21 4 (dk_at dksX0_fits_1 3 rfl rfl)
theorem dX0_fits_27 : decode cX0_fits 27 = .ok (.i2l, 1) := dk_133 (dk_at dksX0_fits_1 5 rfl rfl)
theorem dX0_fits_28 : decode cX0_fits 28 = .ok (.lconst 1, 1) := dk_10 (dk_at dksX0_fits_1 6 rfl rfl)
theorem dX0_fits_29 : decode cX0_fits 29 = .ok (.aload_n 0, 1) := dk_42 (dk_at dksX0_fits_1 7 rfl rfl)
theorem dX0_fits_30 : decode cX0_fits 30 = .ok (.getfield 57, 3) := dk_180 0 57 (dk_at dksX0_fits_1 8 rfl rfl)
theorem dX0_fits_33 : decode cX0_fits 33 = .ok (.getfield 192, 3) := dk_180 0 192 (dk_at dksX0_fits_1 11 rfl rfl)
theorem dX0_fits_36 : decode cX0_fits 36 = .ok (.i2l, 1) := dk_133 (dk_at dksX0_fits_1 14 rfl rfl)
theorem dX0_fits_37 : decode cX0_fits 37 = .ok (.invokestatic 99, 3) := dk_184 0 99 (dk_at dksX0_fits_1 15 rfl rfl)
theorem dX0_fits_40 : decode cX0_fits 40 = .ok (.ifCond .ne 6, 3) := dk_154 0 6 (dk_at dksX0_fits_1 18 rfl rfl)
theorem dX0_fits_43 : decode cX0_fits 43 = .ok (.ldc 109, 2) := dk_18 109 (dk_at dksX0_fits_1 21 rfl rfl)
theorem dX0_fits_45 : decode cX0_fits 45 = .ok (.ireturn, 1) := dk_172 (dk_at dksX0_fits_1 23 rfl rfl)
theorem dX0_fits_46 : decode cX0_fits 46 = .ok (.aload_n 0, 1) := dk_42 (dk_at dksX0_fits_2 0 rfl rfl)
theorem dX0_fits_47 : decode cX0_fits 47 = .ok (.iload_n 3, 1) := dk_29 (dk_at dksX0_fits_2 1 rfl rfl)
theorem dX0_fits_48 : decode cX0_fits 48 = .ok (.iconst 0, 1) := dk_3 (dk_at dksX0_fits_2 2 rfl rfl)
theorem dX0_fits_49 : decode cX0_fits 49 = .ok (.iload 4, 2) := dk_21 4 (dk_at dksX0_fits_2 3 rfl rfl)
theorem dX0_fits_51 : decode cX0_fits 51 = .ok (.invokevirtual 347, 3) := dk_182 1 91 (dk_at dksX0_fits_2 5 rfl rfl)
theorem dX0_fits_54 : decode cX0_fits 54 = .ok (.astore 6, 2) := dk_58 6 (dk_at dksX0_fits_2 8 rfl rfl)
theorem dX0_fits_56 : decode cX0_fits 56 = .ok (.aload_n 0, 1) := dk_42 (dk_at dksX0_fits_2 10 rfl rfl)
theorem dX0_fits_57 : decode cX0_fits 57 = .ok (.iload 5, 2) := dk_21 5 (dk_at dksX0_fits_2 11 rfl rfl)
theorem dX0_fits_59 : decode cX0_fits 59 = .ok (.lookupswitch 46 #[(0, 25), (1, 35)], 25) := by decide +kernel
theorem dX0_fits_84 : decode cX0_fits 84 = .ok (.aload_n 0, 1) := dk_42 (dk_at dksX0_fits_4 0 rfl rfl)
theorem dX0_fits_85 : decode cX0_fits 85 = .ok (.iload_n 1, 1) := dk_27 (dk_at dksX0_fits_4 1 rfl rfl)
theorem dX0_fits_86 : decode cX0_fits 86 = .ok (.aload 6, 2) := dk_25 6 (dk_at dksX0_fits_4 2 rfl rfl)
theorem dX0_fits_88 : decode cX0_fits 88 = .ok (.invokevirtual 351, 3) := dk_182 1 95 (dk_at dksX0_fits_4 4 rfl rfl)
theorem dX0_fits_91 : decode cX0_fits 91 = .ok (.goto 22, 3) := dk_167 0 22 (dk_at dksX0_fits_4 7 rfl rfl)
theorem dX0_fits_94 : decode cX0_fits 94 = .ok (.aload_n 0, 1) := dk_42 (dk_at dksX0_fits_4 10 rfl rfl)
theorem dX0_fits_95 : decode cX0_fits 95 = .ok (.iload_n 1, 1) := dk_27 (dk_at dksX0_fits_4 11 rfl rfl)
theorem dX0_fits_96 : decode cX0_fits 96 = .ok (.iload_n 2, 1) := dk_28 (dk_at dksX0_fits_4 12 rfl rfl)
theorem dX0_fits_97 : decode cX0_fits 97 = .ok (.aload 6, 2) := dk_25 6 (dk_at dksX0_fits_4 13 rfl rfl)
theorem dX0_fits_99 : decode cX0_fits 99 = .ok (.invokevirtual 355, 3) := dk_182 1 99 (dk_at dksX0_fits_4 15 rfl rfl)
theorem dX0_fits_102 : decode cX0_fits 102 = .ok (.goto 11, 3) := dk_167 0 11 (dk_at dksX0_fits_4 18 rfl rfl)
theorem dX0_fits_105 : decode cX0_fits 105 = .ok (.aload_n 0, 1) := dk_42 (dk_at dksX0_fits_4 21 rfl rfl)
theorem dX0_fits_106 : decode cX0_fits 106 = .ok (.iload_n 1, 1) := dk_27 (dk_at dksX0_fits_4 22 rfl rfl)
theorem dX0_fits_107 : decode cX0_fits 107 = .ok (.iload_n 2, 1) := dk_28 (dk_at dksX0_fits_4 23 rfl rfl)
theorem dX0_fits_108 : decode cX0_fits 108 = .ok (.aload 6, 2) := dk_25 6 (dk_at dksX0_fits_5 0 rfl rfl)
theorem dX0_fits_110 : decode cX0_fits 110 = .ok (.invokevirtual 359, 3) := dk_182 1 103 (dk_at dksX0_fits_5 2 rfl rfl)
theorem dX0_fits_113 : decode cX0_fits 113 = .ok (.invokevirtual 118, 3) := dk_182 0 118 (dk_at dksX0_fits_5 5 rfl rfl)
theorem dX0_fits_116 : decode cX0_fits 116 = .ok (.ireturn, 1) := dk_172 (dk_at dksX0_fits_5 8 rfl rfl)
theorem dX0_fits_117 : decode cX0_fits 117 = .ok (.astore 6, 2) := dk_58 6 (dk_at dksX0_fits_5 9 rfl rfl)
theorem dX0_fits_119 : decode cX0_fits 119 = .ok (.aload_n 0, 1) := dk_42 (dk_at dksX0_fits_5 11 rfl rfl)
theorem dX0_fits_120 : decode cX0_fits 120 = .ok (.iconst 1, 1) := dk_4 (dk_at dksX0_fits_5 12 rfl rfl)
theorem dX0_fits_121 : decode cX0_fits 121 = .ok (.invokevirtual 124, 3) := dk_182 0 124 (dk_at dksX0_fits_5 13 rfl rfl)
theorem dX0_fits_124 : decode cX0_fits 124 = .ok (.ireturn, 1) := dk_172 (dk_at dksX0_fits_5 16 rfl rfl)
theorem dX0_fits_125 : decode cX0_fits 125 = .ok (.astore 6, 2) := dk_58 6 (dk_at dksX0_fits_5 17 rfl rfl)
theorem dX0_fits_127 : decode cX0_fits 127 = .ok (.aload_n 0, 1) := dk_42 (dk_at dksX0_fits_5 19 rfl rfl)
theorem dX0_fits_128 : decode cX0_fits 128 = .ok (.iconst 2, 1) := dk_5 (dk_at dksX0_fits_5 20 rfl rfl)
theorem dX0_fits_129 : decode cX0_fits 129 = .ok (.invokevirtual 124, 3) := dk_182 0 124 (dk_at dksX0_fits_5 21 rfl rfl)
theorem dX0_fits_132 : decode cX0_fits 132 = .ok (.ireturn, 1) := dk_172 (dk_at dksX0_fits_6 0 rfl rfl)
abbrev cX0_isFor : ByteArray := prog_1_method_52_code
def yX0_isFor : MethodName := ⟨RX0, "isFor", "(II)Z"⟩
def dkwX0_isFor_2 : List UInt8 := [4, 167, 0, 20, 42, 27, 182, 0, 219, 167, 0, 12, 42, 27, 182, 0, 200, 167, 0, 4, 3, 172]
abbrev dktX0_isFor_2 : List UInt8 := dkwX0_isFor_2 ++ []
def dkwX0_isFor_1 : List UInt8 := [170, 0, 0, 0, 0, 0, 47, 0, 0, 0, 0, 0, 0, 0, 2, 0, 0, 0, 27, 0, 0, 0, 31, 0, 0, 0, 39]
abbrev dktX0_isFor_1 : List UInt8 := dkwX0_isFor_1 ++ dktX0_isFor_2
def dkwX0_isFor_0 : List UInt8 := [28]
abbrev dktX0_isFor_0 : List UInt8 := dkwX0_isFor_0 ++ dktX0_isFor_1
theorem dksX0_isFor_0 : cX0_isFor.data.toList.drop 0 = dktX0_isFor_0 := by decide +kernel
theorem dksX0_isFor_1 : cX0_isFor.data.toList.drop 1 = dktX0_isFor_1 := dk_seg dksX0_isFor_0 1 rfl rfl
theorem dksX0_isFor_2 : cX0_isFor.data.toList.drop 28 = dktX0_isFor_2 := dk_seg dksX0_isFor_1 27 rfl rfl
theorem dX0_isFor_0 : decode cX0_isFor 0 = .ok (.iload_n 2, 1) := dk_28 (dk_at dksX0_isFor_0 0 rfl rfl)
theorem dX0_isFor_1 : decode cX0_isFor 1 = .ok (.tableswitch 47 0 2 #[27, 31, 39], 27) := by decide +kernel
theorem dX0_isFor_28 : decode cX0_isFor 28 = .ok (.iconst 1, 1) := dk_4 (dk_at dksX0_isFor_2 0 rfl rfl)
theorem dX0_isFor_29 : decode cX0_isFor 29 = .ok (.goto 20, 3) := dk_167 0 20 (dk_at dksX0_isFor_2 1 rfl rfl)
theorem dX0_isFor_32 : decode cX0_isFor 32 = .ok (.aload_n 0, 1) := dk_42 (dk_at dksX0_isFor_2 4 rfl rfl)
theorem dX0_isFor_33 : decode cX0_isFor 33 = .ok (.iload_n 1, 1) := dk_27 (dk_at dksX0_isFor_2 5 rfl rfl)
theorem dX0_isFor_34 : decode cX0_isFor 34 = .ok (.invokevirtual 219, 3) := dk_182 0 219 (dk_at dksX0_isFor_2 6 rfl rfl)
theorem dX0_isFor_37 : decode cX0_isFor 37 = .ok (.goto 12, 3) := dk_167 0 12 (dk_at dksX0_isFor_2 9 rfl rfl)
theorem dX0_isFor_40 : decode cX0_isFor 40 = .ok (.aload_n 0, 1) := dk_42 (dk_at dksX0_isFor_2 12 rfl rfl)
theorem dX0_isFor_41 : decode cX0_isFor 41 = .ok (.iload_n 1, 1) := dk_27 (dk_at dksX0_isFor_2 13 rfl rfl)
theorem dX0_isFor_42 : decode cX0_isFor 42 = .ok (.invokevirtual 200, 3) := dk_182 0 200 (dk_at dksX0_isFor_2 14 rfl rfl)
theorem dX0_isFor_45 : decode cX0_isFor 45 = .ok (.goto 4, 3) := dk_167 0 4 (dk_at dksX0_isFor_2 17 rfl rfl)
theorem dX0_isFor_48 : decode cX0_isFor 48 = .ok (.iconst 0, 1) := dk_3 (dk_at dksX0_isFor_2 20 rfl rfl)
theorem dX0_isFor_49 : decode cX0_isFor 49 = .ok (.ireturn, 1) := dk_172 (dk_at dksX0_isFor_2 21 rfl rfl)
abbrev cX0_items : ByteArray := prog_1_method_16_code
def yX0_items : MethodName := ⟨RX0, "items", "(III)[I"⟩
def dkwX0_items_3 : List UInt8 := [167, 255, 229, 25, 5, 176]
abbrev dktX0_items_3 : List UInt8 := dkwX0_items_3 ++ []
def dkwX0_items_2 : List UInt8 := [162, 0, 27, 25, 5, 21, 6, 42, 180, 0, 46, 27, 50, 28, 21, 6, 96, 182, 0, 149, 79, 132, 6, 1]
abbrev dktX0_items_2 : List UInt8 := dkwX0_items_2 ++ dktX0_items_3
def dkwX0_items_1 : List UInt8 := [158, 0, 11, 187, 0, 133, 89, 183, 0, 148, 191, 29, 188, 10, 58, 5, 3, 54, 6, 21, 6, 29]
abbrev dktX0_items_1 : List UInt8 := dkwX0_items_1 ++ dktX0_items_2
def dkwX0_items_0 : List UInt8 := [42, 180, 0, 46, 27, 50, 182, 0, 145, 54, 4, 28, 155, 0, 15, 28, 133, 29, 133, 97, 21, 4, 133, 148]
abbrev dktX0_items_0 : List UInt8 := dkwX0_items_0 ++ dktX0_items_1
theorem dksX0_items_0 : cX0_items.data.toList.drop 0 = dktX0_items_0 := by decide +kernel
theorem dksX0_items_1 : cX0_items.data.toList.drop 24 = dktX0_items_1 := dk_seg dksX0_items_0 24 rfl rfl
theorem dksX0_items_2 : cX0_items.data.toList.drop 46 = dktX0_items_2 := dk_seg dksX0_items_1 22 rfl rfl
theorem dksX0_items_3 : cX0_items.data.toList.drop 70 = dktX0_items_3 := dk_seg dksX0_items_2 24 rfl rfl
theorem dX0_items_0 : decode cX0_items 0 = .ok (.aload_n 0, 1) := dk_42 (dk_at dksX0_items_0 0 rfl rfl)
theorem dX0_items_1 : decode cX0_items 1 = .ok (.getfield 46, 3) := dk_180 0 46 (dk_at dksX0_items_0 1 rfl rfl)
theorem dX0_items_4 : decode cX0_items 4 = .ok (.iload_n 1, 1) := dk_27 (dk_at dksX0_items_0 4 rfl rfl)
theorem dX0_items_5 : decode cX0_items 5 = .ok (.aaload, 1) := dk_50 (dk_at dksX0_items_0 5 rfl rfl)
theorem dX0_items_6 : decode cX0_items 6 = .ok (.invokevirtual 145, 3) := dk_182 0 145 (dk_at dksX0_items_0 6 rfl rfl)
theorem dX0_items_9 : decode cX0_items 9 = .ok (.istore 4, 2) := dk_54 4 (dk_at dksX0_items_0 9 rfl rfl)
theorem dX0_items_11 : decode cX0_items 11 = .ok (.iload_n 2, 1) := dk_28 (dk_at dksX0_items_0 11 rfl rfl)
theorem dX0_items_12 : decode cX0_items 12 = .ok (.ifCond .lt 15, 3) := dk_155 0 15 (dk_at dksX0_items_0 12 rfl rfl)
theorem dX0_items_15 : decode cX0_items 15 = .ok (.iload_n 2, 1) := dk_28 (dk_at dksX0_items_0 15 rfl rfl)
theorem dX0_items_16 : decode cX0_items 16 = .ok (.i2l, 1) := dk_133 (dk_at dksX0_items_0 16 rfl rfl)
theorem dX0_items_17 : decode cX0_items 17 = .ok (.iload_n 3, 1) := dk_29 (dk_at dksX0_items_0 17 rfl rfl)
theorem dX0_items_18 : decode cX0_items 18 = .ok (.i2l, 1) := dk_133 (dk_at dksX0_items_0 18 rfl rfl)
theorem dX0_items_19 : decode cX0_items 19 = .ok (.ladd, 1) := dk_97 (dk_at dksX0_items_0 19 rfl rfl)
theorem dX0_items_20 : decode cX0_items 20 = .ok (.iload 4, 2) := dk_21 4 (dk_at dksX0_items_0 20 rfl rfl)
theorem dX0_items_22 : decode cX0_items 22 = .ok (.i2l, 1) := dk_133 (dk_at dksX0_items_0 22 rfl rfl)
theorem dX0_items_23 : decode cX0_items 23 = .ok (.lcmp, 1) := dk_148 (dk_at dksX0_items_0 23 rfl rfl)
theorem dX0_items_24 : decode cX0_items 24 = .ok (.ifCond .le 11, 3) := dk_158 0 11 (dk_at dksX0_items_1 0 rfl rfl)
theorem dX0_items_27 : decode cX0_items 27 = .ok (.new 133, 3) := dk_187 0 133 (dk_at dksX0_items_1 3 rfl rfl)
theorem dX0_items_30 : decode cX0_items 30 = .ok (.dup, 1) := dk_89 (dk_at dksX0_items_1 6 rfl rfl)
theorem dX0_items_31 : decode cX0_items 31 = .ok (.invokespecial 148, 3) := dk_183 0 148 (dk_at dksX0_items_1 7 rfl rfl)
theorem dX0_items_34 : decode cX0_items 34 = .ok (.athrow, 1) := dk_191 (dk_at dksX0_items_1 10 rfl rfl)
theorem dX0_items_35 : decode cX0_items 35 = .ok (.iload_n 3, 1) := dk_29 (dk_at dksX0_items_1 11 rfl rfl)
theorem dX0_items_36 : decode cX0_items 36 = .ok (.newarray .int, 2) := dk_188_10 (dk_at dksX0_items_1 12 rfl rfl)
theorem dX0_items_38 : decode cX0_items 38 = .ok (.astore 5, 2) := dk_58 5 (dk_at dksX0_items_1 14 rfl rfl)
theorem dX0_items_40 : decode cX0_items 40 = .ok (.iconst 0, 1) := dk_3 (dk_at dksX0_items_1 16 rfl rfl)
theorem dX0_items_41 : decode cX0_items 41 = .ok (.istore 6, 2) := dk_54 6 (dk_at dksX0_items_1 17 rfl rfl)
theorem dX0_items_43 : decode cX0_items 43 = .ok (.iload 6, 2) := dk_21 6 (dk_at dksX0_items_1 19 rfl rfl)
theorem dX0_items_45 : decode cX0_items 45 = .ok (.iload_n 3, 1) := dk_29 (dk_at dksX0_items_1 21 rfl rfl)
theorem dX0_items_46 : decode cX0_items 46 = .ok (.if_icmp .ge 27, 3) := dk_162 0 27 (dk_at dksX0_items_2 0 rfl rfl)
theorem dX0_items_49 : decode cX0_items 49 = .ok (.aload 5, 2) := dk_25 5 (dk_at dksX0_items_2 3 rfl rfl)
theorem dX0_items_51 : decode cX0_items 51 = .ok (.iload 6, 2) := dk_21 6 (dk_at dksX0_items_2 5 rfl rfl)
theorem dX0_items_53 : decode cX0_items 53 = .ok (.aload_n 0, 1) := dk_42 (dk_at dksX0_items_2 7 rfl rfl)
theorem dX0_items_54 : decode cX0_items 54 = .ok (.getfield 46, 3) := dk_180 0 46 (dk_at dksX0_items_2 8 rfl rfl)
theorem dX0_items_57 : decode cX0_items 57 = .ok (.iload_n 1, 1) := dk_27 (dk_at dksX0_items_2 11 rfl rfl)
theorem dX0_items_58 : decode cX0_items 58 = .ok (.aaload, 1) := dk_50 (dk_at dksX0_items_2 12 rfl rfl)
theorem dX0_items_59 : decode cX0_items 59 = .ok (.iload_n 2, 1) := dk_28 (dk_at dksX0_items_2 13 rfl rfl)
theorem dX0_items_60 : decode cX0_items 60 = .ok (.iload 6, 2) := dk_21 6 (dk_at dksX0_items_2 14 rfl rfl)
theorem dX0_items_62 : decode cX0_items 62 = .ok (.iadd, 1) := dk_96 (dk_at dksX0_items_2 16 rfl rfl)
theorem dX0_items_63 : decode cX0_items 63 = .ok (.invokevirtual 149, 3) := dk_182 0 149 (dk_at dksX0_items_2 17 rfl rfl)
theorem dX0_items_66 : decode cX0_items 66 = .ok (.iastore, 1) := dk_79 (dk_at dksX0_items_2 20 rfl rfl)
theorem dX0_items_67 : decode cX0_items 67 = .ok (.iinc 6 1, 3) := dk_132 6 1 (dk_at dksX0_items_2 21 rfl rfl)
theorem dX0_items_70 : decode cX0_items 70 = .ok (.goto (-27), 3) := dk_167 255 229 (dk_at dksX0_items_3 0 rfl rfl)
theorem dX0_items_73 : decode cX0_items 73 = .ok (.aload 5, 2) := dk_25 5 (dk_at dksX0_items_3 3 rfl rfl)
theorem dX0_items_75 : decode cX0_items 75 = .ok (.areturn, 1) := dk_176 (dk_at dksX0_items_3 5 rfl rfl)
abbrev cX0_lowsBy : ByteArray := prog_1_method_49_code
def yX0_lowsBy : MethodName := ⟨RX0, "lowsBy", "(I[I)I"⟩
def dkwX0_lowsBy_2 : List UInt8 := [153, 0, 10, 4, 21, 4, 120, 167, 0, 4, 3, 128, 62, 132, 4, 1, 167, 255, 200, 29, 172]
abbrev dktX0_lowsBy_2 : List UInt8 := dkwX0_lowsBy_2 ++ []
def dkwX0_lowsBy_1 : List UInt8 := [182, 1, 81, 21, 4, 181, 0, 234, 29, 42, 42, 180, 0, 61, 182, 0, 181, 27, 44, 182, 1, 84]
abbrev dktX0_lowsBy_1 : List UInt8 := dkwX0_lowsBy_1 ++ dktX0_lowsBy_2
def dkwX0_lowsBy_0 : List UInt8 := [3, 62, 4, 54, 4, 21, 4, 16, 9, 42, 180, 0, 57, 180, 0, 237, 184, 1, 76, 163, 0, 45, 42]
abbrev dktX0_lowsBy_0 : List UInt8 := dkwX0_lowsBy_0 ++ dktX0_lowsBy_1
theorem dksX0_lowsBy_0 : cX0_lowsBy.data.toList.drop 0 = dktX0_lowsBy_0 := by decide +kernel
theorem dksX0_lowsBy_1 : cX0_lowsBy.data.toList.drop 23 = dktX0_lowsBy_1 := dk_seg dksX0_lowsBy_0 23 rfl rfl
theorem dksX0_lowsBy_2 : cX0_lowsBy.data.toList.drop 45 = dktX0_lowsBy_2 := dk_seg dksX0_lowsBy_1 22 rfl rfl
theorem dX0_lowsBy_0 : decode cX0_lowsBy 0 = .ok (.iconst 0, 1) := dk_3 (dk_at dksX0_lowsBy_0 0 rfl rfl)
theorem dX0_lowsBy_1 : decode cX0_lowsBy 1 = .ok (.istore_n 3, 1) := dk_62 (dk_at dksX0_lowsBy_0 1 rfl rfl)
theorem dX0_lowsBy_2 : decode cX0_lowsBy 2 = .ok (.iconst 1, 1) := dk_4 (dk_at dksX0_lowsBy_0 2 rfl rfl)
theorem dX0_lowsBy_3 : decode cX0_lowsBy 3 = .ok (.istore 4, 2) := dk_54 4 (dk_at dksX0_lowsBy_0 3 rfl rfl)
theorem dX0_lowsBy_5 : decode cX0_lowsBy 5 = .ok (.iload 4, 2) := dk_21 4 (dk_at dksX0_lowsBy_0 5 rfl rfl)
theorem dX0_lowsBy_7 : decode cX0_lowsBy 7 = .ok (.bipush 9, 2) := dk_16 9 (dk_at dksX0_lowsBy_0 7 rfl rfl)
theorem dX0_lowsBy_9 : decode cX0_lowsBy 9 = .ok (.aload_n 0, 1) := dk_42 (dk_at dksX0_lowsBy_0 9 rfl rfl)
theorem dX0_lowsBy_10 : decode cX0_lowsBy 10 = .ok (.getfield 57, 3) := dk_180 0 57 (dk_at dksX0_lowsBy_0 10 rfl rfl)
theorem dX0_lowsBy_13 : decode cX0_lowsBy 13 = .ok (.getfield 237, 3) := dk_180 0 237 (dk_at dksX0_lowsBy_0 13 rfl rfl)
theorem dX0_lowsBy_16 : decode cX0_lowsBy 16 = .ok (.invokestatic 332, 3) := dk_184 1 76 (dk_at dksX0_lowsBy_0 16 rfl rfl)
theorem dX0_lowsBy_19 : decode cX0_lowsBy 19 = .ok (.if_icmp .gt 45, 3) := dk_163 0 45 (dk_at dksX0_lowsBy_0 19 rfl rfl)
theorem dX0_lowsBy_22 : decode cX0_lowsBy 22 = .ok (.aload_n 0, 1) := dk_42 (dk_at dksX0_lowsBy_0 22 rfl rfl)
theorem dX0_lowsBy_23 : decode cX0_lowsBy 23 = .ok (.invokevirtual 337, 3) := dk_182 1 81 (dk_at dksX0_lowsBy_1 0 rfl rfl)
theorem dX0_lowsBy_26 : decode cX0_lowsBy 26 = .ok (.iload 4, 2) := dk_21 4 (dk_at dksX0_lowsBy_1 3 rfl rfl)
theorem dX0_lowsBy_28 : decode cX0_lowsBy 28 = .ok (.putfield 234, 3) := dk_181 0 234 (dk_at dksX0_lowsBy_1 5 rfl rfl)
theorem dX0_lowsBy_31 : decode cX0_lowsBy 31 = .ok (.iload_n 3, 1) := dk_29 (dk_at dksX0_lowsBy_1 8 rfl rfl)
theorem dX0_lowsBy_32 : decode cX0_lowsBy 32 = .ok (.aload_n 0, 1) := dk_42 (dk_at dksX0_lowsBy_1 9 rfl rfl)
theorem dX0_lowsBy_33 : decode cX0_lowsBy 33 = .ok (.aload_n 0, 1) := dk_42 (dk_at dksX0_lowsBy_1 10 rfl rfl)
theorem dX0_lowsBy_34 : decode cX0_lowsBy 34 = .ok (.getfield 61, 3) := dk_180 0 61 (dk_at dksX0_lowsBy_1 11 rfl rfl)
theorem dX0_lowsBy_37 : decode cX0_lowsBy 37 = .ok (.invokevirtual 181, 3) := dk_182 0 181 (dk_at dksX0_lowsBy_1 14 rfl rfl)
theorem dX0_lowsBy_40 : decode cX0_lowsBy 40 = .ok (.iload_n 1, 1) := dk_27 (dk_at dksX0_lowsBy_1 17 rfl rfl)
theorem dX0_lowsBy_41 : decode cX0_lowsBy 41 = .ok (.aload_n 2, 1) := dk_44 (dk_at dksX0_lowsBy_1 18 rfl rfl)
theorem dX0_lowsBy_42 : decode cX0_lowsBy 42 = .ok (.invokevirtual 340, 3) := dk_182 1 84 (dk_at dksX0_lowsBy_1 19 rfl rfl)
theorem dX0_lowsBy_45 : decode cX0_lowsBy 45 = .ok (.ifCond .eq 10, 3) := dk_153 0 10 (dk_at dksX0_lowsBy_2 0 rfl rfl)
theorem dX0_lowsBy_48 : decode cX0_lowsBy 48 = .ok (.iconst 1, 1) := dk_4 (dk_at dksX0_lowsBy_2 3 rfl rfl)
theorem dX0_lowsBy_49 : decode cX0_lowsBy 49 = .ok (.iload 4, 2) := dk_21 4 (dk_at dksX0_lowsBy_2 4 rfl rfl)
theorem dX0_lowsBy_51 : decode cX0_lowsBy 51 = .ok (.ishl, 1) := dk_120 (dk_at dksX0_lowsBy_2 6 rfl rfl)
theorem dX0_lowsBy_52 : decode cX0_lowsBy 52 = .ok (.goto 4, 3) := dk_167 0 4 (dk_at dksX0_lowsBy_2 7 rfl rfl)
theorem dX0_lowsBy_55 : decode cX0_lowsBy 55 = .ok (.iconst 0, 1) := dk_3 (dk_at dksX0_lowsBy_2 10 rfl rfl)
theorem dX0_lowsBy_56 : decode cX0_lowsBy 56 = .ok (.ior, 1) := dk_128 (dk_at dksX0_lowsBy_2 11 rfl rfl)
theorem dX0_lowsBy_57 : decode cX0_lowsBy 57 = .ok (.istore_n 3, 1) := dk_62 (dk_at dksX0_lowsBy_2 12 rfl rfl)
theorem dX0_lowsBy_58 : decode cX0_lowsBy 58 = .ok (.iinc 4 1, 3) := dk_132 4 1 (dk_at dksX0_lowsBy_2 13 rfl rfl)
theorem dX0_lowsBy_61 : decode cX0_lowsBy 61 = .ok (.goto (-56), 3) := dk_167 255 200 (dk_at dksX0_lowsBy_2 16 rfl rfl)
theorem dX0_lowsBy_64 : decode cX0_lowsBy 64 = .ok (.iload_n 3, 1) := dk_29 (dk_at dksX0_lowsBy_2 19 rfl rfl)
theorem dX0_lowsBy_65 : decode cX0_lowsBy 65 = .ok (.ireturn, 1) := dk_172 (dk_at dksX0_lowsBy_2 20 rfl rfl)
abbrev cX0_asNow : ByteArray := prog_1_method_47_code
def yX0_asNow : MethodName := ⟨RX0, "asNow", "()LDatedContacts$Net;"⟩
def dkwX0_asNow_0 : List UInt8 := [42, 180, 0, 61, 42, 180, 0, 57, 182, 0, 185, 176]
abbrev dktX0_asNow_0 : List UInt8 := dkwX0_asNow_0 ++ []
theorem dksX0_asNow_0 : cX0_asNow.data.toList.drop 0 = dktX0_asNow_0 := by decide +kernel
theorem dX0_asNow_0 : decode cX0_asNow 0 = .ok (.aload_n 0, 1) := dk_42 (dk_at dksX0_asNow_0 0 rfl rfl)
theorem dX0_asNow_1 : decode cX0_asNow 1 = .ok (.getfield 61, 3) := dk_180 0 61 (dk_at dksX0_asNow_0 1 rfl rfl)
theorem dX0_asNow_4 : decode cX0_asNow 4 = .ok (.aload_n 0, 1) := dk_42 (dk_at dksX0_asNow_0 4 rfl rfl)
theorem dX0_asNow_5 : decode cX0_asNow 5 = .ok (.getfield 57, 3) := dk_180 0 57 (dk_at dksX0_asNow_0 5 rfl rfl)
theorem dX0_asNow_8 : decode cX0_asNow 8 = .ok (.invokevirtual 185, 3) := dk_182 0 185 (dk_at dksX0_asNow_0 8 rfl rfl)
theorem dX0_asNow_11 : decode cX0_asNow 11 = .ok (.areturn, 1) := dk_176 (dk_at dksX0_asNow_0 11 rfl rfl)
abbrev cX0_isSo : ByteArray := prog_1_method_48_code
def yX0_isSo : MethodName := ⟨RX0, "isSo", "(LDatedContacts$Net;I[I)Z"⟩
def dkwX0_isSo_2 : List UInt8 := [172]
abbrev dktX0_isSo_2 : List UInt8 := dkwX0_isSo_2 ++ []
def dkwX0_isSo_1 : List UInt8 := [180, 0, 67, 21, 4, 182, 1, 73, 45, 21, 4, 46, 159, 0, 5, 3, 172, 132, 4, 1, 167, 255, 228, 4]
abbrev dktX0_isSo_1 : List UInt8 := dkwX0_isSo_1 ++ dktX0_isSo_2
def dkwX0_isSo_0 : List UInt8 := [42, 180, 0, 67, 43, 28, 3, 3, 182, 1, 15, 87, 3, 54, 4, 21, 4, 45, 190, 162, 0, 27, 42]
abbrev dktX0_isSo_0 : List UInt8 := dkwX0_isSo_0 ++ dktX0_isSo_1
theorem dksX0_isSo_0 : cX0_isSo.data.toList.drop 0 = dktX0_isSo_0 := by decide +kernel
theorem dksX0_isSo_1 : cX0_isSo.data.toList.drop 23 = dktX0_isSo_1 := dk_seg dksX0_isSo_0 23 rfl rfl
theorem dksX0_isSo_2 : cX0_isSo.data.toList.drop 47 = dktX0_isSo_2 := dk_seg dksX0_isSo_1 24 rfl rfl
theorem dX0_isSo_0 : decode cX0_isSo 0 = .ok (.aload_n 0, 1) := dk_42 (dk_at dksX0_isSo_0 0 rfl rfl)
theorem dX0_isSo_1 : decode cX0_isSo 1 = .ok (.getfield 67, 3) := dk_180 0 67 (dk_at dksX0_isSo_0 1 rfl rfl)
theorem dX0_isSo_4 : decode cX0_isSo 4 = .ok (.aload_n 1, 1) := dk_43 (dk_at dksX0_isSo_0 4 rfl rfl)
theorem dX0_isSo_5 : decode cX0_isSo 5 = .ok (.iload_n 2, 1) := dk_28 (dk_at dksX0_isSo_0 5 rfl rfl)
theorem dX0_isSo_6 : decode cX0_isSo 6 = .ok (.iconst 0, 1) := dk_3 (dk_at dksX0_isSo_0 6 rfl rfl)
theorem dX0_isSo_7 : decode cX0_isSo 7 = .ok (.iconst 0, 1) := dk_3 (dk_at dksX0_isSo_0 7 rfl rfl)
theorem dX0_isSo_8 : decode cX0_isSo 8 = .ok (.invokevirtual 271, 3) := dk_182 1 15 (dk_at dksX0_isSo_0 8 rfl rfl)
theorem dX0_isSo_11 : decode cX0_isSo 11 = .ok (.pop, 1) := dk_87 (dk_at dksX0_isSo_0 11 rfl rfl)
theorem dX0_isSo_12 : decode cX0_isSo 12 = .ok (.iconst 0, 1) := dk_3 (dk_at dksX0_isSo_0 12 rfl rfl)
theorem dX0_isSo_13 : decode cX0_isSo 13 = .ok (.istore 4, 2) := dk_54 4 (dk_at dksX0_isSo_0 13 rfl rfl)
theorem dX0_isSo_15 : decode cX0_isSo 15 = .ok (.iload 4, 2) := dk_21 4 (dk_at dksX0_isSo_0 15 rfl rfl)
theorem dX0_isSo_17 : decode cX0_isSo 17 = .ok (.aload_n 3, 1) := dk_45 (dk_at dksX0_isSo_0 17 rfl rfl)
theorem dX0_isSo_18 : decode cX0_isSo 18 = .ok (.arraylength, 1) := dk_190 (dk_at dksX0_isSo_0 18 rfl rfl)
theorem dX0_isSo_19 : decode cX0_isSo 19 = .ok (.if_icmp .ge 27, 3) := dk_162 0 27 (dk_at dksX0_isSo_0 19 rfl rfl)
theorem dX0_isSo_22 : decode cX0_isSo 22 = .ok (.aload_n 0, 1) := dk_42 (dk_at dksX0_isSo_0 22 rfl rfl)
theorem dX0_isSo_23 : decode cX0_isSo 23 = .ok (.getfield 67, 3) := dk_180 0 67 (dk_at dksX0_isSo_1 0 rfl rfl)
theorem dX0_isSo_26 : decode cX0_isSo 26 = .ok (.iload 4, 2) := dk_21 4 (dk_at dksX0_isSo_1 3 rfl rfl)
theorem dX0_isSo_28 : decode cX0_isSo 28 = .ok (.invokevirtual 329, 3) := dk_182 1 73 (dk_at dksX0_isSo_1 5 rfl rfl)
theorem dX0_isSo_31 : decode cX0_isSo 31 = .ok (.aload_n 3, 1) := dk_45 (dk_at dksX0_isSo_1 8 rfl rfl)
theorem dX0_isSo_32 : decode cX0_isSo 32 = .ok (.iload 4, 2) := dk_21 4 (dk_at dksX0_isSo_1 9 rfl rfl)
theorem dX0_isSo_34 : decode cX0_isSo 34 = .ok (.iaload, 1) := dk_46 (dk_at dksX0_isSo_1 11 rfl rfl)
theorem dX0_isSo_35 : decode cX0_isSo 35 = .ok (.if_icmp .eq 5, 3) := dk_159 0 5 (dk_at dksX0_isSo_1 12 rfl rfl)
theorem dX0_isSo_38 : decode cX0_isSo 38 = .ok (.iconst 0, 1) := dk_3 (dk_at dksX0_isSo_1 15 rfl rfl)
theorem dX0_isSo_39 : decode cX0_isSo 39 = .ok (.ireturn, 1) := dk_172 (dk_at dksX0_isSo_1 16 rfl rfl)
theorem dX0_isSo_40 : decode cX0_isSo 40 = .ok (.iinc 4 1, 3) := dk_132 4 1 (dk_at dksX0_isSo_1 17 rfl rfl)
theorem dX0_isSo_43 : decode cX0_isSo 43 = .ok (.goto (-28), 3) := dk_167 255 228 (dk_at dksX0_isSo_1 20 rfl rfl)
theorem dX0_isSo_46 : decode cX0_isSo 46 = .ok (.iconst 1, 1) := dk_4 (dk_at dksX0_isSo_1 23 rfl rfl)
theorem dX0_isSo_47 : decode cX0_isSo 47 = .ok (.ireturn, 1) := dk_172 (dk_at dksX0_isSo_2 0 rfl rfl)
abbrev cX0_daysBy : ByteArray := prog_1_method_50_code
def yX0_daysBy : MethodName := ⟨RX0, "daysBy", "(II[I)I"⟩
def dkwX0_daysBy_2 : List UInt8 := [54, 4, 132, 5, 1, 167, 255, 209, 21, 4, 172]
abbrev dktX0_daysBy_2 : List UInt8 := dkwX0_daysBy_2 ++ []
def dkwX0_daysBy_1 : List UInt8 := [21, 4, 42, 42, 180, 0, 61, 27, 45, 182, 1, 84, 153, 0, 10, 4, 21, 5, 120, 167, 0, 4, 3, 128]
abbrev dktX0_daysBy_1 : List UInt8 := dkwX0_daysBy_1 ++ dktX0_daysBy_2
def dkwX0_daysBy_0 : List UInt8 := [3, 54, 4, 3, 54, 5, 21, 5, 16, 31, 162, 0, 46, 42, 182, 1, 81, 180, 0, 216, 28, 21, 5, 79]
abbrev dktX0_daysBy_0 : List UInt8 := dkwX0_daysBy_0 ++ dktX0_daysBy_1
theorem dksX0_daysBy_0 : cX0_daysBy.data.toList.drop 0 = dktX0_daysBy_0 := by decide +kernel
theorem dksX0_daysBy_1 : cX0_daysBy.data.toList.drop 24 = dktX0_daysBy_1 := dk_seg dksX0_daysBy_0 24 rfl rfl
theorem dksX0_daysBy_2 : cX0_daysBy.data.toList.drop 48 = dktX0_daysBy_2 := dk_seg dksX0_daysBy_1 24 rfl rfl
theorem dX0_daysBy_0 : decode cX0_daysBy 0 = .ok (.iconst 0, 1) := dk_3 (dk_at dksX0_daysBy_0 0 rfl rfl)
theorem dX0_daysBy_1 : decode cX0_daysBy 1 = .ok (.istore 4, 2) := dk_54 4 (dk_at dksX0_daysBy_0 1 rfl rfl)
theorem dX0_daysBy_3 : decode cX0_daysBy 3 = .ok (.iconst 0, 1) := dk_3 (dk_at dksX0_daysBy_0 3 rfl rfl)
theorem dX0_daysBy_4 : decode cX0_daysBy 4 = .ok (.istore 5, 2) := dk_54 5 (dk_at dksX0_daysBy_0 4 rfl rfl)
theorem dX0_daysBy_6 : decode cX0_daysBy 6 = .ok (.iload 5, 2) := dk_21 5 (dk_at dksX0_daysBy_0 6 rfl rfl)
theorem dX0_daysBy_8 : decode cX0_daysBy 8 = .ok (.bipush 31, 2) := dk_16 31 (dk_at dksX0_daysBy_0 8 rfl rfl)
theorem dX0_daysBy_10 : decode cX0_daysBy 10 = .ok (.if_icmp .ge 46, 3) := dk_162 0 46 (dk_at dksX0_daysBy_0 10 rfl rfl)
theorem dX0_daysBy_13 : decode cX0_daysBy 13 = .ok (.aload_n 0, 1) := dk_42 (dk_at dksX0_daysBy_0 13 rfl rfl)
theorem dX0_daysBy_14 : decode cX0_daysBy 14 = .ok (.invokevirtual 337, 3) := dk_182 1 81 (dk_at dksX0_daysBy_0 14 rfl rfl)
theorem dX0_daysBy_17 : decode cX0_daysBy 17 = .ok (.getfield 216, 3) := dk_180 0 216 (dk_at dksX0_daysBy_0 17 rfl rfl)
theorem dX0_daysBy_20 : decode cX0_daysBy 20 = .ok (.iload_n 2, 1) := dk_28 (dk_at dksX0_daysBy_0 20 rfl rfl)
theorem dX0_daysBy_21 : decode cX0_daysBy 21 = .ok (.iload 5, 2) := dk_21 5 (dk_at dksX0_daysBy_0 21 rfl rfl)
theorem dX0_daysBy_23 : decode cX0_daysBy 23 = .ok (.iastore, 1) := dk_79 (dk_at dksX0_daysBy_0 23 rfl rfl)
theorem dX0_daysBy_24 : decode cX0_daysBy 24 = .ok (.iload 4, 2) := dk_21 4 (dk_at dksX0_daysBy_1 0 rfl rfl)
theorem dX0_daysBy_26 : decode cX0_daysBy 26 = .ok (.aload_n 0, 1) := dk_42 (dk_at dksX0_daysBy_1 2 rfl rfl)
theorem dX0_daysBy_27 : decode cX0_daysBy 27 = .ok (.aload_n 0, 1) := dk_42 (dk_at dksX0_daysBy_1 3 rfl rfl)
theorem dX0_daysBy_28 : decode cX0_daysBy 28 = .ok (.getfield 61, 3) := dk_180 0 61 (dk_at dksX0_daysBy_1 4 rfl rfl)
theorem dX0_daysBy_31 : decode cX0_daysBy 31 = .ok (.iload_n 1, 1) := dk_27 (dk_at dksX0_daysBy_1 7 rfl rfl)
theorem dX0_daysBy_32 : decode cX0_daysBy 32 = .ok (.aload_n 3, 1) := dk_45 (dk_at dksX0_daysBy_1 8 rfl rfl)
theorem dX0_daysBy_33 : decode cX0_daysBy 33 = .ok (.invokevirtual 340, 3) := dk_182 1 84 (dk_at dksX0_daysBy_1 9 rfl rfl)
theorem dX0_daysBy_36 : decode cX0_daysBy 36 = .ok (.ifCond .eq 10, 3) := dk_153 0 10 (dk_at dksX0_daysBy_1 12 rfl rfl)
theorem dX0_daysBy_39 : decode cX0_daysBy 39 = .ok (.iconst 1, 1) := dk_4 (dk_at dksX0_daysBy_1 15 rfl rfl)
theorem dX0_daysBy_40 : decode cX0_daysBy 40 = .ok (.iload 5, 2) := dk_21 5 (dk_at dksX0_daysBy_1 16 rfl rfl)
theorem dX0_daysBy_42 : decode cX0_daysBy 42 = .ok (.ishl, 1) := dk_120 (dk_at dksX0_daysBy_1 18 rfl rfl)
theorem dX0_daysBy_43 : decode cX0_daysBy 43 = .ok (.goto 4, 3) := dk_167 0 4 (dk_at dksX0_daysBy_1 19 rfl rfl)
theorem dX0_daysBy_46 : decode cX0_daysBy 46 = .ok (.iconst 0, 1) := dk_3 (dk_at dksX0_daysBy_1 22 rfl rfl)
theorem dX0_daysBy_47 : decode cX0_daysBy 47 = .ok (.ior, 1) := dk_128 (dk_at dksX0_daysBy_1 23 rfl rfl)
theorem dX0_daysBy_48 : decode cX0_daysBy 48 = .ok (.istore 4, 2) := dk_54 4 (dk_at dksX0_daysBy_2 0 rfl rfl)
theorem dX0_daysBy_50 : decode cX0_daysBy 50 = .ok (.iinc 5 1, 3) := dk_132 5 1 (dk_at dksX0_daysBy_2 2 rfl rfl)
theorem dX0_daysBy_53 : decode cX0_daysBy 53 = .ok (.goto (-47), 3) := dk_167 255 209 (dk_at dksX0_daysBy_2 5 rfl rfl)
theorem dX0_daysBy_56 : decode cX0_daysBy 56 = .ok (.iload 4, 2) := dk_21 4 (dk_at dksX0_daysBy_2 8 rfl rfl)
theorem dX0_daysBy_58 : decode cX0_daysBy 58 = .ok (.ireturn, 1) := dk_172 (dk_at dksX0_daysBy_2 10 rfl rfl)
abbrev cX0_kindsBy : ByteArray := prog_1_method_51_code
def yX0_kindsBy : MethodName := ⟨RX0, "kindsBy", "(II[I)I"⟩
def dkwX0_kindsBy_2 : List UInt8 := [21, 5, 120, 167, 0, 4, 3, 128, 54, 4, 132, 5, 1, 167, 255, 203, 21, 4, 172]
abbrev dktX0_kindsBy_2 : List UInt8 := dkwX0_kindsBy_2 ++ []
def dkwX0_kindsBy_1 : List UInt8 := [184, 0, 248, 83, 21, 4, 42, 42, 180, 0, 61, 182, 0, 181, 27, 45, 182, 1, 84, 153, 0, 10, 4]
abbrev dktX0_kindsBy_1 : List UInt8 := dkwX0_kindsBy_1 ++ dktX0_kindsBy_2
def dkwX0_kindsBy_0 : List UInt8 := [3, 54, 4, 4, 54, 5, 21, 5, 8, 163, 0, 53, 42, 182, 1, 81, 180, 0, 242, 28, 21, 5, 28]
abbrev dktX0_kindsBy_0 : List UInt8 := dkwX0_kindsBy_0 ++ dktX0_kindsBy_1
theorem dksX0_kindsBy_0 : cX0_kindsBy.data.toList.drop 0 = dktX0_kindsBy_0 := by decide +kernel
theorem dksX0_kindsBy_1 : cX0_kindsBy.data.toList.drop 23 = dktX0_kindsBy_1 := dk_seg dksX0_kindsBy_0 23 rfl rfl
theorem dksX0_kindsBy_2 : cX0_kindsBy.data.toList.drop 46 = dktX0_kindsBy_2 := dk_seg dksX0_kindsBy_1 23 rfl rfl
theorem dX0_kindsBy_0 : decode cX0_kindsBy 0 = .ok (.iconst 0, 1) := dk_3 (dk_at dksX0_kindsBy_0 0 rfl rfl)
theorem dX0_kindsBy_1 : decode cX0_kindsBy 1 = .ok (.istore 4, 2) := dk_54 4 (dk_at dksX0_kindsBy_0 1 rfl rfl)
theorem dX0_kindsBy_3 : decode cX0_kindsBy 3 = .ok (.iconst 1, 1) := dk_4 (dk_at dksX0_kindsBy_0 3 rfl rfl)
theorem dX0_kindsBy_4 : decode cX0_kindsBy 4 = .ok (.istore 5, 2) := dk_54 5 (dk_at dksX0_kindsBy_0 4 rfl rfl)
theorem dX0_kindsBy_6 : decode cX0_kindsBy 6 = .ok (.iload 5, 2) := dk_21 5 (dk_at dksX0_kindsBy_0 6 rfl rfl)
theorem dX0_kindsBy_8 : decode cX0_kindsBy 8 = .ok (.iconst 5, 1) := dk_8 (dk_at dksX0_kindsBy_0 8 rfl rfl)
theorem dX0_kindsBy_9 : decode cX0_kindsBy 9 = .ok (.if_icmp .gt 53, 3) := dk_163 0 53 (dk_at dksX0_kindsBy_0 9 rfl rfl)
theorem dX0_kindsBy_12 : decode cX0_kindsBy 12 = .ok (.aload_n 0, 1) := dk_42 (dk_at dksX0_kindsBy_0 12 rfl rfl)
theorem dX0_kindsBy_13 : decode cX0_kindsBy 13 = .ok (.invokevirtual 337, 3) := dk_182 1 81 (dk_at dksX0_kindsBy_0 13 rfl rfl)
theorem dX0_kindsBy_16 : decode cX0_kindsBy 16 = .ok (.getfield 242, 3) := dk_180 0 242 (dk_at dksX0_kindsBy_0 16 rfl rfl)
theorem dX0_kindsBy_19 : decode cX0_kindsBy 19 = .ok (.iload_n 2, 1) := dk_28 (dk_at dksX0_kindsBy_0 19 rfl rfl)
theorem dX0_kindsBy_20 : decode cX0_kindsBy 20 = .ok (.iload 5, 2) := dk_21 5 (dk_at dksX0_kindsBy_0 20 rfl rfl)
theorem dX0_kindsBy_22 : decode cX0_kindsBy 22 = .ok (.iload_n 2, 1) := dk_28 (dk_at dksX0_kindsBy_0 22 rfl rfl)
theorem dX0_kindsBy_23 : decode cX0_kindsBy 23 = .ok (.invokestatic 248, 3) := dk_184 0 248 (dk_at dksX0_kindsBy_1 0 rfl rfl)
theorem dX0_kindsBy_26 : decode cX0_kindsBy 26 = .ok (.aastore, 1) := dk_83 (dk_at dksX0_kindsBy_1 3 rfl rfl)
theorem dX0_kindsBy_27 : decode cX0_kindsBy 27 = .ok (.iload 4, 2) := dk_21 4 (dk_at dksX0_kindsBy_1 4 rfl rfl)
theorem dX0_kindsBy_29 : decode cX0_kindsBy 29 = .ok (.aload_n 0, 1) := dk_42 (dk_at dksX0_kindsBy_1 6 rfl rfl)
theorem dX0_kindsBy_30 : decode cX0_kindsBy 30 = .ok (.aload_n 0, 1) := dk_42 (dk_at dksX0_kindsBy_1 7 rfl rfl)
theorem dX0_kindsBy_31 : decode cX0_kindsBy 31 = .ok (.getfield 61, 3) := dk_180 0 61 (dk_at dksX0_kindsBy_1 8 rfl rfl)
theorem dX0_kindsBy_34 : decode cX0_kindsBy 34 = .ok (.invokevirtual 181, 3) := dk_182 0 181 (dk_at dksX0_kindsBy_1 11 rfl rfl)
theorem dX0_kindsBy_37 : decode cX0_kindsBy 37 = .ok (.iload_n 1, 1) := dk_27 (dk_at dksX0_kindsBy_1 14 rfl rfl)
theorem dX0_kindsBy_38 : decode cX0_kindsBy 38 = .ok (.aload_n 3, 1) := dk_45 (dk_at dksX0_kindsBy_1 15 rfl rfl)
theorem dX0_kindsBy_39 : decode cX0_kindsBy 39 = .ok (.invokevirtual 340, 3) := dk_182 1 84 (dk_at dksX0_kindsBy_1 16 rfl rfl)
theorem dX0_kindsBy_42 : decode cX0_kindsBy 42 = .ok (.ifCond .eq 10, 3) := dk_153 0 10 (dk_at dksX0_kindsBy_1 19 rfl rfl)
theorem dX0_kindsBy_45 : decode cX0_kindsBy 45 = .ok (.iconst 1, 1) := dk_4 (dk_at dksX0_kindsBy_1 22 rfl rfl)
theorem dX0_kindsBy_46 : decode cX0_kindsBy 46 = .ok (.iload 5, 2) := dk_21 5 (dk_at dksX0_kindsBy_2 0 rfl rfl)
theorem dX0_kindsBy_48 : decode cX0_kindsBy 48 = .ok (.ishl, 1) := dk_120 (dk_at dksX0_kindsBy_2 2 rfl rfl)
theorem dX0_kindsBy_49 : decode cX0_kindsBy 49 = .ok (.goto 4, 3) := dk_167 0 4 (dk_at dksX0_kindsBy_2 3 rfl rfl)
theorem dX0_kindsBy_52 : decode cX0_kindsBy 52 = .ok (.iconst 0, 1) := dk_3 (dk_at dksX0_kindsBy_2 6 rfl rfl)
theorem dX0_kindsBy_53 : decode cX0_kindsBy 53 = .ok (.ior, 1) := dk_128 (dk_at dksX0_kindsBy_2 7 rfl rfl)
theorem dX0_kindsBy_54 : decode cX0_kindsBy 54 = .ok (.istore 4, 2) := dk_54 4 (dk_at dksX0_kindsBy_2 8 rfl rfl)
theorem dX0_kindsBy_56 : decode cX0_kindsBy 56 = .ok (.iinc 5 1, 3) := dk_132 5 1 (dk_at dksX0_kindsBy_2 10 rfl rfl)
theorem dX0_kindsBy_59 : decode cX0_kindsBy 59 = .ok (.goto (-53), 3) := dk_167 255 203 (dk_at dksX0_kindsBy_2 13 rfl rfl)
theorem dX0_kindsBy_62 : decode cX0_kindsBy 62 = .ok (.iload 4, 2) := dk_21 4 (dk_at dksX0_kindsBy_2 16 rfl rfl)
theorem dX0_kindsBy_64 : decode cX0_kindsBy 64 = .ok (.ireturn, 1) := dk_172 (dk_at dksX0_kindsBy_2 18 rfl rfl)
abbrev cX0_tell : ByteArray := prog_1_method_54_code
def yX0_tell : MethodName := ⟨RX0, "tell", "(III)I"⟩
def dkwX0_tell_4 : List UInt8 := [132, 5, 1, 167, 255, 225, 42, 21, 4, 182, 0, 118, 172, 58, 4, 42, 4, 182, 0, 124, 172]
abbrev dktX0_tell_4 : List UInt8 := dkwX0_tell_4 ++ []
def dkwX0_tell_3 : List UInt8 := [162, 0, 30, 42, 180, 0, 46, 29, 50, 21, 5, 42, 180, 0, 67, 21, 5, 182, 1, 73, 182, 0, 127, 87]
abbrev dktX0_tell_3 : List UInt8 := dkwX0_tell_3 ++ dktX0_tell_4
def dkwX0_tell_2 : List UInt8 := [182, 0, 145, 42, 180, 0, 57, 180, 0, 192, 184, 1, 76, 54, 4, 3, 54, 5, 21, 5, 21, 4]
abbrev dktX0_tell_2 : List UInt8 := dkwX0_tell_2 ++ dktX0_tell_3
def dkwX0_tell_1 : List UInt8 := [172, 42, 180, 0, 67, 42, 180, 0, 57, 27, 28, 3, 182, 1, 15, 87, 42, 180, 0, 46, 29, 50]
abbrev dktX0_tell_1 : List UInt8 := dkwX0_tell_1 ++ dktX0_tell_2
def dkwX0_tell_0 : List UInt8 := [42, 27, 182, 0, 200, 153, 0, 17, 28, 184, 0, 203, 153, 0, 10, 29, 184, 0, 103, 154, 0, 6, 18, 109]
abbrev dktX0_tell_0 : List UInt8 := dkwX0_tell_0 ++ dktX0_tell_1
theorem dksX0_tell_0 : cX0_tell.data.toList.drop 0 = dktX0_tell_0 := by decide +kernel
theorem dksX0_tell_1 : cX0_tell.data.toList.drop 24 = dktX0_tell_1 := dk_seg dksX0_tell_0 24 rfl rfl
theorem dksX0_tell_2 : cX0_tell.data.toList.drop 46 = dktX0_tell_2 := dk_seg dksX0_tell_1 22 rfl rfl
theorem dksX0_tell_3 : cX0_tell.data.toList.drop 68 = dktX0_tell_3 := dk_seg dksX0_tell_2 22 rfl rfl
theorem dksX0_tell_4 : cX0_tell.data.toList.drop 92 = dktX0_tell_4 := dk_seg dksX0_tell_3 24 rfl rfl
theorem dX0_tell_0 : decode cX0_tell 0 = .ok (.aload_n 0, 1) := dk_42 (dk_at dksX0_tell_0 0 rfl rfl)
theorem dX0_tell_1 : decode cX0_tell 1 = .ok (.iload_n 1, 1) := dk_27 (dk_at dksX0_tell_0 1 rfl rfl)
theorem dX0_tell_2 : decode cX0_tell 2 = .ok (.invokevirtual 200, 3) := dk_182 0 200 (dk_at dksX0_tell_0 2 rfl rfl)
theorem dX0_tell_5 : decode cX0_tell 5 = .ok (.ifCond .eq 17, 3) := dk_153 0 17 (dk_at dksX0_tell_0 5 rfl rfl)
theorem dX0_tell_8 : decode cX0_tell 8 = .ok (.iload_n 2, 1) := dk_28 (dk_at dksX0_tell_0 8 rfl rfl)
theorem dX0_tell_9 : decode cX0_tell 9 = .ok (.invokestatic 203, 3) := dk_184 0 203 (dk_at dksX0_tell_0 9 rfl rfl)
theorem dX0_tell_12 : decode cX0_tell 12 = .ok (.ifCond .eq 10, 3) := dk_153 0 10 (dk_at dksX0_tell_0 12 rfl rfl)
theorem dX0_tell_15 : decode cX0_tell 15 = .ok (.iload_n 3, 1) := dk_29 (dk_at dksX0_tell_0 15 rfl rfl)
theorem dX0_tell_16 : decode cX0_tell 16 = .ok (.invokestatic 103, 3) := dk_184 0 103 (dk_at dksX0_tell_0 16 rfl rfl)
theorem dX0_tell_19 : decode cX0_tell 19 = .ok (.ifCond .ne 6, 3) := dk_154 0 6 (dk_at dksX0_tell_0 19 rfl rfl)
theorem dX0_tell_22 : decode cX0_tell 22 = .ok (.ldc 109, 2) := dk_18 109 (dk_at dksX0_tell_0 22 rfl rfl)
theorem dX0_tell_24 : decode cX0_tell 24 = .ok (.ireturn, 1) := dk_172 (dk_at dksX0_tell_1 0 rfl rfl)
theorem dX0_tell_25 : decode cX0_tell 25 = .ok (.aload_n 0, 1) := dk_42 (dk_at dksX0_tell_1 1 rfl rfl)
theorem dX0_tell_26 : decode cX0_tell 26 = .ok (.getfield 67, 3) := dk_180 0 67 (dk_at dksX0_tell_1 2 rfl rfl)
theorem dX0_tell_29 : decode cX0_tell 29 = .ok (.aload_n 0, 1) := dk_42 (dk_at dksX0_tell_1 5 rfl rfl)
theorem dX0_tell_30 : decode cX0_tell 30 = .ok (.getfield 57, 3) := dk_180 0 57 (dk_at dksX0_tell_1 6 rfl rfl)
theorem dX0_tell_33 : decode cX0_tell 33 = .ok (.iload_n 1, 1) := dk_27 (dk_at dksX0_tell_1 9 rfl rfl)
theorem dX0_tell_34 : decode cX0_tell 34 = .ok (.iload_n 2, 1) := dk_28 (dk_at dksX0_tell_1 10 rfl rfl)
theorem dX0_tell_35 : decode cX0_tell 35 = .ok (.iconst 0, 1) := dk_3 (dk_at dksX0_tell_1 11 rfl rfl)
theorem dX0_tell_36 : decode cX0_tell 36 = .ok (.invokevirtual 271, 3) := dk_182 1 15 (dk_at dksX0_tell_1 12 rfl rfl)
theorem dX0_tell_39 : decode cX0_tell 39 = .ok (.pop, 1) := dk_87 (dk_at dksX0_tell_1 15 rfl rfl)
theorem dX0_tell_40 : decode cX0_tell 40 = .ok (.aload_n 0, 1) := dk_42 (dk_at dksX0_tell_1 16 rfl rfl)
theorem dX0_tell_41 : decode cX0_tell 41 = .ok (.getfield 46, 3) := dk_180 0 46 (dk_at dksX0_tell_1 17 rfl rfl)
theorem dX0_tell_44 : decode cX0_tell 44 = .ok (.iload_n 3, 1) := dk_29 (dk_at dksX0_tell_1 20 rfl rfl)
theorem dX0_tell_45 : decode cX0_tell 45 = .ok (.aaload, 1) := dk_50 (dk_at dksX0_tell_1 21 rfl rfl)
theorem dX0_tell_46 : decode cX0_tell 46 = .ok (.invokevirtual 145, 3) := dk_182 0 145 (dk_at dksX0_tell_2 0 rfl rfl)
theorem dX0_tell_49 : decode cX0_tell 49 = .ok (.aload_n 0, 1) := dk_42 (dk_at dksX0_tell_2 3 rfl rfl)
theorem dX0_tell_50 : decode cX0_tell 50 = .ok (.getfield 57, 3) := dk_180 0 57 (dk_at dksX0_tell_2 4 rfl rfl)
theorem dX0_tell_53 : decode cX0_tell 53 = .ok (.getfield 192, 3) := dk_180 0 192 (dk_at dksX0_tell_2 7 rfl rfl)
theorem dX0_tell_56 : decode cX0_tell 56 = .ok (.invokestatic 332, 3) := dk_184 1 76 (dk_at dksX0_tell_2 10 rfl rfl)
theorem dX0_tell_59 : decode cX0_tell 59 = .ok (.istore 4, 2) := dk_54 4 (dk_at dksX0_tell_2 13 rfl rfl)
theorem dX0_tell_61 : decode cX0_tell 61 = .ok (.iconst 0, 1) := dk_3 (dk_at dksX0_tell_2 15 rfl rfl)
theorem dX0_tell_62 : decode cX0_tell 62 = .ok (.istore 5, 2) := dk_54 5 (dk_at dksX0_tell_2 16 rfl rfl)
theorem dX0_tell_64 : decode cX0_tell 64 = .ok (.iload 5, 2) := dk_21 5 (dk_at dksX0_tell_2 18 rfl rfl)
theorem dX0_tell_66 : decode cX0_tell 66 = .ok (.iload 4, 2) := dk_21 4 (dk_at dksX0_tell_2 20 rfl rfl)
theorem dX0_tell_68 : decode cX0_tell 68 = .ok (.if_icmp .ge 30, 3) := dk_162 0 30 (dk_at dksX0_tell_3 0 rfl rfl)
theorem dX0_tell_71 : decode cX0_tell 71 = .ok (.aload_n 0, 1) := dk_42 (dk_at dksX0_tell_3 3 rfl rfl)
theorem dX0_tell_72 : decode cX0_tell 72 = .ok (.getfield 46, 3) := dk_180 0 46 (dk_at dksX0_tell_3 4 rfl rfl)
theorem dX0_tell_75 : decode cX0_tell 75 = .ok (.iload_n 3, 1) := dk_29 (dk_at dksX0_tell_3 7 rfl rfl)
theorem dX0_tell_76 : decode cX0_tell 76 = .ok (.aaload, 1) := dk_50 (dk_at dksX0_tell_3 8 rfl rfl)
theorem dX0_tell_77 : decode cX0_tell 77 = .ok (.iload 5, 2) := dk_21 5 (dk_at dksX0_tell_3 9 rfl rfl)
theorem dX0_tell_79 : decode cX0_tell 79 = .ok (.aload_n 0, 1) := dk_42 (dk_at dksX0_tell_3 11 rfl rfl)
theorem dX0_tell_80 : decode cX0_tell 80 = .ok (.getfield 67, 3) := dk_180 0 67 (dk_at dksX0_tell_3 12 rfl rfl)
theorem dX0_tell_83 : decode cX0_tell 83 = .ok (.iload 5, 2) := dk_21 5 (dk_at dksX0_tell_3 15 rfl rfl)
theorem dX0_tell_85 : decode cX0_tell 85 = .ok (.invokevirtual 329, 3) := dk_182 1 73 (dk_at dksX0_tell_3 17 rfl rfl)
theorem dX0_tell_88 : decode cX0_tell 88 = .ok (.invokevirtual 127, 3) := dk_182 0 127 (dk_at dksX0_tell_3 20 rfl rfl)
theorem dX0_tell_91 : decode cX0_tell 91 = .ok (.pop, 1) := dk_87 (dk_at dksX0_tell_3 23 rfl rfl)
theorem dX0_tell_92 : decode cX0_tell 92 = .ok (.iinc 5 1, 3) := dk_132 5 1 (dk_at dksX0_tell_4 0 rfl rfl)
theorem dX0_tell_95 : decode cX0_tell 95 = .ok (.goto (-31), 3) := dk_167 255 225 (dk_at dksX0_tell_4 3 rfl rfl)
theorem dX0_tell_98 : decode cX0_tell 98 = .ok (.aload_n 0, 1) := dk_42 (dk_at dksX0_tell_4 6 rfl rfl)
theorem dX0_tell_99 : decode cX0_tell 99 = .ok (.iload 4, 2) := dk_21 4 (dk_at dksX0_tell_4 7 rfl rfl)
theorem dX0_tell_101 : decode cX0_tell 101 = .ok (.invokevirtual 118, 3) := dk_182 0 118 (dk_at dksX0_tell_4 9 rfl rfl)
theorem dX0_tell_104 : decode cX0_tell 104 = .ok (.ireturn, 1) := dk_172 (dk_at dksX0_tell_4 12 rfl rfl)
theorem dX0_tell_105 : decode cX0_tell 105 = .ok (.astore 4, 2) := dk_58 4 (dk_at dksX0_tell_4 13 rfl rfl)
theorem dX0_tell_107 : decode cX0_tell 107 = .ok (.aload_n 0, 1) := dk_42 (dk_at dksX0_tell_4 15 rfl rfl)
theorem dX0_tell_108 : decode cX0_tell 108 = .ok (.iconst 1, 1) := dk_4 (dk_at dksX0_tell_4 16 rfl rfl)
theorem dX0_tell_109 : decode cX0_tell 109 = .ok (.invokevirtual 124, 3) := dk_182 0 124 (dk_at dksX0_tell_4 17 rfl rfl)
theorem dX0_tell_112 : decode cX0_tell 112 = .ok (.ireturn, 1) := dk_172 (dk_at dksX0_tell_4 20 rfl rfl)
abbrev cX0_drawn : ByteArray := prog_1_method_55_code
def yX0_drawn : MethodName := ⟨RX0, "drawn", "(III)I"⟩
def dkwX0_drawn_5 : List UInt8 := [182, 1, 15, 182, 1, 116, 96, 54, 5, 132, 8, 1, 167, 255, 180, 21, 5, 172]
abbrev dktX0_drawn_5 : List UInt8 := dkwX0_drawn_5 ++ []
def dkwX0_drawn_4 : List UInt8 := [22, 6, 20, 1, 112, 109, 20, 1, 114, 113, 136, 79, 21, 5, 42, 180, 0, 67, 25, 4, 27, 3, 3]
abbrev dktX0_drawn_4 : List UInt8 := dkwX0_drawn_4 ++ dktX0_drawn_5
def dkwX0_drawn_3 : List UInt8 := [25, 4, 180, 0, 195, 158, 0, 30, 25, 4, 180, 0, 216, 22, 6, 25, 4, 180, 0, 195, 133, 113, 136]
abbrev dktX0_drawn_3 : List UInt8 := dkwX0_drawn_3 ++ dktX0_drawn_4
def dkwX0_drawn_2 : List UInt8 := [55, 6, 3, 54, 8, 21, 8, 28, 162, 0, 76, 22, 6, 20, 1, 108, 105, 20, 1, 110, 113, 55, 6]
abbrev dktX0_drawn_2 : List UInt8 := dkwX0_drawn_2 ++ dktX0_drawn_3
def dkwX0_drawn_1 : List UInt8 := [20, 1, 106, 184, 0, 99, 154, 0, 6, 18, 109, 172, 42, 182, 1, 81, 58, 4, 3, 54, 5, 29, 133]
abbrev dktX0_drawn_1 : List UInt8 := dkwX0_drawn_1 ++ dktX0_drawn_2
def dkwX0_drawn_0 : List UInt8 := [42, 27, 182, 0, 200, 153, 0, 27, 28, 133, 9, 20, 0, 198, 184, 0, 99, 153, 0, 15, 29, 133, 10]
abbrev dktX0_drawn_0 : List UInt8 := dkwX0_drawn_0 ++ dktX0_drawn_1
theorem dksX0_drawn_0 : cX0_drawn.data.toList.drop 0 = dktX0_drawn_0 := by decide +kernel
theorem dksX0_drawn_1 : cX0_drawn.data.toList.drop 23 = dktX0_drawn_1 := dk_seg dksX0_drawn_0 23 rfl rfl
theorem dksX0_drawn_2 : cX0_drawn.data.toList.drop 46 = dktX0_drawn_2 := dk_seg dksX0_drawn_1 23 rfl rfl
theorem dksX0_drawn_3 : cX0_drawn.data.toList.drop 69 = dktX0_drawn_3 := dk_seg dksX0_drawn_2 23 rfl rfl
theorem dksX0_drawn_4 : cX0_drawn.data.toList.drop 92 = dktX0_drawn_4 := dk_seg dksX0_drawn_3 23 rfl rfl
theorem dksX0_drawn_5 : cX0_drawn.data.toList.drop 115 = dktX0_drawn_5 := dk_seg dksX0_drawn_4 23 rfl rfl
theorem dX0_drawn_0 : decode cX0_drawn 0 = .ok (.aload_n 0, 1) := dk_42 (dk_at dksX0_drawn_0 0 rfl rfl)
theorem dX0_drawn_1 : decode cX0_drawn 1 = .ok (.iload_n 1, 1) := dk_27 (dk_at dksX0_drawn_0 1 rfl rfl)
theorem dX0_drawn_2 : decode cX0_drawn 2 = .ok (.invokevirtual 200, 3) := dk_182 0 200 (dk_at dksX0_drawn_0 2 rfl rfl)
theorem dX0_drawn_5 : decode cX0_drawn 5 = .ok (.ifCond .eq 27, 3) := dk_153 0 27 (dk_at dksX0_drawn_0 5 rfl rfl)
theorem dX0_drawn_8 : decode cX0_drawn 8 = .ok (.iload_n 2, 1) := dk_28 (dk_at dksX0_drawn_0 8 rfl rfl)
theorem dX0_drawn_9 : decode cX0_drawn 9 = .ok (.i2l, 1) := dk_133 (dk_at dksX0_drawn_0 9 rfl rfl)
theorem dX0_drawn_10 : decode cX0_drawn 10 = .ok (.lconst 0, 1) := dk_9 (dk_at dksX0_drawn_0 10 rfl rfl)
theorem dX0_drawn_11 : decode cX0_drawn 11 = .ok (.ldc2_w 198, 3) := dk_20 0 198 (dk_at dksX0_drawn_0 11 rfl rfl)
theorem dX0_drawn_14 : decode cX0_drawn 14 = .ok (.invokestatic 99, 3) := dk_184 0 99 (dk_at dksX0_drawn_0 14 rfl rfl)
theorem dX0_drawn_17 : decode cX0_drawn 17 = .ok (.ifCond .eq 15, 3) := dk_153 0 15 (dk_at dksX0_drawn_0 17 rfl rfl)
theorem dX0_drawn_20 : decode cX0_drawn 20 = .ok (.iload_n 3, 1) := dk_29 (dk_at dksX0_drawn_0 20 rfl rfl)
theorem dX0_drawn_21 : decode cX0_drawn 21 = .ok (.i2l, 1) := dk_133 (dk_at dksX0_drawn_0 21 rfl rfl)
theorem dX0_drawn_22 : decode cX0_drawn 22 = .ok (.lconst 1, 1) := dk_10 (dk_at dksX0_drawn_0 22 rfl rfl)
theorem dX0_drawn_23 : decode cX0_drawn 23 = .ok (.ldc2_w 362, 3) := dk_20 1 106 (dk_at dksX0_drawn_1 0 rfl rfl)
theorem dX0_drawn_26 : decode cX0_drawn 26 = .ok (.invokestatic 99, 3) := dk_184 0 99 (dk_at dksX0_drawn_1 3 rfl rfl)
theorem dX0_drawn_29 : decode cX0_drawn 29 = .ok (.ifCond .ne 6, 3) := dk_154 0 6 (dk_at dksX0_drawn_1 6 rfl rfl)
theorem dX0_drawn_32 : decode cX0_drawn 32 = .ok (.ldc 109, 2) := dk_18 109 (dk_at dksX0_drawn_1 9 rfl rfl)
theorem dX0_drawn_34 : decode cX0_drawn 34 = .ok (.ireturn, 1) := dk_172 (dk_at dksX0_drawn_1 11 rfl rfl)
theorem dX0_drawn_35 : decode cX0_drawn 35 = .ok (.aload_n 0, 1) := dk_42 (dk_at dksX0_drawn_1 12 rfl rfl)
theorem dX0_drawn_36 : decode cX0_drawn 36 = .ok (.invokevirtual 337, 3) := dk_182 1 81 (dk_at dksX0_drawn_1 13 rfl rfl)
theorem dX0_drawn_39 : decode cX0_drawn 39 = .ok (.astore 4, 2) := dk_58 4 (dk_at dksX0_drawn_1 16 rfl rfl)
theorem dX0_drawn_41 : decode cX0_drawn 41 = .ok (.iconst 0, 1) := dk_3 (dk_at dksX0_drawn_1 18 rfl rfl)
theorem dX0_drawn_42 : decode cX0_drawn 42 = .ok (.istore 5, 2) := dk_54 5 (dk_at dksX0_drawn_1 19 rfl rfl)
theorem dX0_drawn_44 : decode cX0_drawn 44 = .ok (.iload_n 3, 1) := dk_29 (dk_at dksX0_drawn_1 21 rfl rfl)
theorem dX0_drawn_45 : decode cX0_drawn 45 = .ok (.i2l, 1) := dk_133 (dk_at dksX0_drawn_1 22 rfl rfl)
theorem dX0_drawn_46 : decode cX0_drawn 46 = .ok (.lstore 6, 2) := dk_55 6 (dk_at dksX0_drawn_2 0 rfl rfl)
theorem dX0_drawn_48 : decode cX0_drawn 48 = .ok (.iconst 0, 1) := dk_3 (dk_at dksX0_drawn_2 2 rfl rfl)
theorem dX0_drawn_49 : decode cX0_drawn 49 = .ok (.istore 8, 2) := dk_54 8 (dk_at dksX0_drawn_2 3 rfl rfl)
theorem dX0_drawn_51 : decode cX0_drawn 51 = .ok (.iload 8, 2) := dk_21 8 (dk_at dksX0_drawn_2 5 rfl rfl)
theorem dX0_drawn_53 : decode cX0_drawn 53 = .ok (.iload_n 2, 1) := dk_28 (dk_at dksX0_drawn_2 7 rfl rfl)
theorem dX0_drawn_54 : decode cX0_drawn 54 = .ok (.if_icmp .ge 76, 3) := dk_162 0 76 (dk_at dksX0_drawn_2 8 rfl rfl)
theorem dX0_drawn_57 : decode cX0_drawn 57 = .ok (.lload 6, 2) := dk_22 6 (dk_at dksX0_drawn_2 11 rfl rfl)
theorem dX0_drawn_59 : decode cX0_drawn 59 = .ok (.ldc2_w 364, 3) := dk_20 1 108 (dk_at dksX0_drawn_2 13 rfl rfl)
theorem dX0_drawn_62 : decode cX0_drawn 62 = .ok (.lmul, 1) := dk_105 (dk_at dksX0_drawn_2 16 rfl rfl)
theorem dX0_drawn_63 : decode cX0_drawn 63 = .ok (.ldc2_w 366, 3) := dk_20 1 110 (dk_at dksX0_drawn_2 17 rfl rfl)
theorem dX0_drawn_66 : decode cX0_drawn 66 = .ok (.lrem, 1) := dk_113 (dk_at dksX0_drawn_2 20 rfl rfl)
theorem dX0_drawn_67 : decode cX0_drawn 67 = .ok (.lstore 6, 2) := dk_55 6 (dk_at dksX0_drawn_2 21 rfl rfl)
theorem dX0_drawn_69 : decode cX0_drawn 69 = .ok (.aload 4, 2) := dk_25 4 (dk_at dksX0_drawn_3 0 rfl rfl)
theorem dX0_drawn_71 : decode cX0_drawn 71 = .ok (.getfield 195, 3) := dk_180 0 195 (dk_at dksX0_drawn_3 2 rfl rfl)
theorem dX0_drawn_74 : decode cX0_drawn 74 = .ok (.ifCond .le 30, 3) := dk_158 0 30 (dk_at dksX0_drawn_3 5 rfl rfl)
theorem dX0_drawn_77 : decode cX0_drawn 77 = .ok (.aload 4, 2) := dk_25 4 (dk_at dksX0_drawn_3 8 rfl rfl)
theorem dX0_drawn_79 : decode cX0_drawn 79 = .ok (.getfield 216, 3) := dk_180 0 216 (dk_at dksX0_drawn_3 10 rfl rfl)
theorem dX0_drawn_82 : decode cX0_drawn 82 = .ok (.lload 6, 2) := dk_22 6 (dk_at dksX0_drawn_3 13 rfl rfl)
theorem dX0_drawn_84 : decode cX0_drawn 84 = .ok (.aload 4, 2) := dk_25 4 (dk_at dksX0_drawn_3 15 rfl rfl)
theorem dX0_drawn_86 : decode cX0_drawn 86 = .ok (.getfield 195, 3) := dk_180 0 195 (dk_at dksX0_drawn_3 17 rfl rfl)
theorem dX0_drawn_89 : decode cX0_drawn 89 = .ok (.i2l, 1) := dk_133 (dk_at dksX0_drawn_3 20 rfl rfl)
theorem dX0_drawn_90 : decode cX0_drawn 90 = .ok (.lrem, 1) := dk_113 (dk_at dksX0_drawn_3 21 rfl rfl)
theorem dX0_drawn_91 : decode cX0_drawn 91 = .ok (.l2i, 1) := dk_136 (dk_at dksX0_drawn_3 22 rfl rfl)
theorem dX0_drawn_92 : decode cX0_drawn 92 = .ok (.lload 6, 2) := dk_22 6 (dk_at dksX0_drawn_4 0 rfl rfl)
theorem dX0_drawn_94 : decode cX0_drawn 94 = .ok (.ldc2_w 368, 3) := dk_20 1 112 (dk_at dksX0_drawn_4 2 rfl rfl)
theorem dX0_drawn_97 : decode cX0_drawn 97 = .ok (.ldiv, 1) := dk_109 (dk_at dksX0_drawn_4 5 rfl rfl)
theorem dX0_drawn_98 : decode cX0_drawn 98 = .ok (.ldc2_w 370, 3) := dk_20 1 114 (dk_at dksX0_drawn_4 6 rfl rfl)
theorem dX0_drawn_101 : decode cX0_drawn 101 = .ok (.lrem, 1) := dk_113 (dk_at dksX0_drawn_4 9 rfl rfl)
theorem dX0_drawn_102 : decode cX0_drawn 102 = .ok (.l2i, 1) := dk_136 (dk_at dksX0_drawn_4 10 rfl rfl)
theorem dX0_drawn_103 : decode cX0_drawn 103 = .ok (.iastore, 1) := dk_79 (dk_at dksX0_drawn_4 11 rfl rfl)
theorem dX0_drawn_104 : decode cX0_drawn 104 = .ok (.iload 5, 2) := dk_21 5 (dk_at dksX0_drawn_4 12 rfl rfl)
theorem dX0_drawn_106 : decode cX0_drawn 106 = .ok (.aload_n 0, 1) := dk_42 (dk_at dksX0_drawn_4 14 rfl rfl)
theorem dX0_drawn_107 : decode cX0_drawn 107 = .ok (.getfield 67, 3) := dk_180 0 67 (dk_at dksX0_drawn_4 15 rfl rfl)
theorem dX0_drawn_110 : decode cX0_drawn 110 = .ok (.aload 4, 2) := dk_25 4 (dk_at dksX0_drawn_4 18 rfl rfl)
theorem dX0_drawn_112 : decode cX0_drawn 112 = .ok (.iload_n 1, 1) := dk_27 (dk_at dksX0_drawn_4 20 rfl rfl)
theorem dX0_drawn_113 : decode cX0_drawn 113 = .ok (.iconst 0, 1) := dk_3 (dk_at dksX0_drawn_4 21 rfl rfl)
theorem dX0_drawn_114 : decode cX0_drawn 114 = .ok (.iconst 0, 1) := dk_3 (dk_at dksX0_drawn_4 22 rfl rfl)
theorem dX0_drawn_115 : decode cX0_drawn 115 = .ok (.invokevirtual 271, 3) := dk_182 1 15 (dk_at dksX0_drawn_5 0 rfl rfl)
theorem dX0_drawn_118 : decode cX0_drawn 118 = .ok (.invokevirtual 372, 3) := dk_182 1 116 (dk_at dksX0_drawn_5 3 rfl rfl)
theorem dX0_drawn_121 : decode cX0_drawn 121 = .ok (.iadd, 1) := dk_96 (dk_at dksX0_drawn_5 6 rfl rfl)
theorem dX0_drawn_122 : decode cX0_drawn 122 = .ok (.istore 5, 2) := dk_54 5 (dk_at dksX0_drawn_5 7 rfl rfl)
theorem dX0_drawn_124 : decode cX0_drawn 124 = .ok (.iinc 8 1, 3) := dk_132 8 1 (dk_at dksX0_drawn_5 9 rfl rfl)
theorem dX0_drawn_127 : decode cX0_drawn 127 = .ok (.goto (-76), 3) := dk_167 255 180 (dk_at dksX0_drawn_5 12 rfl rfl)
theorem dX0_drawn_130 : decode cX0_drawn 130 = .ok (.iload 5, 2) := dk_21 5 (dk_at dksX0_drawn_5 15 rfl rfl)
theorem dX0_drawn_132 : decode cX0_drawn 132 = .ok (.ireturn, 1) := dk_172 (dk_at dksX0_drawn_5 17 rfl rfl)
abbrev cX0_image : ByteArray := prog_1_method_56_code
def yX0_image : MethodName := ⟨RX0, "image", "(I)I"⟩
def dkwX0_image_2 : List UInt8 := [180, 0, 82, 27, 50, 42, 180, 0, 57, 182, 0, 185, 87, 4, 172]
abbrev dktX0_image_2 : List UInt8 := dkwX0_image_2 ++ []
def dkwX0_image_1 : List UInt8 := [180, 0, 82, 27, 50, 199, 0, 16, 42, 180, 0, 82, 27, 187, 0, 54, 89, 183, 0, 56, 83, 42]
abbrev dktX0_image_1 : List UInt8 := dkwX0_image_1 ++ dktX0_image_2
def dkwX0_image_0 : List UInt8 := [27, 133, 9, 10, 184, 0, 99, 154, 0, 6, 18, 109, 172, 42, 182, 0, 226, 154, 0, 6, 18, 222, 172, 42]
abbrev dktX0_image_0 : List UInt8 := dkwX0_image_0 ++ dktX0_image_1
theorem dksX0_image_0 : cX0_image.data.toList.drop 0 = dktX0_image_0 := by decide +kernel
theorem dksX0_image_1 : cX0_image.data.toList.drop 24 = dktX0_image_1 := dk_seg dksX0_image_0 24 rfl rfl
theorem dksX0_image_2 : cX0_image.data.toList.drop 46 = dktX0_image_2 := dk_seg dksX0_image_1 22 rfl rfl
theorem dX0_image_0 : decode cX0_image 0 = .ok (.iload_n 1, 1) := dk_27 (dk_at dksX0_image_0 0 rfl rfl)
theorem dX0_image_1 : decode cX0_image 1 = .ok (.i2l, 1) := dk_133 (dk_at dksX0_image_0 1 rfl rfl)
theorem dX0_image_2 : decode cX0_image 2 = .ok (.lconst 0, 1) := dk_9 (dk_at dksX0_image_0 2 rfl rfl)
theorem dX0_image_3 : decode cX0_image 3 = .ok (.lconst 1, 1) := dk_10 (dk_at dksX0_image_0 3 rfl rfl)
theorem dX0_image_4 : decode cX0_image 4 = .ok (.invokestatic 99, 3) := dk_184 0 99 (dk_at dksX0_image_0 4 rfl rfl)
theorem dX0_image_7 : decode cX0_image 7 = .ok (.ifCond .ne 6, 3) := dk_154 0 6 (dk_at dksX0_image_0 7 rfl rfl)
theorem dX0_image_10 : decode cX0_image 10 = .ok (.ldc 109, 2) := dk_18 109 (dk_at dksX0_image_0 10 rfl rfl)
theorem dX0_image_12 : decode cX0_image 12 = .ok (.ireturn, 1) := dk_172 (dk_at dksX0_image_0 12 rfl rfl)
theorem dX0_image_13 : decode cX0_image 13 = .ok (.aload_n 0, 1) := dk_42 (dk_at dksX0_image_0 13 rfl rfl)
theorem dX0_image_14 : decode cX0_image 14 = .ok (.invokevirtual 226, 3) := dk_182 0 226 (dk_at dksX0_image_0 14 rfl rfl)
theorem dX0_image_17 : decode cX0_image 17 = .ok (.ifCond .ne 6, 3) := dk_154 0 6 (dk_at dksX0_image_0 17 rfl rfl)
theorem dX0_image_20 : decode cX0_image 20 = .ok (.ldc 222, 2) := dk_18 222 (dk_at dksX0_image_0 20 rfl rfl)
theorem dX0_image_22 : decode cX0_image 22 = .ok (.ireturn, 1) := dk_172 (dk_at dksX0_image_0 22 rfl rfl)
theorem dX0_image_23 : decode cX0_image 23 = .ok (.aload_n 0, 1) := dk_42 (dk_at dksX0_image_0 23 rfl rfl)
theorem dX0_image_24 : decode cX0_image 24 = .ok (.getfield 82, 3) := dk_180 0 82 (dk_at dksX0_image_1 0 rfl rfl)
theorem dX0_image_27 : decode cX0_image 27 = .ok (.iload_n 1, 1) := dk_27 (dk_at dksX0_image_1 3 rfl rfl)
theorem dX0_image_28 : decode cX0_image 28 = .ok (.aaload, 1) := dk_50 (dk_at dksX0_image_1 4 rfl rfl)
theorem dX0_image_29 : decode cX0_image 29 = .ok (.ifnonnull 16, 3) := dk_199 0 16 (dk_at dksX0_image_1 5 rfl rfl)
theorem dX0_image_32 : decode cX0_image 32 = .ok (.aload_n 0, 1) := dk_42 (dk_at dksX0_image_1 8 rfl rfl)
theorem dX0_image_33 : decode cX0_image 33 = .ok (.getfield 82, 3) := dk_180 0 82 (dk_at dksX0_image_1 9 rfl rfl)
theorem dX0_image_36 : decode cX0_image 36 = .ok (.iload_n 1, 1) := dk_27 (dk_at dksX0_image_1 12 rfl rfl)
theorem dX0_image_37 : decode cX0_image 37 = .ok (.new 54, 3) := dk_187 0 54 (dk_at dksX0_image_1 13 rfl rfl)
theorem dX0_image_40 : decode cX0_image 40 = .ok (.dup, 1) := dk_89 (dk_at dksX0_image_1 16 rfl rfl)
theorem dX0_image_41 : decode cX0_image 41 = .ok (.invokespecial 56, 3) := dk_183 0 56 (dk_at dksX0_image_1 17 rfl rfl)
theorem dX0_image_44 : decode cX0_image 44 = .ok (.aastore, 1) := dk_83 (dk_at dksX0_image_1 20 rfl rfl)
theorem dX0_image_45 : decode cX0_image 45 = .ok (.aload_n 0, 1) := dk_42 (dk_at dksX0_image_1 21 rfl rfl)
theorem dX0_image_46 : decode cX0_image 46 = .ok (.getfield 82, 3) := dk_180 0 82 (dk_at dksX0_image_2 0 rfl rfl)
theorem dX0_image_49 : decode cX0_image 49 = .ok (.iload_n 1, 1) := dk_27 (dk_at dksX0_image_2 3 rfl rfl)
theorem dX0_image_50 : decode cX0_image 50 = .ok (.aaload, 1) := dk_50 (dk_at dksX0_image_2 4 rfl rfl)
theorem dX0_image_51 : decode cX0_image 51 = .ok (.aload_n 0, 1) := dk_42 (dk_at dksX0_image_2 5 rfl rfl)
theorem dX0_image_52 : decode cX0_image 52 = .ok (.getfield 57, 3) := dk_180 0 57 (dk_at dksX0_image_2 6 rfl rfl)
theorem dX0_image_55 : decode cX0_image 55 = .ok (.invokevirtual 185, 3) := dk_182 0 185 (dk_at dksX0_image_2 9 rfl rfl)
theorem dX0_image_58 : decode cX0_image 58 = .ok (.pop, 1) := dk_87 (dk_at dksX0_image_2 12 rfl rfl)
theorem dX0_image_59 : decode cX0_image 59 = .ok (.iconst 1, 1) := dk_4 (dk_at dksX0_image_2 13 rfl rfl)
theorem dX0_image_60 : decode cX0_image 60 = .ok (.ireturn, 1) := dk_172 (dk_at dksX0_image_2 14 rfl rfl)
abbrev cX0_restore : ByteArray := prog_1_method_57_code
def yX0_restore : MethodName := ⟨RX0, "restore", "(I)I"⟩
def dkwX0_restore_1 : List UInt8 := [172, 42, 180, 0, 57, 42, 180, 0, 82, 27, 50, 182, 0, 185, 87, 42, 3, 181, 0, 189, 4, 172]
abbrev dktX0_restore_1 : List UInt8 := dkwX0_restore_1 ++ []
def dkwX0_restore_0 : List UInt8 := [27, 133, 9, 10, 184, 0, 99, 154, 0, 6, 18, 109, 172, 42, 180, 0, 82, 27, 50, 199, 0, 6, 18, 222]
abbrev dktX0_restore_0 : List UInt8 := dkwX0_restore_0 ++ dktX0_restore_1
theorem dksX0_restore_0 : cX0_restore.data.toList.drop 0 = dktX0_restore_0 := by decide +kernel
theorem dksX0_restore_1 : cX0_restore.data.toList.drop 24 = dktX0_restore_1 := dk_seg dksX0_restore_0 24 rfl rfl
theorem dX0_restore_0 : decode cX0_restore 0 = .ok (.iload_n 1, 1) := dk_27 (dk_at dksX0_restore_0 0 rfl rfl)
theorem dX0_restore_1 : decode cX0_restore 1 = .ok (.i2l, 1) := dk_133 (dk_at dksX0_restore_0 1 rfl rfl)
theorem dX0_restore_2 : decode cX0_restore 2 = .ok (.lconst 0, 1) := dk_9 (dk_at dksX0_restore_0 2 rfl rfl)
theorem dX0_restore_3 : decode cX0_restore 3 = .ok (.lconst 1, 1) := dk_10 (dk_at dksX0_restore_0 3 rfl rfl)
theorem dX0_restore_4 : decode cX0_restore 4 = .ok (.invokestatic 99, 3) := dk_184 0 99 (dk_at dksX0_restore_0 4 rfl rfl)
theorem dX0_restore_7 : decode cX0_restore 7 = .ok (.ifCond .ne 6, 3) := dk_154 0 6 (dk_at dksX0_restore_0 7 rfl rfl)
theorem dX0_restore_10 : decode cX0_restore 10 = .ok (.ldc 109, 2) := dk_18 109 (dk_at dksX0_restore_0 10 rfl rfl)
theorem dX0_restore_12 : decode cX0_restore 12 = .ok (.ireturn, 1) := dk_172 (dk_at dksX0_restore_0 12 rfl rfl)
theorem dX0_restore_13 : decode cX0_restore 13 = .ok (.aload_n 0, 1) := dk_42 (dk_at dksX0_restore_0 13 rfl rfl)
theorem dX0_restore_14 : decode cX0_restore 14 = .ok (.getfield 82, 3) := dk_180 0 82 (dk_at dksX0_restore_0 14 rfl rfl)
theorem dX0_restore_17 : decode cX0_restore 17 = .ok (.iload_n 1, 1) := dk_27 (dk_at dksX0_restore_0 17 rfl rfl)
theorem dX0_restore_18 : decode cX0_restore 18 = .ok (.aaload, 1) := dk_50 (dk_at dksX0_restore_0 18 rfl rfl)
theorem dX0_restore_19 : decode cX0_restore 19 = .ok (.ifnonnull 6, 3) := dk_199 0 6 (dk_at dksX0_restore_0 19 rfl rfl)
theorem dX0_restore_22 : decode cX0_restore 22 = .ok (.ldc 222, 2) := dk_18 222 (dk_at dksX0_restore_0 22 rfl rfl)
theorem dX0_restore_24 : decode cX0_restore 24 = .ok (.ireturn, 1) := dk_172 (dk_at dksX0_restore_1 0 rfl rfl)
theorem dX0_restore_25 : decode cX0_restore 25 = .ok (.aload_n 0, 1) := dk_42 (dk_at dksX0_restore_1 1 rfl rfl)
theorem dX0_restore_26 : decode cX0_restore 26 = .ok (.getfield 57, 3) := dk_180 0 57 (dk_at dksX0_restore_1 2 rfl rfl)
theorem dX0_restore_29 : decode cX0_restore 29 = .ok (.aload_n 0, 1) := dk_42 (dk_at dksX0_restore_1 5 rfl rfl)
theorem dX0_restore_30 : decode cX0_restore 30 = .ok (.getfield 82, 3) := dk_180 0 82 (dk_at dksX0_restore_1 6 rfl rfl)
theorem dX0_restore_33 : decode cX0_restore 33 = .ok (.iload_n 1, 1) := dk_27 (dk_at dksX0_restore_1 9 rfl rfl)
theorem dX0_restore_34 : decode cX0_restore 34 = .ok (.aaload, 1) := dk_50 (dk_at dksX0_restore_1 10 rfl rfl)
theorem dX0_restore_35 : decode cX0_restore 35 = .ok (.invokevirtual 185, 3) := dk_182 0 185 (dk_at dksX0_restore_1 11 rfl rfl)
theorem dX0_restore_38 : decode cX0_restore 38 = .ok (.pop, 1) := dk_87 (dk_at dksX0_restore_1 14 rfl rfl)
theorem dX0_restore_39 : decode cX0_restore 39 = .ok (.aload_n 0, 1) := dk_42 (dk_at dksX0_restore_1 15 rfl rfl)
theorem dX0_restore_40 : decode cX0_restore 40 = .ok (.iconst 0, 1) := dk_3 (dk_at dksX0_restore_1 16 rfl rfl)
theorem dX0_restore_41 : decode cX0_restore 41 = .ok (.putfield 189, 3) := dk_181 0 189 (dk_at dksX0_restore_1 17 rfl rfl)
theorem dX0_restore_44 : decode cX0_restore 44 = .ok (.iconst 1, 1) := dk_4 (dk_at dksX0_restore_1 20 rfl rfl)
theorem dX0_restore_45 : decode cX0_restore 45 = .ok (.ireturn, 1) := dk_172 (dk_at dksX0_restore_1 21 rfl rfl)
abbrev cX0_kind : ByteArray := prog_1_method_58_code
def yX0_kind : MethodName := ⟨RX0, "kind", "(I)I"⟩
def dkwX0_kind_1 : List UInt8 := [18, 109, 172]
abbrev dktX0_kind_1 : List UInt8 := dkwX0_kind_1 ++ []
def dkwX0_kind_0 : List UInt8 := [42, 27, 182, 0, 200, 153, 0, 18, 42, 180, 0, 57, 180, 0, 242, 27, 50, 182, 0, 246, 167, 0, 5]
abbrev dktX0_kind_0 : List UInt8 := dkwX0_kind_0 ++ dktX0_kind_1
theorem dksX0_kind_0 : cX0_kind.data.toList.drop 0 = dktX0_kind_0 := by decide +kernel
theorem dksX0_kind_1 : cX0_kind.data.toList.drop 23 = dktX0_kind_1 := dk_seg dksX0_kind_0 23 rfl rfl
theorem dX0_kind_0 : decode cX0_kind 0 = .ok (.aload_n 0, 1) := dk_42 (dk_at dksX0_kind_0 0 rfl rfl)
theorem dX0_kind_1 : decode cX0_kind 1 = .ok (.iload_n 1, 1) := dk_27 (dk_at dksX0_kind_0 1 rfl rfl)
theorem dX0_kind_2 : decode cX0_kind 2 = .ok (.invokevirtual 200, 3) := dk_182 0 200 (dk_at dksX0_kind_0 2 rfl rfl)
theorem dX0_kind_5 : decode cX0_kind 5 = .ok (.ifCond .eq 18, 3) := dk_153 0 18 (dk_at dksX0_kind_0 5 rfl rfl)
theorem dX0_kind_8 : decode cX0_kind 8 = .ok (.aload_n 0, 1) := dk_42 (dk_at dksX0_kind_0 8 rfl rfl)
theorem dX0_kind_9 : decode cX0_kind 9 = .ok (.getfield 57, 3) := dk_180 0 57 (dk_at dksX0_kind_0 9 rfl rfl)
theorem dX0_kind_12 : decode cX0_kind 12 = .ok (.getfield 242, 3) := dk_180 0 242 (dk_at dksX0_kind_0 12 rfl rfl)
theorem dX0_kind_15 : decode cX0_kind 15 = .ok (.iload_n 1, 1) := dk_27 (dk_at dksX0_kind_0 15 rfl rfl)
theorem dX0_kind_16 : decode cX0_kind 16 = .ok (.aaload, 1) := dk_50 (dk_at dksX0_kind_0 16 rfl rfl)
theorem dX0_kind_17 : decode cX0_kind 17 = .ok (.invokevirtual 246, 3) := dk_182 0 246 (dk_at dksX0_kind_0 17 rfl rfl)
theorem dX0_kind_20 : decode cX0_kind 20 = .ok (.goto 5, 3) := dk_167 0 5 (dk_at dksX0_kind_0 20 rfl rfl)
theorem dX0_kind_23 : decode cX0_kind 23 = .ok (.ldc 109, 2) := dk_18 109 (dk_at dksX0_kind_1 0 rfl rfl)
theorem dX0_kind_25 : decode cX0_kind 25 = .ok (.ireturn, 1) := dk_172 (dk_at dksX0_kind_1 2 rfl rfl)
abbrev cX0_as : ByteArray := prog_1_method_59_code
def yX0_as : MethodName := ⟨RX0, "as", "(II)I"⟩
def dkwX0_as_2 : List UInt8 := [182, 0, 124, 172]
abbrev dktX0_as_2 : List UInt8 := dkwX0_as_2 ++ []
def dkwX0_as_1 : List UInt8 := [42, 180, 0, 57, 180, 0, 242, 27, 50, 28, 184, 1, 117, 182, 1, 121, 182, 0, 118, 172, 78, 42, 6]
abbrev dktX0_as_1 : List UInt8 := dkwX0_as_1 ++ dktX0_as_2
def dkwX0_as_0 : List UInt8 := [42, 27, 182, 0, 200, 153, 0, 15, 28, 133, 9, 20, 0, 240, 184, 0, 99, 154, 0, 6, 18, 109, 172, 42]
abbrev dktX0_as_0 : List UInt8 := dkwX0_as_0 ++ dktX0_as_1
theorem dksX0_as_0 : cX0_as.data.toList.drop 0 = dktX0_as_0 := by decide +kernel
theorem dksX0_as_1 : cX0_as.data.toList.drop 24 = dktX0_as_1 := dk_seg dksX0_as_0 24 rfl rfl
theorem dksX0_as_2 : cX0_as.data.toList.drop 47 = dktX0_as_2 := dk_seg dksX0_as_1 23 rfl rfl
theorem dX0_as_0 : decode cX0_as 0 = .ok (.aload_n 0, 1) := dk_42 (dk_at dksX0_as_0 0 rfl rfl)
theorem dX0_as_1 : decode cX0_as 1 = .ok (.iload_n 1, 1) := dk_27 (dk_at dksX0_as_0 1 rfl rfl)
theorem dX0_as_2 : decode cX0_as 2 = .ok (.invokevirtual 200, 3) := dk_182 0 200 (dk_at dksX0_as_0 2 rfl rfl)
theorem dX0_as_5 : decode cX0_as 5 = .ok (.ifCond .eq 15, 3) := dk_153 0 15 (dk_at dksX0_as_0 5 rfl rfl)
theorem dX0_as_8 : decode cX0_as 8 = .ok (.iload_n 2, 1) := dk_28 (dk_at dksX0_as_0 8 rfl rfl)
theorem dX0_as_9 : decode cX0_as 9 = .ok (.i2l, 1) := dk_133 (dk_at dksX0_as_0 9 rfl rfl)
theorem dX0_as_10 : decode cX0_as 10 = .ok (.lconst 0, 1) := dk_9 (dk_at dksX0_as_0 10 rfl rfl)
theorem dX0_as_11 : decode cX0_as 11 = .ok (.ldc2_w 240, 3) := dk_20 0 240 (dk_at dksX0_as_0 11 rfl rfl)
theorem dX0_as_14 : decode cX0_as 14 = .ok (.invokestatic 99, 3) := dk_184 0 99 (dk_at dksX0_as_0 14 rfl rfl)
theorem dX0_as_17 : decode cX0_as 17 = .ok (.ifCond .ne 6, 3) := dk_154 0 6 (dk_at dksX0_as_0 17 rfl rfl)
theorem dX0_as_20 : decode cX0_as 20 = .ok (.ldc 109, 2) := dk_18 109 (dk_at dksX0_as_0 20 rfl rfl)
theorem dX0_as_22 : decode cX0_as 22 = .ok (.ireturn, 1) := dk_172 (dk_at dksX0_as_0 22 rfl rfl)
theorem dX0_as_23 : decode cX0_as 23 = .ok (.aload_n 0, 1) := dk_42 (dk_at dksX0_as_0 23 rfl rfl)
theorem dX0_as_24 : decode cX0_as 24 = .ok (.aload_n 0, 1) := dk_42 (dk_at dksX0_as_1 0 rfl rfl)
theorem dX0_as_25 : decode cX0_as 25 = .ok (.getfield 57, 3) := dk_180 0 57 (dk_at dksX0_as_1 1 rfl rfl)
theorem dX0_as_28 : decode cX0_as 28 = .ok (.getfield 242, 3) := dk_180 0 242 (dk_at dksX0_as_1 4 rfl rfl)
theorem dX0_as_31 : decode cX0_as 31 = .ok (.iload_n 1, 1) := dk_27 (dk_at dksX0_as_1 7 rfl rfl)
theorem dX0_as_32 : decode cX0_as 32 = .ok (.aaload, 1) := dk_50 (dk_at dksX0_as_1 8 rfl rfl)
theorem dX0_as_33 : decode cX0_as 33 = .ok (.iload_n 2, 1) := dk_28 (dk_at dksX0_as_1 9 rfl rfl)
theorem dX0_as_34 : decode cX0_as 34 = .ok (.invokestatic 373, 3) := dk_184 1 117 (dk_at dksX0_as_1 10 rfl rfl)
theorem dX0_as_37 : decode cX0_as 37 = .ok (.invokevirtual 377, 3) := dk_182 1 121 (dk_at dksX0_as_1 13 rfl rfl)
theorem dX0_as_40 : decode cX0_as 40 = .ok (.invokevirtual 118, 3) := dk_182 0 118 (dk_at dksX0_as_1 16 rfl rfl)
theorem dX0_as_43 : decode cX0_as 43 = .ok (.ireturn, 1) := dk_172 (dk_at dksX0_as_1 19 rfl rfl)
theorem dX0_as_44 : decode cX0_as 44 = .ok (.astore_n 3, 1) := dk_78 (dk_at dksX0_as_1 20 rfl rfl)
theorem dX0_as_45 : decode cX0_as 45 = .ok (.aload_n 0, 1) := dk_42 (dk_at dksX0_as_1 21 rfl rfl)
theorem dX0_as_46 : decode cX0_as 46 = .ok (.iconst 3, 1) := dk_6 (dk_at dksX0_as_1 22 rfl rfl)
theorem dX0_as_47 : decode cX0_as 47 = .ok (.invokevirtual 124, 3) := dk_182 0 124 (dk_at dksX0_as_2 0 rfl rfl)
theorem dX0_as_50 : decode cX0_as 50 = .ok (.ireturn, 1) := dk_172 (dk_at dksX0_as_2 3 rfl rfl)
abbrev cX0_taken : ByteArray := prog_1_method_4_code
def yX0_taken : MethodName := ⟨RX0, "taken", "(Ljava/lang/Object;I)LDatedContacts$Person;"⟩
def dkwX0_taken_3 : List UInt8 := [192, 0, 10, 167, 0, 14, 42, 192, 0, 13, 167, 0, 7, 42, 192, 0, 16, 176]
abbrev dktX0_taken_3 : List UInt8 := dkwX0_taken_3 ++ []
def dkwX0_taken_2 : List UInt8 := [42, 192, 0, 19, 167, 0, 35, 42, 192, 0, 1, 167, 0, 28, 42, 192, 0, 7, 167, 0, 21, 42]
abbrev dktX0_taken_2 : List UInt8 := dkwX0_taken_2 ++ dktX0_taken_3
def dkwX0_taken_1 : List UInt8 := [170, 0, 0, 0, 0, 0, 70, 0, 0, 0, 0, 0, 0, 0, 4, 0, 0, 0, 35, 0, 0, 0, 42, 0, 0, 0, 49, 0, 0, 0, 56, 0, 0, 0, 63]
abbrev dktX0_taken_1 : List UInt8 := dkwX0_taken_1 ++ dktX0_taken_2
def dkwX0_taken_0 : List UInt8 := [27]
abbrev dktX0_taken_0 : List UInt8 := dkwX0_taken_0 ++ dktX0_taken_1
theorem dksX0_taken_0 : cX0_taken.data.toList.drop 0 = dktX0_taken_0 := by decide +kernel
theorem dksX0_taken_1 : cX0_taken.data.toList.drop 1 = dktX0_taken_1 := dk_seg dksX0_taken_0 1 rfl rfl
theorem dksX0_taken_2 : cX0_taken.data.toList.drop 36 = dktX0_taken_2 := dk_seg dksX0_taken_1 35 rfl rfl
theorem dksX0_taken_3 : cX0_taken.data.toList.drop 58 = dktX0_taken_3 := dk_seg dksX0_taken_2 22 rfl rfl
theorem dX0_taken_0 : decode cX0_taken 0 = .ok (.iload_n 1, 1) := dk_27 (dk_at dksX0_taken_0 0 rfl rfl)
theorem dX0_taken_1 : decode cX0_taken 1 = .ok (.tableswitch 70 0 4 #[35, 42, 49, 56, 63], 35) := by decide +kernel
theorem dX0_taken_36 : decode cX0_taken 36 = .ok (.aload_n 0, 1) := dk_42 (dk_at dksX0_taken_2 0 rfl rfl)
theorem dX0_taken_37 : decode cX0_taken 37 = .ok (.checkcast 19, 3) := dk_192 0 19 (dk_at dksX0_taken_2 1 rfl rfl)
theorem dX0_taken_40 : decode cX0_taken 40 = .ok (.goto 35, 3) := dk_167 0 35 (dk_at dksX0_taken_2 4 rfl rfl)
theorem dX0_taken_43 : decode cX0_taken 43 = .ok (.aload_n 0, 1) := dk_42 (dk_at dksX0_taken_2 7 rfl rfl)
theorem dX0_taken_44 : decode cX0_taken 44 = .ok (.checkcast 1, 3) := dk_192 0 1 (dk_at dksX0_taken_2 8 rfl rfl)
theorem dX0_taken_47 : decode cX0_taken 47 = .ok (.goto 28, 3) := dk_167 0 28 (dk_at dksX0_taken_2 11 rfl rfl)
theorem dX0_taken_50 : decode cX0_taken 50 = .ok (.aload_n 0, 1) := dk_42 (dk_at dksX0_taken_2 14 rfl rfl)
theorem dX0_taken_51 : decode cX0_taken 51 = .ok (.checkcast 7, 3) := dk_192 0 7 (dk_at dksX0_taken_2 15 rfl rfl)
theorem dX0_taken_54 : decode cX0_taken 54 = .ok (.goto 21, 3) := dk_167 0 21 (dk_at dksX0_taken_2 18 rfl rfl)
theorem dX0_taken_57 : decode cX0_taken 57 = .ok (.aload_n 0, 1) := dk_42 (dk_at dksX0_taken_2 21 rfl rfl)
theorem dX0_taken_58 : decode cX0_taken 58 = .ok (.checkcast 10, 3) := dk_192 0 10 (dk_at dksX0_taken_3 0 rfl rfl)
theorem dX0_taken_61 : decode cX0_taken 61 = .ok (.goto 14, 3) := dk_167 0 14 (dk_at dksX0_taken_3 3 rfl rfl)
theorem dX0_taken_64 : decode cX0_taken 64 = .ok (.aload_n 0, 1) := dk_42 (dk_at dksX0_taken_3 6 rfl rfl)
theorem dX0_taken_65 : decode cX0_taken 65 = .ok (.checkcast 13, 3) := dk_192 0 13 (dk_at dksX0_taken_3 7 rfl rfl)
theorem dX0_taken_68 : decode cX0_taken 68 = .ok (.goto 7, 3) := dk_167 0 7 (dk_at dksX0_taken_3 10 rfl rfl)
theorem dX0_taken_71 : decode cX0_taken 71 = .ok (.aload_n 0, 1) := dk_42 (dk_at dksX0_taken_3 13 rfl rfl)
theorem dX0_taken_72 : decode cX0_taken 72 = .ok (.checkcast 16, 3) := dk_192 0 16 (dk_at dksX0_taken_3 14 rfl rfl)
theorem dX0_taken_75 : decode cX0_taken 75 = .ok (.areturn, 1) := dk_176 (dk_at dksX0_taken_3 17 rfl rfl)
abbrev cX0_ask : ByteArray := prog_1_method_60_code
def yX0_ask : MethodName := ⟨RX0, "ask", "(II)I"⟩
def dkwX0_ask_4 : List UInt8 := [180, 0, 88, 25, 4, 182, 1, 138, 172]
abbrev dktX0_ask_4 : List UInt8 := dkwX0_ask_4 ++ []
def dkwX0_ask_3 : List UInt8 := [183, 1, 131, 58, 4, 28, 154, 0, 16, 45, 42, 180, 0, 88, 25, 4, 182, 1, 134, 167, 0, 13, 45, 42]
abbrev dktX0_ask_3 : List UInt8 := dkwX0_ask_3 ++ dktX0_ask_4
def dkwX0_ask_2 : List UInt8 := [42, 180, 0, 57, 27, 182, 1, 8, 184, 1, 56, 3, 42, 180, 0, 57, 180, 0, 223, 27, 46, 184, 1, 128]
abbrev dktX0_ask_2 : List UInt8 := dkwX0_ask_2 ++ dktX0_ask_3
def dkwX0_ask_1 : List UInt8 := [187, 0, 85, 89, 183, 0, 87, 181, 0, 88, 42, 180, 0, 57, 180, 0, 242, 27, 50, 78, 187, 1, 126, 89]
abbrev dktX0_ask_1 : List UInt8 := dkwX0_ask_1 ++ dktX0_ask_2
def dkwX0_ask_0 : List UInt8 := [42, 27, 182, 0, 200, 153, 0, 13, 28, 133, 9, 10, 184, 0, 99, 154, 0, 6, 18, 109, 172, 42]
abbrev dktX0_ask_0 : List UInt8 := dkwX0_ask_0 ++ dktX0_ask_1
theorem dksX0_ask_0 : cX0_ask.data.toList.drop 0 = dktX0_ask_0 := by decide +kernel
theorem dksX0_ask_1 : cX0_ask.data.toList.drop 22 = dktX0_ask_1 := dk_seg dksX0_ask_0 22 rfl rfl
theorem dksX0_ask_2 : cX0_ask.data.toList.drop 46 = dktX0_ask_2 := dk_seg dksX0_ask_1 24 rfl rfl
theorem dksX0_ask_3 : cX0_ask.data.toList.drop 70 = dktX0_ask_3 := dk_seg dksX0_ask_2 24 rfl rfl
theorem dksX0_ask_4 : cX0_ask.data.toList.drop 94 = dktX0_ask_4 := dk_seg dksX0_ask_3 24 rfl rfl
theorem dX0_ask_0 : decode cX0_ask 0 = .ok (.aload_n 0, 1) := dk_42 (dk_at dksX0_ask_0 0 rfl rfl)
theorem dX0_ask_1 : decode cX0_ask 1 = .ok (.iload_n 1, 1) := dk_27 (dk_at dksX0_ask_0 1 rfl rfl)
theorem dX0_ask_2 : decode cX0_ask 2 = .ok (.invokevirtual 200, 3) := dk_182 0 200 (dk_at dksX0_ask_0 2 rfl rfl)
theorem dX0_ask_5 : decode cX0_ask 5 = .ok (.ifCond .eq 13, 3) := dk_153 0 13 (dk_at dksX0_ask_0 5 rfl rfl)
theorem dX0_ask_8 : decode cX0_ask 8 = .ok (.iload_n 2, 1) := dk_28 (dk_at dksX0_ask_0 8 rfl rfl)
theorem dX0_ask_9 : decode cX0_ask 9 = .ok (.i2l, 1) := dk_133 (dk_at dksX0_ask_0 9 rfl rfl)
theorem dX0_ask_10 : decode cX0_ask 10 = .ok (.lconst 0, 1) := dk_9 (dk_at dksX0_ask_0 10 rfl rfl)
theorem dX0_ask_11 : decode cX0_ask 11 = .ok (.lconst 1, 1) := dk_10 (dk_at dksX0_ask_0 11 rfl rfl)
theorem dX0_ask_12 : decode cX0_ask 12 = .ok (.invokestatic 99, 3) := dk_184 0 99 (dk_at dksX0_ask_0 12 rfl rfl)
theorem dX0_ask_15 : decode cX0_ask 15 = .ok (.ifCond .ne 6, 3) := dk_154 0 6 (dk_at dksX0_ask_0 15 rfl rfl)
theorem dX0_ask_18 : decode cX0_ask 18 = .ok (.ldc 109, 2) := dk_18 109 (dk_at dksX0_ask_0 18 rfl rfl)
theorem dX0_ask_20 : decode cX0_ask 20 = .ok (.ireturn, 1) := dk_172 (dk_at dksX0_ask_0 20 rfl rfl)
theorem dX0_ask_21 : decode cX0_ask 21 = .ok (.aload_n 0, 1) := dk_42 (dk_at dksX0_ask_0 21 rfl rfl)
theorem dX0_ask_22 : decode cX0_ask 22 = .ok (.new 85, 3) := dk_187 0 85 (dk_at dksX0_ask_1 0 rfl rfl)
theorem dX0_ask_25 : decode cX0_ask 25 = .ok (.dup, 1) := dk_89 (dk_at dksX0_ask_1 3 rfl rfl)
theorem dX0_ask_26 : decode cX0_ask 26 = .ok (.invokespecial 87, 3) := dk_183 0 87 (dk_at dksX0_ask_1 4 rfl rfl)
theorem dX0_ask_29 : decode cX0_ask 29 = .ok (.putfield 88, 3) := dk_181 0 88 (dk_at dksX0_ask_1 7 rfl rfl)
theorem dX0_ask_32 : decode cX0_ask 32 = .ok (.aload_n 0, 1) := dk_42 (dk_at dksX0_ask_1 10 rfl rfl)
theorem dX0_ask_33 : decode cX0_ask 33 = .ok (.getfield 57, 3) := dk_180 0 57 (dk_at dksX0_ask_1 11 rfl rfl)
theorem dX0_ask_36 : decode cX0_ask 36 = .ok (.getfield 242, 3) := dk_180 0 242 (dk_at dksX0_ask_1 14 rfl rfl)
theorem dX0_ask_39 : decode cX0_ask 39 = .ok (.iload_n 1, 1) := dk_27 (dk_at dksX0_ask_1 17 rfl rfl)
theorem dX0_ask_40 : decode cX0_ask 40 = .ok (.aaload, 1) := dk_50 (dk_at dksX0_ask_1 18 rfl rfl)
theorem dX0_ask_41 : decode cX0_ask 41 = .ok (.astore_n 3, 1) := dk_78 (dk_at dksX0_ask_1 19 rfl rfl)
theorem dX0_ask_42 : decode cX0_ask 42 = .ok (.new 382, 3) := dk_187 1 126 (dk_at dksX0_ask_1 20 rfl rfl)
theorem dX0_ask_45 : decode cX0_ask 45 = .ok (.dup, 1) := dk_89 (dk_at dksX0_ask_1 23 rfl rfl)
theorem dX0_ask_46 : decode cX0_ask 46 = .ok (.aload_n 0, 1) := dk_42 (dk_at dksX0_ask_2 0 rfl rfl)
theorem dX0_ask_47 : decode cX0_ask 47 = .ok (.getfield 57, 3) := dk_180 0 57 (dk_at dksX0_ask_2 1 rfl rfl)
theorem dX0_ask_50 : decode cX0_ask 50 = .ok (.iload_n 1, 1) := dk_27 (dk_at dksX0_ask_2 4 rfl rfl)
theorem dX0_ask_51 : decode cX0_ask 51 = .ok (.invokevirtual 264, 3) := dk_182 1 8 (dk_at dksX0_ask_2 5 rfl rfl)
theorem dX0_ask_54 : decode cX0_ask 54 = .ok (.invokestatic 312, 3) := dk_184 1 56 (dk_at dksX0_ask_2 8 rfl rfl)
theorem dX0_ask_57 : decode cX0_ask 57 = .ok (.iconst 0, 1) := dk_3 (dk_at dksX0_ask_2 11 rfl rfl)
theorem dX0_ask_58 : decode cX0_ask 58 = .ok (.aload_n 0, 1) := dk_42 (dk_at dksX0_ask_2 12 rfl rfl)
theorem dX0_ask_59 : decode cX0_ask 59 = .ok (.getfield 57, 3) := dk_180 0 57 (dk_at dksX0_ask_2 13 rfl rfl)
theorem dX0_ask_62 : decode cX0_ask 62 = .ok (.getfield 223, 3) := dk_180 0 223 (dk_at dksX0_ask_2 16 rfl rfl)
theorem dX0_ask_65 : decode cX0_ask 65 = .ok (.iload_n 1, 1) := dk_27 (dk_at dksX0_ask_2 19 rfl rfl)
theorem dX0_ask_66 : decode cX0_ask 66 = .ok (.iaload, 1) := dk_46 (dk_at dksX0_ask_2 20 rfl rfl)
theorem dX0_ask_67 : decode cX0_ask 67 = .ok (.invokestatic 384, 3) := dk_184 1 128 (dk_at dksX0_ask_2 21 rfl rfl)
theorem dX0_ask_70 : decode cX0_ask 70 = .ok (.invokespecial 387, 3) := dk_183 1 131 (dk_at dksX0_ask_3 0 rfl rfl)
theorem dX0_ask_73 : decode cX0_ask 73 = .ok (.astore 4, 2) := dk_58 4 (dk_at dksX0_ask_3 3 rfl rfl)
theorem dX0_ask_75 : decode cX0_ask 75 = .ok (.iload_n 2, 1) := dk_28 (dk_at dksX0_ask_3 5 rfl rfl)
theorem dX0_ask_76 : decode cX0_ask 76 = .ok (.ifCond .ne 16, 3) := dk_154 0 16 (dk_at dksX0_ask_3 6 rfl rfl)
theorem dX0_ask_79 : decode cX0_ask 79 = .ok (.aload_n 3, 1) := dk_45 (dk_at dksX0_ask_3 9 rfl rfl)
theorem dX0_ask_80 : decode cX0_ask 80 = .ok (.aload_n 0, 1) := dk_42 (dk_at dksX0_ask_3 10 rfl rfl)
theorem dX0_ask_81 : decode cX0_ask 81 = .ok (.getfield 88, 3) := dk_180 0 88 (dk_at dksX0_ask_3 11 rfl rfl)
theorem dX0_ask_84 : decode cX0_ask 84 = .ok (.aload 4, 2) := dk_25 4 (dk_at dksX0_ask_3 14 rfl rfl)
theorem dX0_ask_86 : decode cX0_ask 86 = .ok (.invokevirtual 390, 3) := dk_182 1 134 (dk_at dksX0_ask_3 16 rfl rfl)
theorem dX0_ask_89 : decode cX0_ask 89 = .ok (.goto 13, 3) := dk_167 0 13 (dk_at dksX0_ask_3 19 rfl rfl)
theorem dX0_ask_92 : decode cX0_ask 92 = .ok (.aload_n 3, 1) := dk_45 (dk_at dksX0_ask_3 22 rfl rfl)
theorem dX0_ask_93 : decode cX0_ask 93 = .ok (.aload_n 0, 1) := dk_42 (dk_at dksX0_ask_3 23 rfl rfl)
theorem dX0_ask_94 : decode cX0_ask 94 = .ok (.getfield 88, 3) := dk_180 0 88 (dk_at dksX0_ask_4 0 rfl rfl)
theorem dX0_ask_97 : decode cX0_ask 97 = .ok (.aload 4, 2) := dk_25 4 (dk_at dksX0_ask_4 3 rfl rfl)
theorem dX0_ask_99 : decode cX0_ask 99 = .ok (.invokevirtual 394, 3) := dk_182 1 138 (dk_at dksX0_ask_4 5 rfl rfl)
theorem dX0_ask_102 : decode cX0_ask 102 = .ok (.ireturn, 1) := dk_172 (dk_at dksX0_ask_4 8 rfl rfl)
abbrev cX0_trace : ByteArray := prog_1_method_61_code
def yX0_trace : MethodName := ⟨RX0, "trace", "(I)I"⟩
def dkwX0_trace_1 : List UInt8 := [180, 1, 143, 27, 46, 167, 0, 5, 18, 33, 172]
abbrev dktX0_trace_1 : List UInt8 := dkwX0_trace_1 ++ []
def dkwX0_trace_0 : List UInt8 := [27, 133, 9, 42, 180, 0, 88, 180, 1, 141, 4, 100, 133, 184, 0, 99, 153, 0, 15, 42, 180, 0, 88]
abbrev dktX0_trace_0 : List UInt8 := dkwX0_trace_0 ++ dktX0_trace_1
theorem dksX0_trace_0 : cX0_trace.data.toList.drop 0 = dktX0_trace_0 := by decide +kernel
theorem dksX0_trace_1 : cX0_trace.data.toList.drop 23 = dktX0_trace_1 := dk_seg dksX0_trace_0 23 rfl rfl
theorem dX0_trace_0 : decode cX0_trace 0 = .ok (.iload_n 1, 1) := dk_27 (dk_at dksX0_trace_0 0 rfl rfl)
theorem dX0_trace_1 : decode cX0_trace 1 = .ok (.i2l, 1) := dk_133 (dk_at dksX0_trace_0 1 rfl rfl)
theorem dX0_trace_2 : decode cX0_trace 2 = .ok (.lconst 0, 1) := dk_9 (dk_at dksX0_trace_0 2 rfl rfl)
theorem dX0_trace_3 : decode cX0_trace 3 = .ok (.aload_n 0, 1) := dk_42 (dk_at dksX0_trace_0 3 rfl rfl)
theorem dX0_trace_4 : decode cX0_trace 4 = .ok (.getfield 88, 3) := dk_180 0 88 (dk_at dksX0_trace_0 4 rfl rfl)
theorem dX0_trace_7 : decode cX0_trace 7 = .ok (.getfield 397, 3) := dk_180 1 141 (dk_at dksX0_trace_0 7 rfl rfl)
theorem dX0_trace_10 : decode cX0_trace 10 = .ok (.iconst 1, 1) := dk_4 (dk_at dksX0_trace_0 10 rfl rfl)
theorem dX0_trace_11 : decode cX0_trace 11 = .ok (.isub, 1) := dk_100 (dk_at dksX0_trace_0 11 rfl rfl)
theorem dX0_trace_12 : decode cX0_trace 12 = .ok (.i2l, 1) := dk_133 (dk_at dksX0_trace_0 12 rfl rfl)
theorem dX0_trace_13 : decode cX0_trace 13 = .ok (.invokestatic 99, 3) := dk_184 0 99 (dk_at dksX0_trace_0 13 rfl rfl)
theorem dX0_trace_16 : decode cX0_trace 16 = .ok (.ifCond .eq 15, 3) := dk_153 0 15 (dk_at dksX0_trace_0 16 rfl rfl)
theorem dX0_trace_19 : decode cX0_trace 19 = .ok (.aload_n 0, 1) := dk_42 (dk_at dksX0_trace_0 19 rfl rfl)
theorem dX0_trace_20 : decode cX0_trace 20 = .ok (.getfield 88, 3) := dk_180 0 88 (dk_at dksX0_trace_0 20 rfl rfl)
theorem dX0_trace_23 : decode cX0_trace 23 = .ok (.getfield 399, 3) := dk_180 1 143 (dk_at dksX0_trace_1 0 rfl rfl)
theorem dX0_trace_26 : decode cX0_trace 26 = .ok (.iload_n 1, 1) := dk_27 (dk_at dksX0_trace_1 3 rfl rfl)
theorem dX0_trace_27 : decode cX0_trace 27 = .ok (.iaload, 1) := dk_46 (dk_at dksX0_trace_1 4 rfl rfl)
theorem dX0_trace_28 : decode cX0_trace 28 = .ok (.goto 5, 3) := dk_167 0 5 (dk_at dksX0_trace_1 5 rfl rfl)
theorem dX0_trace_31 : decode cX0_trace 31 = .ok (.ldc 33, 2) := dk_18 33 (dk_at dksX0_trace_1 8 rfl rfl)
theorem dX0_trace_33 : decode cX0_trace 33 = .ok (.ireturn, 1) := dk_172 (dk_at dksX0_trace_1 10 rfl rfl)
abbrev cX0_count : ByteArray := prog_1_method_64_code
def yX0_count : MethodName := ⟨RX0, "count", "(I)I"⟩
def dkwX0_count_4 : List UInt8 := [180, 0, 237, 167, 0, 19, 42, 180, 0, 189, 167, 0, 12, 42, 180, 0, 154, 167, 0, 5, 18, 109, 172]
abbrev dktX0_count_4 : List UInt8 := dkwX0_count_4 ++ []
def dkwX0_count_3 : List UInt8 := [167, 0, 46, 42, 182, 1, 149, 167, 0, 39, 42, 180, 0, 57, 180, 0, 234, 167, 0, 29, 42, 180, 0, 57]
abbrev dktX0_count_3 : List UInt8 := dkwX0_count_3 ++ dktX0_count_4
def dkwX0_count_2 : List UInt8 := [42, 182, 1, 146, 167, 0, 66, 42, 180, 0, 57, 180, 0, 192, 167, 0, 56, 42, 180, 0, 57, 180, 0, 195]
abbrev dktX0_count_2 : List UInt8 := dkwX0_count_2 ++ dktX0_count_3
def dkwX0_count_1 : List UInt8 := [170, 0, 0, 0, 0, 0, 115, 0, 0, 0, 0, 0, 0, 0, 7, 0, 0, 0, 47, 0, 0, 0, 54, 0, 0, 0, 64, 0, 0, 0, 74, 0, 0, 0, 81, 0, 0, 0, 91, 0, 0, 0, 101, 0, 0, 0, 108]
abbrev dktX0_count_1 : List UInt8 := dkwX0_count_1 ++ dktX0_count_2
def dkwX0_count_0 : List UInt8 := [27]
abbrev dktX0_count_0 : List UInt8 := dkwX0_count_0 ++ dktX0_count_1
theorem dksX0_count_0 : cX0_count.data.toList.drop 0 = dktX0_count_0 := by decide +kernel
theorem dksX0_count_1 : cX0_count.data.toList.drop 1 = dktX0_count_1 := dk_seg dksX0_count_0 1 rfl rfl
theorem dksX0_count_2 : cX0_count.data.toList.drop 48 = dktX0_count_2 := dk_seg dksX0_count_1 47 rfl rfl
theorem dksX0_count_3 : cX0_count.data.toList.drop 72 = dktX0_count_3 := dk_seg dksX0_count_2 24 rfl rfl
theorem dksX0_count_4 : cX0_count.data.toList.drop 96 = dktX0_count_4 := dk_seg dksX0_count_3 24 rfl rfl
theorem dX0_count_0 : decode cX0_count 0 = .ok (.iload_n 1, 1) := dk_27 (dk_at dksX0_count_0 0 rfl rfl)
theorem dX0_count_1 : decode cX0_count 1 = .ok (.tableswitch 115 0 7 #[47, 54, 64, 74, 81, 91, 101, 108], 47) := by decide +kernel
theorem dX0_count_48 : decode cX0_count 48 = .ok (.aload_n 0, 1) := dk_42 (dk_at dksX0_count_2 0 rfl rfl)
theorem dX0_count_49 : decode cX0_count 49 = .ok (.invokevirtual 402, 3) := dk_182 1 146 (dk_at dksX0_count_2 1 rfl rfl)
theorem dX0_count_52 : decode cX0_count 52 = .ok (.goto 66, 3) := dk_167 0 66 (dk_at dksX0_count_2 4 rfl rfl)
theorem dX0_count_55 : decode cX0_count 55 = .ok (.aload_n 0, 1) := dk_42 (dk_at dksX0_count_2 7 rfl rfl)
theorem dX0_count_56 : decode cX0_count 56 = .ok (.getfield 57, 3) := dk_180 0 57 (dk_at dksX0_count_2 8 rfl rfl)
theorem dX0_count_59 : decode cX0_count 59 = .ok (.getfield 192, 3) := dk_180 0 192 (dk_at dksX0_count_2 11 rfl rfl)
theorem dX0_count_62 : decode cX0_count 62 = .ok (.goto 56, 3) := dk_167 0 56 (dk_at dksX0_count_2 14 rfl rfl)
theorem dX0_count_65 : decode cX0_count 65 = .ok (.aload_n 0, 1) := dk_42 (dk_at dksX0_count_2 17 rfl rfl)
theorem dX0_count_66 : decode cX0_count 66 = .ok (.getfield 57, 3) := dk_180 0 57 (dk_at dksX0_count_2 18 rfl rfl)
theorem dX0_count_69 : decode cX0_count 69 = .ok (.getfield 195, 3) := dk_180 0 195 (dk_at dksX0_count_2 21 rfl rfl)
theorem dX0_count_72 : decode cX0_count 72 = .ok (.goto 46, 3) := dk_167 0 46 (dk_at dksX0_count_3 0 rfl rfl)
theorem dX0_count_75 : decode cX0_count 75 = .ok (.aload_n 0, 1) := dk_42 (dk_at dksX0_count_3 3 rfl rfl)
theorem dX0_count_76 : decode cX0_count 76 = .ok (.invokevirtual 405, 3) := dk_182 1 149 (dk_at dksX0_count_3 4 rfl rfl)
theorem dX0_count_79 : decode cX0_count 79 = .ok (.goto 39, 3) := dk_167 0 39 (dk_at dksX0_count_3 7 rfl rfl)
theorem dX0_count_82 : decode cX0_count 82 = .ok (.aload_n 0, 1) := dk_42 (dk_at dksX0_count_3 10 rfl rfl)
theorem dX0_count_83 : decode cX0_count 83 = .ok (.getfield 57, 3) := dk_180 0 57 (dk_at dksX0_count_3 11 rfl rfl)
theorem dX0_count_86 : decode cX0_count 86 = .ok (.getfield 234, 3) := dk_180 0 234 (dk_at dksX0_count_3 14 rfl rfl)
theorem dX0_count_89 : decode cX0_count 89 = .ok (.goto 29, 3) := dk_167 0 29 (dk_at dksX0_count_3 17 rfl rfl)
theorem dX0_count_92 : decode cX0_count 92 = .ok (.aload_n 0, 1) := dk_42 (dk_at dksX0_count_3 20 rfl rfl)
theorem dX0_count_93 : decode cX0_count 93 = .ok (.getfield 57, 3) := dk_180 0 57 (dk_at dksX0_count_3 21 rfl rfl)
theorem dX0_count_96 : decode cX0_count 96 = .ok (.getfield 237, 3) := dk_180 0 237 (dk_at dksX0_count_4 0 rfl rfl)
theorem dX0_count_99 : decode cX0_count 99 = .ok (.goto 19, 3) := dk_167 0 19 (dk_at dksX0_count_4 3 rfl rfl)
theorem dX0_count_102 : decode cX0_count 102 = .ok (.aload_n 0, 1) := dk_42 (dk_at dksX0_count_4 6 rfl rfl)
theorem dX0_count_103 : decode cX0_count 103 = .ok (.getfield 189, 3) := dk_180 0 189 (dk_at dksX0_count_4 7 rfl rfl)
theorem dX0_count_106 : decode cX0_count 106 = .ok (.goto 12, 3) := dk_167 0 12 (dk_at dksX0_count_4 10 rfl rfl)
theorem dX0_count_109 : decode cX0_count 109 = .ok (.aload_n 0, 1) := dk_42 (dk_at dksX0_count_4 13 rfl rfl)
theorem dX0_count_110 : decode cX0_count 110 = .ok (.getfield 154, 3) := dk_180 0 154 (dk_at dksX0_count_4 14 rfl rfl)
theorem dX0_count_113 : decode cX0_count 113 = .ok (.goto 5, 3) := dk_167 0 5 (dk_at dksX0_count_4 17 rfl rfl)
theorem dX0_count_116 : decode cX0_count 116 = .ok (.ldc 109, 2) := dk_18 109 (dk_at dksX0_count_4 20 rfl rfl)
theorem dX0_count_118 : decode cX0_count 118 = .ok (.ireturn, 1) := dk_172 (dk_at dksX0_count_4 22 rfl rfl)
abbrev cX0_rowsThere : ByteArray := prog_1_method_62_code
def yX0_rowsThere : MethodName := ⟨RX0, "rowsThere", "()I"⟩
def dkwX0_rowsThere_1 : List UInt8 := [167, 0, 4, 4, 96, 60, 132, 2, 1, 167, 255, 227, 27, 172]
abbrev dktX0_rowsThere_1 : List UInt8 := dkwX0_rowsThere_1 ++ []
def dkwX0_rowsThere_0 : List UInt8 := [3, 60, 3, 61, 28, 16, 8, 162, 0, 29, 27, 42, 180, 0, 46, 28, 50, 180, 0, 114, 199, 0, 7, 3]
abbrev dktX0_rowsThere_0 : List UInt8 := dkwX0_rowsThere_0 ++ dktX0_rowsThere_1
theorem dksX0_rowsThere_0 : cX0_rowsThere.data.toList.drop 0 = dktX0_rowsThere_0 := by decide +kernel
theorem dksX0_rowsThere_1 : cX0_rowsThere.data.toList.drop 24 = dktX0_rowsThere_1 := dk_seg dksX0_rowsThere_0 24 rfl rfl
theorem dX0_rowsThere_0 : decode cX0_rowsThere 0 = .ok (.iconst 0, 1) := dk_3 (dk_at dksX0_rowsThere_0 0 rfl rfl)
theorem dX0_rowsThere_1 : decode cX0_rowsThere 1 = .ok (.istore_n 1, 1) := dk_60 (dk_at dksX0_rowsThere_0 1 rfl rfl)
theorem dX0_rowsThere_2 : decode cX0_rowsThere 2 = .ok (.iconst 0, 1) := dk_3 (dk_at dksX0_rowsThere_0 2 rfl rfl)
theorem dX0_rowsThere_3 : decode cX0_rowsThere 3 = .ok (.istore_n 2, 1) := dk_61 (dk_at dksX0_rowsThere_0 3 rfl rfl)
theorem dX0_rowsThere_4 : decode cX0_rowsThere 4 = .ok (.iload_n 2, 1) := dk_28 (dk_at dksX0_rowsThere_0 4 rfl rfl)
theorem dX0_rowsThere_5 : decode cX0_rowsThere 5 = .ok (.bipush 8, 2) := dk_16 8 (dk_at dksX0_rowsThere_0 5 rfl rfl)
theorem dX0_rowsThere_7 : decode cX0_rowsThere 7 = .ok (.if_icmp .ge 29, 3) := dk_162 0 29 (dk_at dksX0_rowsThere_0 7 rfl rfl)
theorem dX0_rowsThere_10 : decode cX0_rowsThere 10 = .ok (.iload_n 1, 1) := dk_27 (dk_at dksX0_rowsThere_0 10 rfl rfl)
theorem dX0_rowsThere_11 : decode cX0_rowsThere 11 = .ok (.aload_n 0, 1) := dk_42 (dk_at dksX0_rowsThere_0 11 rfl rfl)
theorem dX0_rowsThere_12 : decode cX0_rowsThere 12 = .ok (.getfield 46, 3) := dk_180 0 46 (dk_at dksX0_rowsThere_0 12 rfl rfl)
theorem dX0_rowsThere_15 : decode cX0_rowsThere 15 = .ok (.iload_n 2, 1) := dk_28 (dk_at dksX0_rowsThere_0 15 rfl rfl)
theorem dX0_rowsThere_16 : decode cX0_rowsThere 16 = .ok (.aaload, 1) := dk_50 (dk_at dksX0_rowsThere_0 16 rfl rfl)
theorem dX0_rowsThere_17 : decode cX0_rowsThere 17 = .ok (.getfield 114, 3) := dk_180 0 114 (dk_at dksX0_rowsThere_0 17 rfl rfl)
theorem dX0_rowsThere_20 : decode cX0_rowsThere 20 = .ok (.ifnonnull 7, 3) := dk_199 0 7 (dk_at dksX0_rowsThere_0 20 rfl rfl)
theorem dX0_rowsThere_23 : decode cX0_rowsThere 23 = .ok (.iconst 0, 1) := dk_3 (dk_at dksX0_rowsThere_0 23 rfl rfl)
theorem dX0_rowsThere_24 : decode cX0_rowsThere 24 = .ok (.goto 4, 3) := dk_167 0 4 (dk_at dksX0_rowsThere_1 0 rfl rfl)
theorem dX0_rowsThere_27 : decode cX0_rowsThere 27 = .ok (.iconst 1, 1) := dk_4 (dk_at dksX0_rowsThere_1 3 rfl rfl)
theorem dX0_rowsThere_28 : decode cX0_rowsThere 28 = .ok (.iadd, 1) := dk_96 (dk_at dksX0_rowsThere_1 4 rfl rfl)
theorem dX0_rowsThere_29 : decode cX0_rowsThere 29 = .ok (.istore_n 1, 1) := dk_60 (dk_at dksX0_rowsThere_1 5 rfl rfl)
theorem dX0_rowsThere_30 : decode cX0_rowsThere 30 = .ok (.iinc 2 1, 3) := dk_132 2 1 (dk_at dksX0_rowsThere_1 6 rfl rfl)
theorem dX0_rowsThere_33 : decode cX0_rowsThere 33 = .ok (.goto (-29), 3) := dk_167 255 227 (dk_at dksX0_rowsThere_1 9 rfl rfl)
theorem dX0_rowsThere_36 : decode cX0_rowsThere 36 = .ok (.iload_n 1, 1) := dk_27 (dk_at dksX0_rowsThere_1 12 rfl rfl)
theorem dX0_rowsThere_37 : decode cX0_rowsThere 37 = .ok (.ireturn, 1) := dk_172 (dk_at dksX0_rowsThere_1 13 rfl rfl)
abbrev cX0_cases : ByteArray := prog_1_method_63_code
def yX0_cases : MethodName := ⟨RX0, "cases", "()I"⟩
def dkwX0_cases_1 : List UInt8 := [46, 156, 0, 7, 3, 167, 0, 4, 4, 96, 60, 132, 2, 1, 167, 255, 222, 27, 172]
abbrev dktX0_cases_1 : List UInt8 := dkwX0_cases_1 ++ []
def dkwX0_cases_0 : List UInt8 := [3, 60, 3, 61, 28, 42, 180, 0, 57, 180, 0, 192, 162, 0, 29, 27, 42, 180, 0, 57, 180, 0, 223, 28]
abbrev dktX0_cases_0 : List UInt8 := dkwX0_cases_0 ++ dktX0_cases_1
theorem dksX0_cases_0 : cX0_cases.data.toList.drop 0 = dktX0_cases_0 := by decide +kernel
theorem dksX0_cases_1 : cX0_cases.data.toList.drop 24 = dktX0_cases_1 := dk_seg dksX0_cases_0 24 rfl rfl
theorem dX0_cases_0 : decode cX0_cases 0 = .ok (.iconst 0, 1) := dk_3 (dk_at dksX0_cases_0 0 rfl rfl)
theorem dX0_cases_1 : decode cX0_cases 1 = .ok (.istore_n 1, 1) := dk_60 (dk_at dksX0_cases_0 1 rfl rfl)
theorem dX0_cases_2 : decode cX0_cases 2 = .ok (.iconst 0, 1) := dk_3 (dk_at dksX0_cases_0 2 rfl rfl)
theorem dX0_cases_3 : decode cX0_cases 3 = .ok (.istore_n 2, 1) := dk_61 (dk_at dksX0_cases_0 3 rfl rfl)
theorem dX0_cases_4 : decode cX0_cases 4 = .ok (.iload_n 2, 1) := dk_28 (dk_at dksX0_cases_0 4 rfl rfl)
theorem dX0_cases_5 : decode cX0_cases 5 = .ok (.aload_n 0, 1) := dk_42 (dk_at dksX0_cases_0 5 rfl rfl)
theorem dX0_cases_6 : decode cX0_cases 6 = .ok (.getfield 57, 3) := dk_180 0 57 (dk_at dksX0_cases_0 6 rfl rfl)
theorem dX0_cases_9 : decode cX0_cases 9 = .ok (.getfield 192, 3) := dk_180 0 192 (dk_at dksX0_cases_0 9 rfl rfl)
theorem dX0_cases_12 : decode cX0_cases 12 = .ok (.if_icmp .ge 29, 3) := dk_162 0 29 (dk_at dksX0_cases_0 12 rfl rfl)
theorem dX0_cases_15 : decode cX0_cases 15 = .ok (.iload_n 1, 1) := dk_27 (dk_at dksX0_cases_0 15 rfl rfl)
theorem dX0_cases_16 : decode cX0_cases 16 = .ok (.aload_n 0, 1) := dk_42 (dk_at dksX0_cases_0 16 rfl rfl)
theorem dX0_cases_17 : decode cX0_cases 17 = .ok (.getfield 57, 3) := dk_180 0 57 (dk_at dksX0_cases_0 17 rfl rfl)
theorem dX0_cases_20 : decode cX0_cases 20 = .ok (.getfield 223, 3) := dk_180 0 223 (dk_at dksX0_cases_0 20 rfl rfl)
theorem dX0_cases_23 : decode cX0_cases 23 = .ok (.iload_n 2, 1) := dk_28 (dk_at dksX0_cases_0 23 rfl rfl)
theorem dX0_cases_24 : decode cX0_cases 24 = .ok (.iaload, 1) := dk_46 (dk_at dksX0_cases_1 0 rfl rfl)
theorem dX0_cases_25 : decode cX0_cases 25 = .ok (.ifCond .ge 7, 3) := dk_156 0 7 (dk_at dksX0_cases_1 1 rfl rfl)
theorem dX0_cases_28 : decode cX0_cases 28 = .ok (.iconst 0, 1) := dk_3 (dk_at dksX0_cases_1 4 rfl rfl)
theorem dX0_cases_29 : decode cX0_cases 29 = .ok (.goto 4, 3) := dk_167 0 4 (dk_at dksX0_cases_1 5 rfl rfl)
theorem dX0_cases_32 : decode cX0_cases 32 = .ok (.iconst 1, 1) := dk_4 (dk_at dksX0_cases_1 8 rfl rfl)
theorem dX0_cases_33 : decode cX0_cases 33 = .ok (.iadd, 1) := dk_96 (dk_at dksX0_cases_1 9 rfl rfl)
theorem dX0_cases_34 : decode cX0_cases 34 = .ok (.istore_n 1, 1) := dk_60 (dk_at dksX0_cases_1 10 rfl rfl)
theorem dX0_cases_35 : decode cX0_cases 35 = .ok (.iinc 2 1, 3) := dk_132 2 1 (dk_at dksX0_cases_1 11 rfl rfl)
theorem dX0_cases_38 : decode cX0_cases 38 = .ok (.goto (-34), 3) := dk_167 255 222 (dk_at dksX0_cases_1 14 rfl rfl)
theorem dX0_cases_41 : decode cX0_cases 41 = .ok (.iload_n 1, 1) := dk_27 (dk_at dksX0_cases_1 17 rfl rfl)
theorem dX0_cases_42 : decode cX0_cases 42 = .ok (.ireturn, 1) := dk_172 (dk_at dksX0_cases_1 18 rfl rfl)
abbrev cX0_status : ByteArray := prog_1_method_65_code
def yX0_status : MethodName := ⟨RX0, "status", "()I"⟩
theorem dX0_status_0 : decode cX0_status 0 = .ok (.aload_n 0, 1) := by decide +kernel
theorem dX0_status_1 : decode cX0_status 1 = .ok (.getfield 92, 3) := by decide +kernel
theorem dX0_status_4 : decode cX0_status 4 = .ok (.ireturn, 1) := by decide +kernel
theorem q77 : (Jvm.Cond.initialized "DatedContacts") ∈ lw_all := lw_g (lw_at lw_m1 1 rfl) rfl
theorem q118 : (Jvm.Cond.instantiable "DatedContacts" (13 : Nat)) ∈ lw_all := lw_g (lw_at lw_m1 42 rfl) rfl
theorem q120 : (Jvm.Cond.instanceMethod ({ cls := "DatedContacts", name := "<init>", desc := "()V" } : Jvm.MethodName)) ∈ lw_all := lw_g (lw_at lw_m1 44 rfl) rfl
theorem q121 : (Jvm.Cond.code ({ cls := "DatedContacts", name := "<init>", desc := "()V" } : Jvm.MethodName) prog_1_method_7_code (1 : Nat) (Option.none : Option Jvm.ClassFile.FieldType)) ∈ lw_all := lw_g (lw_at lw_m1 45 rfl) rfl
theorem q122 : (Jvm.Cond.methodLink "DatedContacts" (39 : Nat) ({ cls := "java/lang/Object", name := "<init>", desc := "()V" } : Jvm.MethodName)) ∈ lw_all := lw_g (lw_at lw_m1 46 rfl) rfl
theorem q125 : (Jvm.Cond.methodLink "DatedContacts" (42 : Nat) ({ cls := "DatedContacts", name := "shelves", desc := "()[LDatedContacts$Shelf;" } : Jvm.MethodName)) ∈ lw_all := lw_g (lw_at lw_m1 49 rfl) rfl
theorem q126 : (Jvm.Cond.static ({ cls := "DatedContacts", name := "shelves", desc := "()[LDatedContacts$Shelf;" } : Jvm.MethodName)) ∈ lw_all := lw_g (lw_at lw_m1 50 rfl) rfl
theorem q127 : (Jvm.Cond.code ({ cls := "DatedContacts", name := "shelves", desc := "()[LDatedContacts$Shelf;" } : Jvm.MethodName) prog_1_method_6_code (2 : Nat) (Option.some (Jvm.ClassFile.FieldType.array (Jvm.ClassFile.FieldType.object "DatedContacts$Shelf")))) ∈ lw_all := lw_g (lw_at lw_m1 51 rfl) rfl
theorem q128 : (Jvm.Cond.classLink "DatedContacts" (34 : Nat) "DatedContacts$Shelf") ∈ lw_all := lw_g (lw_at lw_m1 52 rfl) rfl
theorem q131 : (Jvm.Cond.methodLinkNest "DatedContacts" (36 : Nat) ({ cls := "DatedContacts$Shelf", name := "<init>", desc := "()V" } : Jvm.MethodName) "DatedContacts") ∈ lw_tbl := lw_at lw_m1 55 rfl
theorem q136 : (Jvm.Cond.fieldLinkNest "DatedContacts" (114 : Nat) "DatedContacts$Shelf" "held" "Ljava/lang/Object;" "DatedContacts") ∈ lw_tbl := lw_at lw_m1 60 rfl
theorem q140 : (Jvm.Cond.classLink "DatedContacts" (54 : Nat) "DatedContacts$Net") ∈ lw_all := lw_g (lw_at lw_m1 64 rfl) rfl
theorem q142 : (Jvm.Cond.methodLink "DatedContacts" (56 : Nat) ({ cls := "DatedContacts$Net", name := "<init>", desc := "()V" } : Jvm.MethodName)) ∈ lw_all := lw_g (lw_at lw_m1 66 rfl) rfl
theorem q152 : (Jvm.Cond.fieldLink "DatedContacts" (192 : Nat) "DatedContacts$Net" "persons" "I") ∈ lw_all := lw_g (lw_at lw_m1 76 rfl) rfl
theorem q157 : (Jvm.Cond.fieldLink "DatedContacts" (195 : Nat) "DatedContacts$Net" "contacts" "I") ∈ lw_all := lw_g (lw_at lw_m1 81 rfl) rfl
theorem q160 : (Jvm.Cond.fieldLink "DatedContacts" (234 : Nat) "DatedContacts$Net" "low" "I") ∈ lw_all := lw_g (lw_at lw_m1 84 rfl) rfl
theorem q163 : (Jvm.Cond.fieldLink "DatedContacts" (237 : Nat) "DatedContacts$Net" "high" "I") ∈ lw_all := lw_g (lw_at lw_m1 87 rfl) rfl
theorem q166 : (Jvm.Cond.fieldLink "DatedContacts" (242 : Nat) "DatedContacts$Net" "person" "[LDatedContacts$Person;") ∈ lw_all := lw_g (lw_at lw_m1 90 rfl) rfl
theorem q169 : (Jvm.Cond.fieldLink "DatedContacts" (223 : Nat) "DatedContacts$Net" "ill" "[I") ∈ lw_all := lw_g (lw_at lw_m1 93 rfl) rfl
theorem q174 : (Jvm.Cond.fieldLink "DatedContacts" (209 : Nat) "DatedContacts$Net" "a" "[I") ∈ lw_all := lw_g (lw_at lw_m1 98 rfl) rfl
theorem q178 : (Jvm.Cond.fieldLink "DatedContacts" (213 : Nat) "DatedContacts$Net" "b" "[I") ∈ lw_all := lw_g (lw_at lw_m1 102 rfl) rfl
theorem q183 : (Jvm.Cond.fieldLink "DatedContacts" (216 : Nat) "DatedContacts$Net" "day" "[I") ∈ lw_all := lw_g (lw_at lw_m1 107 rfl) rfl
theorem q208 : (Jvm.Cond.classLink "DatedContacts" (64 : Nat) "DatedContacts$Walk") ∈ lw_all := lw_g (lw_at lw_m1 132 rfl) rfl
theorem q210 : (Jvm.Cond.methodLinkNest "DatedContacts" (66 : Nat) ({ cls := "DatedContacts$Walk", name := "<init>", desc := "()V" } : Jvm.MethodName) "DatedContacts") ∈ lw_tbl := lw_at lw_m1 134 rfl
theorem q215 : (Jvm.Cond.fieldLink "DatedContacts" (275 : Nat) "DatedContacts$Walk" "days" "[I") ∈ lw_all := lw_g (lw_at lw_m1 139 rfl) rfl
theorem q219 : (Jvm.Cond.classLink "DatedContacts" (71 : Nat) "DatedContacts$Chains") ∈ lw_all := lw_g (lw_at lw_m1 143 rfl) rfl
theorem q221 : (Jvm.Cond.methodLinkNest "DatedContacts" (73 : Nat) ({ cls := "DatedContacts$Chains", name := "<init>", desc := "()V" } : Jvm.MethodName) "DatedContacts") ∈ lw_tbl := lw_at lw_m1 145 rfl
theorem q232 : (Jvm.Cond.fieldLink "DatedContacts" (290 : Nat) "DatedContacts$Chains" "contact" "[I") ∈ lw_all := lw_g (lw_at lw_m1 156 rfl) rfl
theorem q234 : (Jvm.Cond.fieldLink "DatedContacts" (288 : Nat) "DatedContacts$Chains" "length" "I") ∈ lw_all := lw_g (lw_at lw_m1 158 rfl) rfl
theorem q253 : (Jvm.Cond.classLink "DatedContacts" (85 : Nat) "DatedContacts$Trail") ∈ lw_all := lw_g (lw_at lw_m1 177 rfl) rfl
theorem q255 : (Jvm.Cond.methodLinkNest "DatedContacts" (87 : Nat) ({ cls := "DatedContacts$Trail", name := "<init>", desc := "()V" } : Jvm.MethodName) "DatedContacts") ∈ lw_tbl := lw_at lw_m1 179 rfl
theorem q260 : (Jvm.Cond.fieldLinkNest "DatedContacts" (399 : Nat) "DatedContacts$Trail" "body" "[I" "DatedContacts") ∈ lw_tbl := lw_at lw_m1 184 rfl
theorem q262 : (Jvm.Cond.fieldLinkNest "DatedContacts" (397 : Nat) "DatedContacts$Trail" "many" "I" "DatedContacts") ∈ lw_tbl := lw_at lw_m1 186 rfl
theorem q268 : (Jvm.Cond.fieldLink "DatedContacts" (46 : Nat) "DatedContacts" "rows" "[LDatedContacts$Shelf;") ∈ lw_all := lw_g (lw_at lw_m1 192 rfl) rfl
theorem q269 : (Jvm.Cond.fieldLink "DatedContacts" (50 : Nat) "DatedContacts" "tape" "[B") ∈ lw_all := lw_g (lw_at lw_m1 193 rfl) rfl
theorem q270 : (Jvm.Cond.fieldLink "DatedContacts" (154 : Nat) "DatedContacts" "taped" "I") ∈ lw_all := lw_g (lw_at lw_m1 194 rfl) rfl
theorem q271 : (Jvm.Cond.fieldLink "DatedContacts" (171 : Nat) "DatedContacts" "faultKind" "I") ∈ lw_all := lw_g (lw_at lw_m1 195 rfl) rfl
theorem q272 : (Jvm.Cond.fieldLink "DatedContacts" (57 : Nat) "DatedContacts" "net" "LDatedContacts$Net;") ∈ lw_all := lw_g (lw_at lw_m1 196 rfl) rfl
theorem q273 : (Jvm.Cond.fieldLink "DatedContacts" (61 : Nat) "DatedContacts" "other" "LDatedContacts$Net;") ∈ lw_all := lw_g (lw_at lw_m1 197 rfl) rfl
theorem q274 : (Jvm.Cond.fieldLink "DatedContacts" (67 : Nat) "DatedContacts" "walk" "LDatedContacts$Walk;") ∈ lw_all := lw_g (lw_at lw_m1 198 rfl) rfl
theorem q275 : (Jvm.Cond.fieldLink "DatedContacts" (74 : Nat) "DatedContacts" "chains" "LDatedContacts$Chains;") ∈ lw_all := lw_g (lw_at lw_m1 199 rfl) rfl
theorem q276 : (Jvm.Cond.fieldLink "DatedContacts" (78 : Nat) "DatedContacts" "past" "[LDatedContacts$Net;") ∈ lw_all := lw_g (lw_at lw_m1 200 rfl) rfl
theorem q277 : (Jvm.Cond.fieldLink "DatedContacts" (189 : Nat) "DatedContacts" "acts" "I") ∈ lw_all := lw_g (lw_at lw_m1 201 rfl) rfl
theorem q278 : (Jvm.Cond.fieldLink "DatedContacts" (82 : Nat) "DatedContacts" "images" "[LDatedContacts$Net;") ∈ lw_all := lw_g (lw_at lw_m1 202 rfl) rfl
theorem q279 : (Jvm.Cond.fieldLink "DatedContacts" (88 : Nat) "DatedContacts" "trail" "LDatedContacts$Trail;") ∈ lw_all := lw_g (lw_at lw_m1 203 rfl) rfl
theorem q280 : (Jvm.Cond.fieldLink "DatedContacts" (92 : Nat) "DatedContacts" "status" "I") ∈ lw_all := lw_g (lw_at lw_m1 204 rfl) rfl
theorem q281 : (Jvm.Cond.laysFinal "DatedContacts" "DatedContacts" "rows" "[LDatedContacts$Shelf;") ∈ lw_all := lw_g (lw_at lw_m1 205 rfl) rfl
theorem q282 : (Jvm.Cond.soleField "DatedContacts" "rows") ∈ lw_all := lw_g (lw_at lw_m1 206 rfl) rfl
theorem q283 : (Jvm.Cond.laysFinal "DatedContacts" "DatedContacts" "tape" "[B") ∈ lw_all := lw_g (lw_at lw_m1 207 rfl) rfl
theorem q284 : (Jvm.Cond.soleField "DatedContacts" "tape") ∈ lw_all := lw_g (lw_at lw_m1 208 rfl) rfl
theorem q285 : (Jvm.Cond.lays "DatedContacts" "DatedContacts" "taped" "I") ∈ lw_all := lw_g (lw_at lw_m1 209 rfl) rfl
theorem q286 : (Jvm.Cond.soleField "DatedContacts" "taped") ∈ lw_all := lw_g (lw_at lw_m1 210 rfl) rfl
theorem q287 : (Jvm.Cond.lays "DatedContacts" "DatedContacts" "faultKind" "I") ∈ lw_all := lw_g (lw_at lw_m1 211 rfl) rfl
theorem q288 : (Jvm.Cond.soleField "DatedContacts" "faultKind") ∈ lw_all := lw_g (lw_at lw_m1 212 rfl) rfl
theorem q289 : (Jvm.Cond.laysFinal "DatedContacts" "DatedContacts" "net" "LDatedContacts$Net;") ∈ lw_all := lw_g (lw_at lw_m1 213 rfl) rfl
theorem q290 : (Jvm.Cond.soleField "DatedContacts" "net") ∈ lw_all := lw_g (lw_at lw_m1 214 rfl) rfl
theorem q291 : (Jvm.Cond.laysFinal "DatedContacts" "DatedContacts" "other" "LDatedContacts$Net;") ∈ lw_all := lw_g (lw_at lw_m1 215 rfl) rfl
theorem q292 : (Jvm.Cond.soleField "DatedContacts" "other") ∈ lw_all := lw_g (lw_at lw_m1 216 rfl) rfl
theorem q293 : (Jvm.Cond.laysFinal "DatedContacts" "DatedContacts" "walk" "LDatedContacts$Walk;") ∈ lw_all := lw_g (lw_at lw_m1 217 rfl) rfl
theorem q294 : (Jvm.Cond.soleField "DatedContacts" "walk") ∈ lw_all := lw_g (lw_at lw_m1 218 rfl) rfl
theorem q295 : (Jvm.Cond.laysFinal "DatedContacts" "DatedContacts" "chains" "LDatedContacts$Chains;") ∈ lw_all := lw_g (lw_at lw_m1 219 rfl) rfl
theorem q296 : (Jvm.Cond.soleField "DatedContacts" "chains") ∈ lw_all := lw_g (lw_at lw_m1 220 rfl) rfl
theorem q297 : (Jvm.Cond.laysFinal "DatedContacts" "DatedContacts" "past" "[LDatedContacts$Net;") ∈ lw_all := lw_g (lw_at lw_m1 221 rfl) rfl
theorem q298 : (Jvm.Cond.soleField "DatedContacts" "past") ∈ lw_all := lw_g (lw_at lw_m1 222 rfl) rfl
theorem q299 : (Jvm.Cond.lays "DatedContacts" "DatedContacts" "acts" "I") ∈ lw_all := lw_g (lw_at lw_m1 223 rfl) rfl
theorem q300 : (Jvm.Cond.soleField "DatedContacts" "acts") ∈ lw_all := lw_g (lw_at lw_m1 224 rfl) rfl
theorem q301 : (Jvm.Cond.laysFinal "DatedContacts" "DatedContacts" "images" "[LDatedContacts$Net;") ∈ lw_all := lw_g (lw_at lw_m1 225 rfl) rfl
theorem q302 : (Jvm.Cond.soleField "DatedContacts" "images") ∈ lw_all := lw_g (lw_at lw_m1 226 rfl) rfl
theorem q303 : (Jvm.Cond.lays "DatedContacts" "DatedContacts" "trail" "LDatedContacts$Trail;") ∈ lw_all := lw_g (lw_at lw_m1 227 rfl) rfl
theorem q304 : (Jvm.Cond.soleField "DatedContacts" "trail") ∈ lw_all := lw_g (lw_at lw_m1 228 rfl) rfl
theorem q305 : (Jvm.Cond.lays "DatedContacts" "DatedContacts" "status" "I") ∈ lw_all := lw_g (lw_at lw_m1 229 rfl) rfl
theorem q306 : (Jvm.Cond.soleField "DatedContacts" "status") ∈ lw_all := lw_g (lw_at lw_m1 230 rfl) rfl
theorem q307 : (Jvm.Cond.superclass "DatedContacts" "java/lang/Object") ∈ lw_all := lw_g (lw_at lw_m1 231 rfl) rfl
theorem q309 : (Jvm.Cond.instanceMethod ({ cls := "DatedContacts", name := "row", desc := "(III)I" } : Jvm.MethodName)) ∈ lw_all := lw_g (lw_at lw_m1 233 rfl) rfl
theorem q310 : (Jvm.Cond.selects "DatedContacts" ({ cls := "DatedContacts", name := "row", desc := "(III)I" } : Jvm.MethodName) ({ cls := "DatedContacts", name := "row", desc := "(III)I" } : Jvm.MethodName)) ∈ lw_all := lw_g (lw_at lw_m1 234 rfl) rfl
theorem q311 : (Jvm.Cond.codeWith ({ cls := "DatedContacts", name := "row", desc := "(III)I" } : Jvm.MethodName) prog_1_method_12_code (5 : Nat) (Option.some Jvm.ClassFile.FieldType.int) [((28 : Nat), (47 : Nat), (48 : Nat), (122 : Nat))]) ∈ lw_all := lw_g (lw_at lw_m1 235 rfl) rfl
theorem q312 : (Jvm.Cond.classLink "DatedContacts" (122 : Nat) "java/lang/NegativeArraySizeException") ∈ lw_all := lw_g (lw_at lw_m1 236 rfl) rfl
theorem q398 : (Jvm.Cond.methodLink "DatedContacts" (103 : Nat) ({ cls := "DatedContacts", name := "isRow", desc := "(I)Z" } : Jvm.MethodName)) ∈ lw_all := lw_g (lw_at lw_m2 82 rfl) rfl
theorem q399 : (Jvm.Cond.static ({ cls := "DatedContacts", name := "isRow", desc := "(I)Z" } : Jvm.MethodName)) ∈ lw_all := lw_g (lw_at lw_m2 83 rfl) rfl
theorem q400 : (Jvm.Cond.code ({ cls := "DatedContacts", name := "isRow", desc := "(I)Z" } : Jvm.MethodName) prog_1_method_10_code (1 : Nat) (Option.some Jvm.ClassFile.FieldType.boolean)) ∈ lw_all := lw_g (lw_at lw_m2 84 rfl) rfl
theorem q401 : (Jvm.Cond.constantLong "DatedContacts" (97 : Nat) (7 : Int64)) ∈ lw_all := lw_g (lw_at lw_m2 85 rfl) rfl
theorem q402 : (Jvm.Cond.methodLink "DatedContacts" (99 : Nat) ({ cls := "DatedContacts", name := "isIn", desc := "(JJJ)Z" } : Jvm.MethodName)) ∈ lw_all := lw_g (lw_at lw_m2 86 rfl) rfl
theorem q403 : (Jvm.Cond.static ({ cls := "DatedContacts", name := "isIn", desc := "(JJJ)Z" } : Jvm.MethodName)) ∈ lw_all := lw_g (lw_at lw_m2 87 rfl) rfl
theorem q404 : (Jvm.Cond.code ({ cls := "DatedContacts", name := "isIn", desc := "(JJJ)Z" } : Jvm.MethodName) prog_1_method_1_code (6 : Nat) (Option.some Jvm.ClassFile.FieldType.boolean)) ∈ lw_all := lw_g (lw_at lw_m2 88 rfl) rfl
theorem q405 : (Jvm.Cond.constantLong "DatedContacts" (107 : Nat) (2 : Int64)) ∈ lw_all := lw_g (lw_at lw_m2 89 rfl) rfl
theorem q406 : (Jvm.Cond.constant "DatedContacts" (109 : Nat) (-1000001 : Int32)) ∈ lw_all := lw_g (lw_at lw_m2 90 rfl) rfl
theorem q407 : (Jvm.Cond.methodLink "DatedContacts" (110 : Nat) ({ cls := "DatedContacts", name := "newLane", desc := "(II)Ljava/lang/Object;" } : Jvm.MethodName)) ∈ lw_all := lw_g (lw_at lw_m2 91 rfl) rfl
theorem q408 : (Jvm.Cond.static ({ cls := "DatedContacts", name := "newLane", desc := "(II)Ljava/lang/Object;" } : Jvm.MethodName)) ∈ lw_all := lw_g (lw_at lw_m2 92 rfl) rfl
theorem q409 : (Jvm.Cond.code ({ cls := "DatedContacts", name := "newLane", desc := "(II)Ljava/lang/Object;" } : Jvm.MethodName) prog_1_method_11_code (2 : Nat) (Option.some (Jvm.ClassFile.FieldType.object "java/lang/Object"))) ∈ lw_all := lw_g (lw_at lw_m2 93 rfl) rfl
theorem q410 : (Jvm.Cond.methodLink "DatedContacts" (118 : Nat) ({ cls := "DatedContacts", name := "well", desc := "(I)I" } : Jvm.MethodName)) ∈ lw_all := lw_g (lw_at lw_m2 94 rfl) rfl
theorem q411 : (Jvm.Cond.privateMethod ({ cls := "DatedContacts", name := "well", desc := "(I)I" } : Jvm.MethodName)) ∈ lw_tbl := lw_at lw_m2 95 rfl
theorem q412 : (Jvm.Cond.instanceMethod ({ cls := "DatedContacts", name := "well", desc := "(I)I" } : Jvm.MethodName)) ∈ lw_all := lw_g (lw_at lw_m2 96 rfl) rfl
theorem q413 : (Jvm.Cond.code ({ cls := "DatedContacts", name := "well", desc := "(I)I" } : Jvm.MethodName) prog_1_method_9_code (2 : Nat) (Option.some Jvm.ClassFile.FieldType.int)) ∈ lw_all := lw_g (lw_at lw_m2 97 rfl) rfl
theorem q414 : (Jvm.Cond.methodLink "DatedContacts" (124 : Nat) ({ cls := "DatedContacts", name := "found", desc := "(I)I" } : Jvm.MethodName)) ∈ lw_all := lw_g (lw_at lw_m2 98 rfl) rfl
theorem q415 : (Jvm.Cond.privateMethod ({ cls := "DatedContacts", name := "found", desc := "(I)I" } : Jvm.MethodName)) ∈ lw_tbl := lw_at lw_m2 99 rfl
theorem q416 : (Jvm.Cond.instanceMethod ({ cls := "DatedContacts", name := "found", desc := "(I)I" } : Jvm.MethodName)) ∈ lw_all := lw_g (lw_at lw_m2 100 rfl) rfl
theorem q417 : (Jvm.Cond.code ({ cls := "DatedContacts", name := "found", desc := "(I)I" } : Jvm.MethodName) prog_1_method_8_code (2 : Nat) (Option.some Jvm.ClassFile.FieldType.int)) ∈ lw_all := lw_g (lw_at lw_m2 101 rfl) rfl
theorem q418 : (Jvm.Cond.constant "DatedContacts" (96 : Nat) (-1000010 : Int32)) ∈ lw_all := lw_g (lw_at lw_m2 102 rfl) rfl
theorem q421 : (Jvm.Cond.instanceMethod ({ cls := "DatedContacts", name := "set", desc := "(III)I" } : Jvm.MethodName)) ∈ lw_all := lw_g (lw_at lw_m2 105 rfl) rfl
theorem q422 : (Jvm.Cond.selects "DatedContacts" ({ cls := "DatedContacts", name := "set", desc := "(III)I" } : Jvm.MethodName) ({ cls := "DatedContacts", name := "set", desc := "(III)I" } : Jvm.MethodName)) ∈ lw_all := lw_g (lw_at lw_m2 106 rfl) rfl
theorem q423 : (Jvm.Cond.codeWith ({ cls := "DatedContacts", name := "set", desc := "(III)I" } : Jvm.MethodName) prog_1_method_13_code (5 : Nat) (Option.some Jvm.ClassFile.FieldType.int) [((10 : Nat), (25 : Nat), (26 : Nat), (131 : Nat)), ((10 : Nat), (25 : Nat), (34 : Nat), (133 : Nat))]) ∈ lw_all := lw_g (lw_at lw_m2 107 rfl) rfl
theorem q424 : (Jvm.Cond.classLink "DatedContacts" (131 : Nat) "java/lang/NullPointerException") ∈ lw_all := lw_g (lw_at lw_m2 108 rfl) rfl
theorem q449 : (Jvm.Cond.classLink "DatedContacts" (133 : Nat) "java/lang/ArrayIndexOutOfBoundsException") ∈ lw_all := lw_g (lw_at lw_m2 133 rfl) rfl
theorem q468 : (Jvm.Cond.methodLinkNest "DatedContacts" (127 : Nat) ({ cls := "DatedContacts$Shelf", name := "put", desc := "(II)I" } : Jvm.MethodName) "DatedContacts") ∈ lw_tbl := lw_at lw_m2 152 rfl
theorem q480 : (Jvm.Cond.instanceMethod ({ cls := "DatedContacts", name := "copy", desc := "(IIIII)I" } : Jvm.MethodName)) ∈ lw_all := lw_g (lw_at lw_m2 164 rfl) rfl
theorem q481 : (Jvm.Cond.selects "DatedContacts" ({ cls := "DatedContacts", name := "copy", desc := "(IIIII)I" } : Jvm.MethodName) ({ cls := "DatedContacts", name := "copy", desc := "(IIIII)I" } : Jvm.MethodName)) ∈ lw_all := lw_g (lw_at lw_m2 165 rfl) rfl
theorem q482 : (Jvm.Cond.codeWith ({ cls := "DatedContacts", name := "copy", desc := "(IIIII)I" } : Jvm.MethodName) prog_1_method_14_code (7 : Nat) (Option.some Jvm.ClassFile.FieldType.int) [((17 : Nat), (49 : Nat), (50 : Nat), (131 : Nat)), ((17 : Nat), (49 : Nat), (58 : Nat), (141 : Nat)), ((17 : Nat), (49 : Nat), (66 : Nat), (143 : Nat))]) ∈ lw_all := lw_g (lw_at lw_m2 166 rfl) rfl
theorem q483 : (Jvm.Cond.classLink "DatedContacts" (141 : Nat) "java/lang/ArrayStoreException") ∈ lw_all := lw_g (lw_at lw_m2 167 rfl) rfl
theorem q497 : (Jvm.Cond.classLink "DatedContacts" (143 : Nat) "java/lang/IndexOutOfBoundsException") ∈ lw_all := lw_g (lw_at lw_m2 181 rfl) rfl
theorem q498 : (Jvm.Cond.methodLink "DatedContacts" (135 : Nat) ({ cls := "java/lang/System", name := "arraycopy", desc := "(Ljava/lang/Object;ILjava/lang/Object;II)V" } : Jvm.MethodName)) ∈ lw_all := lw_g (lw_at lw_m2 182 rfl) rfl
theorem q502 : (Jvm.Cond.instanceMethod ({ cls := "DatedContacts", name := "drop", desc := "(I)I" } : Jvm.MethodName)) ∈ lw_all := lw_g (lw_at lw_m2 186 rfl) rfl
theorem q503 : (Jvm.Cond.selects "DatedContacts" ({ cls := "DatedContacts", name := "drop", desc := "(I)I" } : Jvm.MethodName) ({ cls := "DatedContacts", name := "drop", desc := "(I)I" } : Jvm.MethodName)) ∈ lw_all := lw_g (lw_at lw_m2 187 rfl) rfl
theorem q504 : (Jvm.Cond.codeWith ({ cls := "DatedContacts", name := "drop", desc := "(I)I" } : Jvm.MethodName) prog_1_method_15_code (5 : Nat) (Option.some Jvm.ClassFile.FieldType.int) [((10 : Nat), (24 : Nat), (36 : Nat), (131 : Nat)), ((10 : Nat), (24 : Nat), (55 : Nat), (0 : Nat)), ((36 : Nat), (43 : Nat), (55 : Nat), (0 : Nat)), ((55 : Nat), (57 : Nat), (55 : Nat), (0 : Nat))]) ∈ lw_all := lw_g (lw_at lw_m2 188 rfl) rfl
theorem q505 : (Jvm.Cond.methodLinkNest "DatedContacts" (145 : Nat) ({ cls := "DatedContacts$Shelf", name := "many", desc := "()I" } : Jvm.MethodName) "DatedContacts") ∈ lw_tbl := lw_at lw_m2 189 rfl
theorem q510 : (Jvm.Cond.instanceMethod ({ cls := "DatedContacts", name := "feed", desc := "(I)I" } : Jvm.MethodName)) ∈ lw_all := lw_g (lw_at lw_m2 194 rfl) rfl
theorem q511 : (Jvm.Cond.selects "DatedContacts" ({ cls := "DatedContacts", name := "feed", desc := "(I)I" } : Jvm.MethodName) ({ cls := "DatedContacts", name := "feed", desc := "(I)I" } : Jvm.MethodName)) ∈ lw_all := lw_g (lw_at lw_m2 195 rfl) rfl
theorem q512 : (Jvm.Cond.code ({ cls := "DatedContacts", name := "feed", desc := "(I)I" } : Jvm.MethodName) prog_1_method_17_code (2 : Nat) (Option.some Jvm.ClassFile.FieldType.int)) ∈ lw_all := lw_g (lw_at lw_m2 196 rfl) rfl
theorem q513 : (Jvm.Cond.constantLong "DatedContacts" (152 : Nat) (255 : Int64)) ∈ lw_all := lw_g (lw_at lw_m2 197 rfl) rfl
theorem q514 : (Jvm.Cond.constant "DatedContacts" (157 : Nat) (-1000003 : Int32)) ∈ lw_all := lw_g (lw_at lw_m2 198 rfl) rfl
theorem q516 : (Jvm.Cond.instanceMethod ({ cls := "DatedContacts", name := "net", desc := "()I" } : Jvm.MethodName)) ∈ lw_all := lw_g (lw_at lw_m2 200 rfl) rfl
theorem q517 : (Jvm.Cond.selects "DatedContacts" ({ cls := "DatedContacts", name := "net", desc := "()I" } : Jvm.MethodName) ({ cls := "DatedContacts", name := "net", desc := "()I" } : Jvm.MethodName)) ∈ lw_all := lw_g (lw_at lw_m2 201 rfl) rfl
theorem q518 : (Jvm.Cond.codeWith ({ cls := "DatedContacts", name := "net", desc := "()I" } : Jvm.MethodName) prog_1_method_18_code (5 : Nat) (Option.some Jvm.ClassFile.FieldType.int) [((16 : Nat), (20 : Nat), (28 : Nat), (166 : Nat)), ((16 : Nat), (20 : Nat), (52 : Nat), (0 : Nat)), ((28 : Nat), (45 : Nat), (52 : Nat), (0 : Nat)), ((52 : Nat), (54 : Nat), (52 : Nat), (0 : Nat))]) ∈ lw_all := lw_g (lw_at lw_m2 202 rfl) rfl
theorem q519 : (Jvm.Cond.classLink "DatedContacts" (166 : Nat) "DatedContacts$Fault") ∈ lw_all := lw_g (lw_at lw_m2 203 rfl) rfl
theorem q520 : (Jvm.Cond.classLink "DatedContacts" (158 : Nat) "DatedContacts$Reader") ∈ lw_all := lw_g (lw_at lw_m2 204 rfl) rfl
theorem q522 : (Jvm.Cond.methodLink "DatedContacts" (160 : Nat) ({ cls := "DatedContacts$Reader", name := "<init>", desc := "([BI)V" } : Jvm.MethodName)) ∈ lw_all := lw_g (lw_at lw_m2 206 rfl) rfl
theorem q535 : (Jvm.Cond.fieldLink "DatedContacts" (178 : Nat) "DatedContacts$Reader" "made" "LDatedContacts$Net;") ∈ lw_all := lw_g (lw_at lw_m2 219 rfl) rfl
theorem q551 : (Jvm.Cond.methodLink "DatedContacts" (163 : Nat) ({ cls := "DatedContacts$Reader", name := "all", desc := "()V" } : Jvm.MethodName)) ∈ lw_all := lw_g (lw_at lw_m2 235 rfl) rfl
theorem q596 : (Jvm.Cond.fieldLink "DatedContacts" (168 : Nat) "DatedContacts$Fault" "kind" "I") ∈ lw_all := lw_g (lw_at lw_m3 40 rfl) rfl
theorem q598 : (Jvm.Cond.fieldLink "DatedContacts" (175 : Nat) "DatedContacts$Fault" "place" "I") ∈ lw_all := lw_g (lw_at lw_m3 42 rfl) rfl
theorem q926 : (Jvm.Cond.static ({ cls := "DatedContacts", name := "personBy", desc := "(II)LDatedContacts$Person;" } : Jvm.MethodName)) ∈ lw_all := lw_g (lw_at lw_m4 130 rfl) rfl
theorem q927 : (Jvm.Cond.code ({ cls := "DatedContacts", name := "personBy", desc := "(II)LDatedContacts$Person;" } : Jvm.MethodName) prog_1_method_3_code (2 : Nat) (Option.some (Jvm.ClassFile.FieldType.object "DatedContacts$Person"))) ∈ lw_all := lw_g (lw_at lw_m4 131 rfl) rfl
theorem q928 : (Jvm.Cond.classLink "DatedContacts" (1 : Nat) "DatedContacts$Open") ∈ lw_all := lw_g (lw_at lw_m4 132 rfl) rfl
theorem q930 : (Jvm.Cond.methodLink "DatedContacts" (3 : Nat) ({ cls := "DatedContacts$Open", name := "<init>", desc := "(I)V" } : Jvm.MethodName)) ∈ lw_all := lw_g (lw_at lw_m4 134 rfl) rfl
theorem q941 : (Jvm.Cond.classLink "DatedContacts" (7 : Nat) "DatedContacts$Late") ∈ lw_all := lw_g (lw_at lw_m4 145 rfl) rfl
theorem q943 : (Jvm.Cond.methodLink "DatedContacts" (9 : Nat) ({ cls := "DatedContacts$Late", name := "<init>", desc := "(I)V" } : Jvm.MethodName)) ∈ lw_all := lw_g (lw_at lw_m4 147 rfl) rfl
theorem q949 : (Jvm.Cond.classLink "DatedContacts" (10 : Nat) "DatedContacts$Brief") ∈ lw_all := lw_g (lw_at lw_m4 153 rfl) rfl
theorem q951 : (Jvm.Cond.methodLink "DatedContacts" (12 : Nat) ({ cls := "DatedContacts$Brief", name := "<init>", desc := "(I)V" } : Jvm.MethodName)) ∈ lw_all := lw_g (lw_at lw_m4 155 rfl) rfl
theorem q957 : (Jvm.Cond.classLink "DatedContacts" (13 : Nat) "DatedContacts$Ward") ∈ lw_all := lw_g (lw_at lw_m4 161 rfl) rfl
theorem q959 : (Jvm.Cond.methodLink "DatedContacts" (15 : Nat) ({ cls := "DatedContacts$Ward", name := "<init>", desc := "(I)V" } : Jvm.MethodName)) ∈ lw_all := lw_g (lw_at lw_m4 163 rfl) rfl
theorem q965 : (Jvm.Cond.classLink "DatedContacts" (16 : Nat) "DatedContacts$Safe") ∈ lw_all := lw_g (lw_at lw_m4 169 rfl) rfl
theorem q967 : (Jvm.Cond.methodLink "DatedContacts" (18 : Nat) ({ cls := "DatedContacts$Safe", name := "<init>", desc := "(I)V" } : Jvm.MethodName)) ∈ lw_all := lw_g (lw_at lw_m4 171 rfl) rfl
theorem q981 : (Jvm.Cond.constant "DatedContacts" (174 : Nat) (-1000100 : Int32)) ∈ lw_all := lw_g (lw_at lw_m4 185 rfl) rfl
theorem q982 : (Jvm.Cond.methodLink "DatedContacts" (181 : Nat) ({ cls := "DatedContacts$Net", name := "stirred", desc := "()LDatedContacts$Net;" } : Jvm.MethodName)) ∈ lw_all := lw_g (lw_at lw_m4 186 rfl) rfl
theorem q1046 : (Jvm.Cond.methodLink "DatedContacts" (185 : Nat) ({ cls := "DatedContacts$Net", name := "become", desc := "(LDatedContacts$Net;)LDatedContacts$Net;" } : Jvm.MethodName)) ∈ lw_all := lw_g (lw_at lw_m5 10 rfl) rfl
theorem q1052 : (Jvm.Cond.instanceMethod ({ cls := "DatedContacts", name := "fault", desc := "()I" } : Jvm.MethodName)) ∈ lw_all := lw_g (lw_at lw_m5 16 rfl) rfl
theorem q1053 : (Jvm.Cond.selects "DatedContacts" ({ cls := "DatedContacts", name := "fault", desc := "()I" } : Jvm.MethodName) ({ cls := "DatedContacts", name := "fault", desc := "()I" } : Jvm.MethodName)) ∈ lw_all := lw_g (lw_at lw_m5 17 rfl) rfl
theorem q1054 : (Jvm.Cond.code ({ cls := "DatedContacts", name := "fault", desc := "()I" } : Jvm.MethodName) prog_1_method_19_code (1 : Nat) (Option.some Jvm.ClassFile.FieldType.int)) ∈ lw_all := lw_g (lw_at lw_m5 18 rfl) rfl
theorem q1056 : (Jvm.Cond.instanceMethod ({ cls := "DatedContacts", name := "meet", desc := "(III)I" } : Jvm.MethodName)) ∈ lw_all := lw_g (lw_at lw_m5 20 rfl) rfl
theorem q1057 : (Jvm.Cond.selects "DatedContacts" ({ cls := "DatedContacts", name := "meet", desc := "(III)I" } : Jvm.MethodName) ({ cls := "DatedContacts", name := "meet", desc := "(III)I" } : Jvm.MethodName)) ∈ lw_all := lw_g (lw_at lw_m5 21 rfl) rfl
theorem q1058 : (Jvm.Cond.code ({ cls := "DatedContacts", name := "meet", desc := "(III)I" } : Jvm.MethodName) prog_1_method_25_code (4 : Nat) (Option.some Jvm.ClassFile.FieldType.int)) ∈ lw_all := lw_g (lw_at lw_m5 22 rfl) rfl
theorem q1059 : (Jvm.Cond.methodLink "DatedContacts" (200 : Nat) ({ cls := "DatedContacts", name := "isPerson", desc := "(I)Z" } : Jvm.MethodName)) ∈ lw_all := lw_g (lw_at lw_m5 23 rfl) rfl
theorem q1060 : (Jvm.Cond.privateMethod ({ cls := "DatedContacts", name := "isPerson", desc := "(I)Z" } : Jvm.MethodName)) ∈ lw_tbl := lw_at lw_m5 24 rfl
theorem q1061 : (Jvm.Cond.instanceMethod ({ cls := "DatedContacts", name := "isPerson", desc := "(I)Z" } : Jvm.MethodName)) ∈ lw_all := lw_g (lw_at lw_m5 25 rfl) rfl
theorem q1062 : (Jvm.Cond.code ({ cls := "DatedContacts", name := "isPerson", desc := "(I)Z" } : Jvm.MethodName) prog_1_method_21_code (2 : Nat) (Option.some Jvm.ClassFile.FieldType.boolean)) ∈ lw_all := lw_g (lw_at lw_m5 26 rfl) rfl
theorem q1063 : (Jvm.Cond.methodLink "DatedContacts" (203 : Nat) ({ cls := "DatedContacts", name := "isDay", desc := "(I)Z" } : Jvm.MethodName)) ∈ lw_all := lw_g (lw_at lw_m5 27 rfl) rfl
theorem q1064 : (Jvm.Cond.static ({ cls := "DatedContacts", name := "isDay", desc := "(I)Z" } : Jvm.MethodName)) ∈ lw_all := lw_g (lw_at lw_m5 28 rfl) rfl
theorem q1065 : (Jvm.Cond.code ({ cls := "DatedContacts", name := "isDay", desc := "(I)Z" } : Jvm.MethodName) prog_1_method_23_code (1 : Nat) (Option.some Jvm.ClassFile.FieldType.boolean)) ∈ lw_all := lw_g (lw_at lw_m5 29 rfl) rfl
theorem q1066 : (Jvm.Cond.constantLong "DatedContacts" (198 : Nat) (30 : Int64)) ∈ lw_all := lw_g (lw_at lw_m5 30 rfl) rfl
theorem q1067 : (Jvm.Cond.methodLink "DatedContacts" (206 : Nat) ({ cls := "DatedContacts", name := "keep", desc := "()V" } : Jvm.MethodName)) ∈ lw_all := lw_g (lw_at lw_m5 31 rfl) rfl
theorem q1068 : (Jvm.Cond.privateMethod ({ cls := "DatedContacts", name := "keep", desc := "()V" } : Jvm.MethodName)) ∈ lw_tbl := lw_at lw_m5 32 rfl
theorem q1069 : (Jvm.Cond.instanceMethod ({ cls := "DatedContacts", name := "keep", desc := "()V" } : Jvm.MethodName)) ∈ lw_all := lw_g (lw_at lw_m5 33 rfl) rfl
theorem q1070 : (Jvm.Cond.code ({ cls := "DatedContacts", name := "keep", desc := "()V" } : Jvm.MethodName) prog_1_method_24_code (3 : Nat) (Option.none : Option Jvm.ClassFile.FieldType)) ∈ lw_all := lw_g (lw_at lw_m5 34 rfl) rfl
theorem q1072 : (Jvm.Cond.instanceMethod ({ cls := "DatedContacts", name := "part", desc := "(I)I" } : Jvm.MethodName)) ∈ lw_all := lw_g (lw_at lw_m5 36 rfl) rfl
theorem q1073 : (Jvm.Cond.selects "DatedContacts" ({ cls := "DatedContacts", name := "part", desc := "(I)I" } : Jvm.MethodName) ({ cls := "DatedContacts", name := "part", desc := "(I)I" } : Jvm.MethodName)) ∈ lw_all := lw_g (lw_at lw_m5 37 rfl) rfl
theorem q1074 : (Jvm.Cond.code ({ cls := "DatedContacts", name := "part", desc := "(I)I" } : Jvm.MethodName) prog_1_method_26_code (3 : Nat) (Option.some Jvm.ClassFile.FieldType.int)) ∈ lw_all := lw_g (lw_at lw_m5 38 rfl) rfl
theorem q1075 : (Jvm.Cond.methodLink "DatedContacts" (219 : Nat) ({ cls := "DatedContacts", name := "isContact", desc := "(I)Z" } : Jvm.MethodName)) ∈ lw_all := lw_g (lw_at lw_m5 39 rfl) rfl
theorem q1076 : (Jvm.Cond.privateMethod ({ cls := "DatedContacts", name := "isContact", desc := "(I)Z" } : Jvm.MethodName)) ∈ lw_tbl := lw_at lw_m5 40 rfl
theorem q1077 : (Jvm.Cond.instanceMethod ({ cls := "DatedContacts", name := "isContact", desc := "(I)Z" } : Jvm.MethodName)) ∈ lw_all := lw_g (lw_at lw_m5 41 rfl) rfl
theorem q1078 : (Jvm.Cond.code ({ cls := "DatedContacts", name := "isContact", desc := "(I)Z" } : Jvm.MethodName) prog_1_method_22_code (2 : Nat) (Option.some Jvm.ClassFile.FieldType.boolean)) ∈ lw_all := lw_g (lw_at lw_m5 42 rfl) rfl
theorem q1080 : (Jvm.Cond.instanceMethod ({ cls := "DatedContacts", name := "date", desc := "(II)I" } : Jvm.MethodName)) ∈ lw_all := lw_g (lw_at lw_m5 44 rfl) rfl
theorem q1081 : (Jvm.Cond.selects "DatedContacts" ({ cls := "DatedContacts", name := "date", desc := "(II)I" } : Jvm.MethodName) ({ cls := "DatedContacts", name := "date", desc := "(II)I" } : Jvm.MethodName)) ∈ lw_all := lw_g (lw_at lw_m5 45 rfl) rfl
theorem q1082 : (Jvm.Cond.code ({ cls := "DatedContacts", name := "date", desc := "(II)I" } : Jvm.MethodName) prog_1_method_27_code (4 : Nat) (Option.some Jvm.ClassFile.FieldType.int)) ∈ lw_all := lw_g (lw_at lw_m5 46 rfl) rfl
theorem q1083 : (Jvm.Cond.constant "DatedContacts" (222 : Nat) (-1000002 : Int32)) ∈ lw_all := lw_g (lw_at lw_m5 47 rfl) rfl
theorem q1085 : (Jvm.Cond.instanceMethod ({ cls := "DatedContacts", name := "ill", desc := "(II)I" } : Jvm.MethodName)) ∈ lw_all := lw_g (lw_at lw_m5 49 rfl) rfl
theorem q1086 : (Jvm.Cond.selects "DatedContacts" ({ cls := "DatedContacts", name := "ill", desc := "(II)I" } : Jvm.MethodName) ({ cls := "DatedContacts", name := "ill", desc := "(II)I" } : Jvm.MethodName)) ∈ lw_all := lw_g (lw_at lw_m5 50 rfl) rfl
theorem q1087 : (Jvm.Cond.code ({ cls := "DatedContacts", name := "ill", desc := "(II)I" } : Jvm.MethodName) prog_1_method_28_code (4 : Nat) (Option.some Jvm.ClassFile.FieldType.int)) ∈ lw_all := lw_g (lw_at lw_m5 51 rfl) rfl
theorem q1089 : (Jvm.Cond.instanceMethod ({ cls := "DatedContacts", name := "window", desc := "(II)I" } : Jvm.MethodName)) ∈ lw_all := lw_g (lw_at lw_m5 53 rfl) rfl
theorem q1090 : (Jvm.Cond.selects "DatedContacts" ({ cls := "DatedContacts", name := "window", desc := "(II)I" } : Jvm.MethodName) ({ cls := "DatedContacts", name := "window", desc := "(II)I" } : Jvm.MethodName)) ∈ lw_all := lw_g (lw_at lw_m5 54 rfl) rfl
theorem q1091 : (Jvm.Cond.code ({ cls := "DatedContacts", name := "window", desc := "(II)I" } : Jvm.MethodName) prog_1_method_29_code (4 : Nat) (Option.some Jvm.ClassFile.FieldType.int)) ∈ lw_all := lw_g (lw_at lw_m5 55 rfl) rfl
theorem q1092 : (Jvm.Cond.methodLink "DatedContacts" (226 : Nat) ({ cls := "DatedContacts", name := "isThere", desc := "()Z" } : Jvm.MethodName)) ∈ lw_all := lw_g (lw_at lw_m5 56 rfl) rfl
theorem q1093 : (Jvm.Cond.privateMethod ({ cls := "DatedContacts", name := "isThere", desc := "()Z" } : Jvm.MethodName)) ∈ lw_tbl := lw_at lw_m5 57 rfl
theorem q1094 : (Jvm.Cond.instanceMethod ({ cls := "DatedContacts", name := "isThere", desc := "()Z" } : Jvm.MethodName)) ∈ lw_all := lw_g (lw_at lw_m5 58 rfl) rfl
theorem q1095 : (Jvm.Cond.code ({ cls := "DatedContacts", name := "isThere", desc := "()Z" } : Jvm.MethodName) prog_1_method_20_code (1 : Nat) (Option.some Jvm.ClassFile.FieldType.boolean)) ∈ lw_all := lw_g (lw_at lw_m5 59 rfl) rfl
theorem q1096 : (Jvm.Cond.constantLong "DatedContacts" (230 : Nat) (9 : Int64)) ∈ lw_all := lw_g (lw_at lw_m5 60 rfl) rfl
theorem q1097 : (Jvm.Cond.constantLong "DatedContacts" (232 : Nat) (20 : Int64)) ∈ lw_all := lw_g (lw_at lw_m5 61 rfl) rfl
theorem q1099 : (Jvm.Cond.instanceMethod ({ cls := "DatedContacts", name := "become", desc := "(II)I" } : Jvm.MethodName)) ∈ lw_all := lw_g (lw_at lw_m5 63 rfl) rfl
theorem q1100 : (Jvm.Cond.selects "DatedContacts" ({ cls := "DatedContacts", name := "become", desc := "(II)I" } : Jvm.MethodName) ({ cls := "DatedContacts", name := "become", desc := "(II)I" } : Jvm.MethodName)) ∈ lw_all := lw_g (lw_at lw_m5 64 rfl) rfl
theorem q1101 : (Jvm.Cond.code ({ cls := "DatedContacts", name := "become", desc := "(II)I" } : Jvm.MethodName) prog_1_method_30_code (4 : Nat) (Option.some Jvm.ClassFile.FieldType.int)) ∈ lw_all := lw_g (lw_at lw_m5 65 rfl) rfl
theorem q1102 : (Jvm.Cond.constantLong "DatedContacts" (240 : Nat) (5 : Int64)) ∈ lw_all := lw_g (lw_at lw_m5 66 rfl) rfl
theorem q1103 : (Jvm.Cond.methodLink "DatedContacts" (246 : Nat) ({ cls := "DatedContacts$Person", name := "kind", desc := "()I" } : Jvm.MethodName)) ∈ lw_all := lw_g (lw_at lw_m5 67 rfl) rfl
theorem q1121 : (Jvm.Cond.methodLink "DatedContacts" (248 : Nat) ({ cls := "DatedContacts", name := "personBy", desc := "(II)LDatedContacts$Person;" } : Jvm.MethodName)) ∈ lw_all := lw_g (lw_at lw_m5 85 rfl) rfl
theorem q1123 : (Jvm.Cond.instanceMethod ({ cls := "DatedContacts", name := "undo", desc := "()I" } : Jvm.MethodName)) ∈ lw_all := lw_g (lw_at lw_m5 87 rfl) rfl
theorem q1124 : (Jvm.Cond.selects "DatedContacts" ({ cls := "DatedContacts", name := "undo", desc := "()I" } : Jvm.MethodName) ({ cls := "DatedContacts", name := "undo", desc := "()I" } : Jvm.MethodName)) ∈ lw_all := lw_g (lw_at lw_m5 88 rfl) rfl
theorem q1125 : (Jvm.Cond.code ({ cls := "DatedContacts", name := "undo", desc := "()I" } : Jvm.MethodName) prog_1_method_31_code (1 : Nat) (Option.some Jvm.ClassFile.FieldType.int)) ∈ lw_all := lw_g (lw_at lw_m5 89 rfl) rfl
theorem q1127 : (Jvm.Cond.instanceMethod ({ cls := "DatedContacts", name := "person", desc := "(II)I" } : Jvm.MethodName)) ∈ lw_all := lw_g (lw_at lw_m5 91 rfl) rfl
theorem q1128 : (Jvm.Cond.selects "DatedContacts" ({ cls := "DatedContacts", name := "person", desc := "(II)I" } : Jvm.MethodName) ({ cls := "DatedContacts", name := "person", desc := "(II)I" } : Jvm.MethodName)) ∈ lw_all := lw_g (lw_at lw_m5 92 rfl) rfl
theorem q1129 : (Jvm.Cond.code ({ cls := "DatedContacts", name := "person", desc := "(II)I" } : Jvm.MethodName) prog_1_method_32_code (4 : Nat) (Option.some Jvm.ClassFile.FieldType.int)) ∈ lw_all := lw_g (lw_at lw_m5 93 rfl) rfl
theorem q1130 : (Jvm.Cond.methodLink "DatedContacts" (252 : Nat) ({ cls := "DatedContacts$Net", name := "window", desc := "(I)LDatedContacts$Window;" } : Jvm.MethodName)) ∈ lw_all := lw_g (lw_at lw_m5 94 rfl) rfl
theorem q1134 : (Jvm.Cond.constant "DatedContacts" (33 : Nat) (-1000000 : Int32)) ∈ lw_all := lw_g (lw_at lw_m5 98 rfl) rfl
theorem q1135 : (Jvm.Cond.interfaceEntry "DatedContacts" (256 : Nat)) ∈ lw_tbl := lw_at lw_m5 99 rfl
theorem q1136 : (Jvm.Cond.methodLink "DatedContacts" (256 : Nat) ({ cls := "DatedContacts$Window", name := "least", desc := "()I" } : Jvm.MethodName)) ∈ lw_all := lw_g (lw_at lw_m5 100 rfl) rfl
theorem q1137 : (Jvm.Cond.interfaceEntry "DatedContacts" (261 : Nat)) ∈ lw_tbl := lw_at lw_m5 101 rfl
theorem q1138 : (Jvm.Cond.methodLink "DatedContacts" (261 : Nat) ({ cls := "DatedContacts$Window", name := "most", desc := "()I" } : Jvm.MethodName)) ∈ lw_all := lw_g (lw_at lw_m5 102 rfl) rfl
theorem q1139 : (Jvm.Cond.methodLink "DatedContacts" (264 : Nat) ({ cls := "DatedContacts$Net", name := "of", desc := "(I)I" } : Jvm.MethodName)) ∈ lw_all := lw_g (lw_at lw_m5 103 rfl) rfl
theorem q1144 : (Jvm.Cond.instanceMethod ({ cls := "DatedContacts", name := "contact", desc := "(II)I" } : Jvm.MethodName)) ∈ lw_all := lw_g (lw_at lw_m5 108 rfl) rfl
theorem q1145 : (Jvm.Cond.selects "DatedContacts" ({ cls := "DatedContacts", name := "contact", desc := "(II)I" } : Jvm.MethodName) ({ cls := "DatedContacts", name := "contact", desc := "(II)I" } : Jvm.MethodName)) ∈ lw_all := lw_g (lw_at lw_m5 109 rfl) rfl
theorem q1146 : (Jvm.Cond.code ({ cls := "DatedContacts", name := "contact", desc := "(II)I" } : Jvm.MethodName) prog_1_method_33_code (3 : Nat) (Option.some Jvm.ClassFile.FieldType.int)) ∈ lw_all := lw_g (lw_at lw_m5 110 rfl) rfl
theorem q1148 : (Jvm.Cond.instanceMethod ({ cls := "DatedContacts", name := "days", desc := "(III)I" } : Jvm.MethodName)) ∈ lw_all := lw_g (lw_at lw_m5 112 rfl) rfl
theorem q1149 : (Jvm.Cond.selects "DatedContacts" ({ cls := "DatedContacts", name := "days", desc := "(III)I" } : Jvm.MethodName) ({ cls := "DatedContacts", name := "days", desc := "(III)I" } : Jvm.MethodName)) ∈ lw_all := lw_g (lw_at lw_m5 113 rfl) rfl
theorem q1150 : (Jvm.Cond.code ({ cls := "DatedContacts", name := "days", desc := "(III)I" } : Jvm.MethodName) prog_1_method_35_code (4 : Nat) (Option.some Jvm.ClassFile.FieldType.int)) ∈ lw_all := lw_g (lw_at lw_m5 114 rfl) rfl
theorem q1151 : (Jvm.Cond.methodLink "DatedContacts" (267 : Nat) ({ cls := "DatedContacts", name := "areSo", desc := "(III)Z" } : Jvm.MethodName)) ∈ lw_all := lw_g (lw_at lw_m5 115 rfl) rfl
theorem q1152 : (Jvm.Cond.privateMethod ({ cls := "DatedContacts", name := "areSo", desc := "(III)Z" } : Jvm.MethodName)) ∈ lw_tbl := lw_at lw_m5 116 rfl
theorem q1153 : (Jvm.Cond.instanceMethod ({ cls := "DatedContacts", name := "areSo", desc := "(III)Z" } : Jvm.MethodName)) ∈ lw_all := lw_g (lw_at lw_m5 117 rfl) rfl
theorem q1154 : (Jvm.Cond.code ({ cls := "DatedContacts", name := "areSo", desc := "(III)Z" } : Jvm.MethodName) prog_1_method_34_code (4 : Nat) (Option.some Jvm.ClassFile.FieldType.boolean)) ∈ lw_all := lw_g (lw_at lw_m5 118 rfl) rfl
theorem q1155 : (Jvm.Cond.methodLink "DatedContacts" (271 : Nat) ({ cls := "DatedContacts$Walk", name := "go", desc := "(LDatedContacts$Net;III)LDatedContacts$Walk;" } : Jvm.MethodName)) ∈ lw_all := lw_g (lw_at lw_m5 119 rfl) rfl
theorem q1160 : (Jvm.Cond.static ({ cls := "DatedContacts", name := "has", desc := "(II)Z" } : Jvm.MethodName)) ∈ lw_all := lw_g (lw_at lw_m5 124 rfl) rfl
theorem q1161 : (Jvm.Cond.code ({ cls := "DatedContacts", name := "has", desc := "(II)Z" } : Jvm.MethodName) prog_1_method_2_code (2 : Nat) (Option.some Jvm.ClassFile.FieldType.boolean)) ∈ lw_all := lw_g (lw_at lw_m5 125 rfl) rfl
theorem q1206 : (Jvm.Cond.instanceMethod ({ cls := "DatedContacts", name := "givers", desc := "(III)I" } : Jvm.MethodName)) ∈ lw_all := lw_g (lw_at lw_m5 170 rfl) rfl
theorem q1207 : (Jvm.Cond.selects "DatedContacts" ({ cls := "DatedContacts", name := "givers", desc := "(III)I" } : Jvm.MethodName) ({ cls := "DatedContacts", name := "givers", desc := "(III)I" } : Jvm.MethodName)) ∈ lw_all := lw_g (lw_at lw_m5 171 rfl) rfl
theorem q1208 : (Jvm.Cond.code ({ cls := "DatedContacts", name := "givers", desc := "(III)I" } : Jvm.MethodName) prog_1_method_36_code (7 : Nat) (Option.some Jvm.ClassFile.FieldType.int)) ∈ lw_all := lw_g (lw_at lw_m5 172 rfl) rfl
theorem q1209 : (Jvm.Cond.methodLink "DatedContacts" (278 : Nat) ({ cls := "DatedContacts$Net", name := "otherOf", desc := "(II)I" } : Jvm.MethodName)) ∈ lw_all := lw_g (lw_at lw_m5 173 rfl) rfl
theorem q1210 : (Jvm.Cond.methodLink "DatedContacts" (281 : Nat) ({ cls := "DatedContacts$Net", name := "gives", desc := "(III)Z" } : Jvm.MethodName)) ∈ lw_all := lw_g (lw_at lw_m5 174 rfl) rfl
theorem q1212 : (Jvm.Cond.instanceMethod ({ cls := "DatedContacts", name := "chain", desc := "(IIII)I" } : Jvm.MethodName)) ∈ lw_all := lw_g (lw_at lw_m5 176 rfl) rfl
theorem q1213 : (Jvm.Cond.selects "DatedContacts" ({ cls := "DatedContacts", name := "chain", desc := "(IIII)I" } : Jvm.MethodName) ({ cls := "DatedContacts", name := "chain", desc := "(IIII)I" } : Jvm.MethodName)) ∈ lw_all := lw_g (lw_at lw_m5 177 rfl) rfl
theorem q1214 : (Jvm.Cond.code ({ cls := "DatedContacts", name := "chain", desc := "(IIII)I" } : Jvm.MethodName) prog_1_method_37_code (5 : Nat) (Option.some Jvm.ClassFile.FieldType.int)) ∈ lw_all := lw_g (lw_at lw_m5 178 rfl) rfl
theorem q1215 : (Jvm.Cond.methodLink "DatedContacts" (284 : Nat) ({ cls := "DatedContacts$Chains", name := "find", desc := "(LDatedContacts$Net;III)Z" } : Jvm.MethodName)) ∈ lw_all := lw_g (lw_at lw_m5 179 rfl) rfl
theorem q1232 : (Jvm.Cond.instanceMethod ({ cls := "DatedContacts", name := "written", desc := "(IIII)I" } : Jvm.MethodName)) ∈ lw_all := lw_g (lw_at lw_m5 196 rfl) rfl
theorem q1233 : (Jvm.Cond.selects "DatedContacts" ({ cls := "DatedContacts", name := "written", desc := "(IIII)I" } : Jvm.MethodName) ({ cls := "DatedContacts", name := "written", desc := "(IIII)I" } : Jvm.MethodName)) ∈ lw_all := lw_g (lw_at lw_m5 197 rfl) rfl
theorem q1234 : (Jvm.Cond.code ({ cls := "DatedContacts", name := "written", desc := "(IIII)I" } : Jvm.MethodName) prog_1_method_38_code (5 : Nat) (Option.some Jvm.ClassFile.FieldType.int)) ∈ lw_all := lw_g (lw_at lw_m5 198 rfl) rfl
theorem q1235 : (Jvm.Cond.methodLink "DatedContacts" (293 : Nat) ({ cls := "DatedContacts$Chains", name := "written", desc := "(LDatedContacts$Net;I)Ljava/lang/CharSequence;" } : Jvm.MethodName)) ∈ lw_all := lw_g (lw_at lw_m5 199 rfl) rfl
theorem q1283 : (Jvm.Cond.methodLink "DatedContacts" (297 : Nat) ({ cls := "DatedContacts", name := "signOf", desc := "(Ljava/lang/CharSequence;I)I" } : Jvm.MethodName)) ∈ lw_all := lw_g (lw_at lw_m6 7 rfl) rfl
theorem q1284 : (Jvm.Cond.static ({ cls := "DatedContacts", name := "signOf", desc := "(Ljava/lang/CharSequence;I)I" } : Jvm.MethodName)) ∈ lw_all := lw_g (lw_at lw_m6 8 rfl) rfl
theorem q1285 : (Jvm.Cond.code ({ cls := "DatedContacts", name := "signOf", desc := "(Ljava/lang/CharSequence;I)I" } : Jvm.MethodName) prog_1_method_5_code (2 : Nat) (Option.some Jvm.ClassFile.FieldType.int)) ∈ lw_all := lw_g (lw_at lw_m6 9 rfl) rfl
theorem q1286 : (Jvm.Cond.interfaceEntry "DatedContacts" (21 : Nat)) ∈ lw_tbl := lw_at lw_m6 10 rfl
theorem q1287 : (Jvm.Cond.methodLink "DatedContacts" (21 : Nat) ({ cls := "java/lang/CharSequence", name := "length", desc := "()I" } : Jvm.MethodName)) ∈ lw_all := lw_g (lw_at lw_m6 11 rfl) rfl
theorem q1298 : (Jvm.Cond.interfaceEntry "DatedContacts" (27 : Nat)) ∈ lw_tbl := lw_at lw_m6 22 rfl
theorem q1299 : (Jvm.Cond.methodLink "DatedContacts" (27 : Nat) ({ cls := "java/lang/CharSequence", name := "charAt", desc := "(I)C" } : Jvm.MethodName)) ∈ lw_all := lw_g (lw_at lw_m6 23 rfl) rfl
theorem q1326 : (Jvm.Cond.instanceMethod ({ cls := "DatedContacts", name := "accounts", desc := "(I)I" } : Jvm.MethodName)) ∈ lw_all := lw_g (lw_at lw_m6 50 rfl) rfl
theorem q1327 : (Jvm.Cond.selects "DatedContacts" ({ cls := "DatedContacts", name := "accounts", desc := "(I)I" } : Jvm.MethodName) ({ cls := "DatedContacts", name := "accounts", desc := "(I)I" } : Jvm.MethodName)) ∈ lw_all := lw_g (lw_at lw_m6 51 rfl) rfl
theorem q1328 : (Jvm.Cond.code ({ cls := "DatedContacts", name := "accounts", desc := "(I)I" } : Jvm.MethodName) prog_1_method_41_code (2 : Nat) (Option.some Jvm.ClassFile.FieldType.int)) ∈ lw_all := lw_g (lw_at lw_m6 52 rfl) rfl
theorem q1329 : (Jvm.Cond.methodLink "DatedContacts" (307 : Nat) ({ cls := "DatedContacts", name := "accountsOf", desc := "(I)I" } : Jvm.MethodName)) ∈ lw_all := lw_g (lw_at lw_m6 53 rfl) rfl
theorem q1330 : (Jvm.Cond.privateMethod ({ cls := "DatedContacts", name := "accountsOf", desc := "(I)I" } : Jvm.MethodName)) ∈ lw_tbl := lw_at lw_m6 54 rfl
theorem q1331 : (Jvm.Cond.instanceMethod ({ cls := "DatedContacts", name := "accountsOf", desc := "(I)I" } : Jvm.MethodName)) ∈ lw_all := lw_g (lw_at lw_m6 55 rfl) rfl
theorem q1332 : (Jvm.Cond.code ({ cls := "DatedContacts", name := "accountsOf", desc := "(I)I" } : Jvm.MethodName) prog_1_method_40_code (4 : Nat) (Option.some Jvm.ClassFile.FieldType.int)) ∈ lw_all := lw_g (lw_at lw_m6 56 rfl) rfl
theorem q1333 : (Jvm.Cond.methodLink "DatedContacts" (304 : Nat) ({ cls := "DatedContacts", name := "isAccounted", desc := "()Z" } : Jvm.MethodName)) ∈ lw_all := lw_g (lw_at lw_m6 57 rfl) rfl
theorem q1334 : (Jvm.Cond.privateMethod ({ cls := "DatedContacts", name := "isAccounted", desc := "()Z" } : Jvm.MethodName)) ∈ lw_tbl := lw_at lw_m6 58 rfl
theorem q1335 : (Jvm.Cond.instanceMethod ({ cls := "DatedContacts", name := "isAccounted", desc := "()Z" } : Jvm.MethodName)) ∈ lw_all := lw_g (lw_at lw_m6 59 rfl) rfl
theorem q1336 : (Jvm.Cond.code ({ cls := "DatedContacts", name := "isAccounted", desc := "()Z" } : Jvm.MethodName) prog_1_method_39_code (2 : Nat) (Option.some Jvm.ClassFile.FieldType.boolean)) ∈ lw_all := lw_g (lw_at lw_m6 60 rfl) rfl
theorem q1337 : (Jvm.Cond.methodLink "DatedContacts" (301 : Nat) ({ cls := "DatedContacts$Window", name := "daysFrom", desc := "(II)I" } : Jvm.MethodName)) ∈ lw_all := lw_g (lw_at lw_m6 61 rfl) rfl
theorem q1339 : (Jvm.Cond.instanceMethod ({ cls := "DatedContacts", name := "sources", desc := "()I" } : Jvm.MethodName)) ∈ lw_all := lw_g (lw_at lw_m6 63 rfl) rfl
theorem q1340 : (Jvm.Cond.selects "DatedContacts" ({ cls := "DatedContacts", name := "sources", desc := "()I" } : Jvm.MethodName) ({ cls := "DatedContacts", name := "sources", desc := "()I" } : Jvm.MethodName)) ∈ lw_all := lw_g (lw_at lw_m6 64 rfl) rfl
theorem q1341 : (Jvm.Cond.code ({ cls := "DatedContacts", name := "sources", desc := "()I" } : Jvm.MethodName) prog_1_method_42_code (3 : Nat) (Option.some Jvm.ClassFile.FieldType.int)) ∈ lw_all := lw_g (lw_at lw_m6 65 rfl) rfl
theorem q1343 : (Jvm.Cond.instanceMethod ({ cls := "DatedContacts", name := "cut", desc := "(III)I" } : Jvm.MethodName)) ∈ lw_all := lw_g (lw_at lw_m6 67 rfl) rfl
theorem q1344 : (Jvm.Cond.selects "DatedContacts" ({ cls := "DatedContacts", name := "cut", desc := "(III)I" } : Jvm.MethodName) ({ cls := "DatedContacts", name := "cut", desc := "(III)I" } : Jvm.MethodName)) ∈ lw_all := lw_g (lw_at lw_m6 68 rfl) rfl
theorem q1345 : (Jvm.Cond.code ({ cls := "DatedContacts", name := "cut", desc := "(III)I" } : Jvm.MethodName) prog_1_method_43_code (6 : Nat) (Option.some Jvm.ClassFile.FieldType.int)) ∈ lw_all := lw_g (lw_at lw_m6 69 rfl) rfl
theorem q1346 : (Jvm.Cond.methodLink "DatedContacts" (310 : Nat) ({ cls := "DatedContacts$Net", name := "all", desc := "()I" } : Jvm.MethodName)) ∈ lw_all := lw_g (lw_at lw_m6 70 rfl) rfl
theorem q1350 : (Jvm.Cond.methodLink "DatedContacts" (312 : Nat) ({ cls := "java/lang/Integer", name := "bitCount", desc := "(I)I" } : Jvm.MethodName)) ∈ lw_all := lw_g (lw_at lw_m6 74 rfl) rfl
theorem q1357 : (Jvm.Cond.instanceMethod ({ cls := "DatedContacts", name := "common", desc := "(III)I" } : Jvm.MethodName)) ∈ lw_all := lw_g (lw_at lw_m6 81 rfl) rfl
theorem q1358 : (Jvm.Cond.selects "DatedContacts" ({ cls := "DatedContacts", name := "common", desc := "(III)I" } : Jvm.MethodName) ({ cls := "DatedContacts", name := "common", desc := "(III)I" } : Jvm.MethodName)) ∈ lw_all := lw_g (lw_at lw_m6 82 rfl) rfl
theorem q1359 : (Jvm.Cond.code ({ cls := "DatedContacts", name := "common", desc := "(III)I" } : Jvm.MethodName) prog_1_method_44_code (6 : Nat) (Option.some Jvm.ClassFile.FieldType.int)) ∈ lw_all := lw_g (lw_at lw_m6 83 rfl) rfl
theorem q1361 : (Jvm.Cond.instanceMethod ({ cls := "DatedContacts", name := "spared", desc := "(IIII)J" } : Jvm.MethodName)) ∈ lw_all := lw_g (lw_at lw_m6 85 rfl) rfl
theorem q1362 : (Jvm.Cond.selects "DatedContacts" ({ cls := "DatedContacts", name := "spared", desc := "(IIII)J" } : Jvm.MethodName) ({ cls := "DatedContacts", name := "spared", desc := "(IIII)J" } : Jvm.MethodName)) ∈ lw_all := lw_g (lw_at lw_m6 86 rfl) rfl
theorem q1363 : (Jvm.Cond.code ({ cls := "DatedContacts", name := "spared", desc := "(IIII)J" } : Jvm.MethodName) prog_1_method_46_code (13 : Nat) (Option.some Jvm.ClassFile.FieldType.long)) ∈ lw_all := lw_g (lw_at lw_m6 87 rfl) rfl
theorem q1364 : (Jvm.Cond.constantLong "DatedContacts" (317 : Nat) (10 : Int64)) ∈ lw_all := lw_g (lw_at lw_m6 88 rfl) rfl
theorem q1365 : (Jvm.Cond.constantLong "DatedContacts" (319 : Nat) (-1000001 : Int64)) ∈ lw_all := lw_g (lw_at lw_m6 89 rfl) rfl
theorem q1366 : (Jvm.Cond.methodLink "DatedContacts" (321 : Nat) ({ cls := "DatedContacts", name := "has", desc := "(II)Z" } : Jvm.MethodName)) ∈ lw_all := lw_g (lw_at lw_m6 90 rfl) rfl
theorem q1367 : (Jvm.Cond.methodLink "DatedContacts" (325 : Nat) ({ cls := "DatedContacts", name := "measure", desc := "(JJ)J" } : Jvm.MethodName)) ∈ lw_all := lw_g (lw_at lw_m6 91 rfl) rfl
theorem q1368 : (Jvm.Cond.static ({ cls := "DatedContacts", name := "measure", desc := "(JJ)J" } : Jvm.MethodName)) ∈ lw_all := lw_g (lw_at lw_m6 92 rfl) rfl
theorem q1369 : (Jvm.Cond.code ({ cls := "DatedContacts", name := "measure", desc := "(JJ)J" } : Jvm.MethodName) prog_1_method_45_code (10 : Nat) (Option.some Jvm.ClassFile.FieldType.long)) ∈ lw_all := lw_g (lw_at lw_m6 93 rfl) rfl
theorem q1371 : (Jvm.Cond.instanceMethod ({ cls := "DatedContacts", name := "fits", desc := "(IIIII)I" } : Jvm.MethodName)) ∈ lw_all := lw_g (lw_at lw_m6 95 rfl) rfl
theorem q1372 : (Jvm.Cond.selects "DatedContacts" ({ cls := "DatedContacts", name := "fits", desc := "(IIIII)I" } : Jvm.MethodName) ({ cls := "DatedContacts", name := "fits", desc := "(IIIII)I" } : Jvm.MethodName)) ∈ lw_all := lw_g (lw_at lw_m6 96 rfl) rfl
theorem q1373 : (Jvm.Cond.codeWith ({ cls := "DatedContacts", name := "fits", desc := "(IIIII)I" } : Jvm.MethodName) prog_1_method_53_code (7 : Nat) (Option.some Jvm.ClassFile.FieldType.int) [((46 : Nat), (116 : Nat), (117 : Nat), (131 : Nat)), ((46 : Nat), (116 : Nat), (125 : Nat), (133 : Nat))]) ∈ lw_all := lw_g (lw_at lw_m6 97 rfl) rfl
theorem q1374 : (Jvm.Cond.methodLink "DatedContacts" (344 : Nat) ({ cls := "DatedContacts", name := "isFor", desc := "(II)Z" } : Jvm.MethodName)) ∈ lw_all := lw_g (lw_at lw_m6 98 rfl) rfl
theorem q1375 : (Jvm.Cond.privateMethod ({ cls := "DatedContacts", name := "isFor", desc := "(II)Z" } : Jvm.MethodName)) ∈ lw_tbl := lw_at lw_m6 99 rfl
theorem q1376 : (Jvm.Cond.instanceMethod ({ cls := "DatedContacts", name := "isFor", desc := "(II)Z" } : Jvm.MethodName)) ∈ lw_all := lw_g (lw_at lw_m6 100 rfl) rfl
theorem q1377 : (Jvm.Cond.code ({ cls := "DatedContacts", name := "isFor", desc := "(II)Z" } : Jvm.MethodName) prog_1_method_52_code (3 : Nat) (Option.some Jvm.ClassFile.FieldType.boolean)) ∈ lw_all := lw_g (lw_at lw_m6 101 rfl) rfl
theorem q1378 : (Jvm.Cond.methodLink "DatedContacts" (347 : Nat) ({ cls := "DatedContacts", name := "items", desc := "(III)[I" } : Jvm.MethodName)) ∈ lw_all := lw_g (lw_at lw_m6 102 rfl) rfl
theorem q1379 : (Jvm.Cond.privateMethod ({ cls := "DatedContacts", name := "items", desc := "(III)[I" } : Jvm.MethodName)) ∈ lw_tbl := lw_at lw_m6 103 rfl
theorem q1380 : (Jvm.Cond.instanceMethod ({ cls := "DatedContacts", name := "items", desc := "(III)[I" } : Jvm.MethodName)) ∈ lw_all := lw_g (lw_at lw_m6 104 rfl) rfl
theorem q1381 : (Jvm.Cond.code ({ cls := "DatedContacts", name := "items", desc := "(III)[I" } : Jvm.MethodName) prog_1_method_16_code (7 : Nat) (Option.some (Jvm.ClassFile.FieldType.array Jvm.ClassFile.FieldType.int))) ∈ lw_all := lw_g (lw_at lw_m6 105 rfl) rfl
theorem q1382 : (Jvm.Cond.methodLink "DatedContacts" (148 : Nat) ({ cls := "java/lang/ArrayIndexOutOfBoundsException", name := "<init>", desc := "()V" } : Jvm.MethodName)) ∈ lw_all := lw_g (lw_at lw_m6 106 rfl) rfl
theorem q1389 : (Jvm.Cond.methodLinkNest "DatedContacts" (149 : Nat) ({ cls := "DatedContacts$Shelf", name := "at", desc := "(I)I" } : Jvm.MethodName) "DatedContacts") ∈ lw_tbl := lw_at lw_m6 113 rfl
theorem q1390 : (Jvm.Cond.methodLink "DatedContacts" (351 : Nat) ({ cls := "DatedContacts", name := "lowsBy", desc := "(I[I)I" } : Jvm.MethodName)) ∈ lw_all := lw_g (lw_at lw_m6 114 rfl) rfl
theorem q1391 : (Jvm.Cond.privateMethod ({ cls := "DatedContacts", name := "lowsBy", desc := "(I[I)I" } : Jvm.MethodName)) ∈ lw_tbl := lw_at lw_m6 115 rfl
theorem q1392 : (Jvm.Cond.instanceMethod ({ cls := "DatedContacts", name := "lowsBy", desc := "(I[I)I" } : Jvm.MethodName)) ∈ lw_all := lw_g (lw_at lw_m6 116 rfl) rfl
theorem q1393 : (Jvm.Cond.code ({ cls := "DatedContacts", name := "lowsBy", desc := "(I[I)I" } : Jvm.MethodName) prog_1_method_49_code (5 : Nat) (Option.some Jvm.ClassFile.FieldType.int)) ∈ lw_all := lw_g (lw_at lw_m6 117 rfl) rfl
theorem q1394 : (Jvm.Cond.methodLink "DatedContacts" (332 : Nat) ({ cls := "java/lang/Math", name := "min", desc := "(II)I" } : Jvm.MethodName)) ∈ lw_all := lw_g (lw_at lw_m6 118 rfl) rfl
theorem q1395 : (Jvm.Cond.methodLink "DatedContacts" (337 : Nat) ({ cls := "DatedContacts", name := "asNow", desc := "()LDatedContacts$Net;" } : Jvm.MethodName)) ∈ lw_all := lw_g (lw_at lw_m6 119 rfl) rfl
theorem q1396 : (Jvm.Cond.privateMethod ({ cls := "DatedContacts", name := "asNow", desc := "()LDatedContacts$Net;" } : Jvm.MethodName)) ∈ lw_tbl := lw_at lw_m6 120 rfl
theorem q1397 : (Jvm.Cond.instanceMethod ({ cls := "DatedContacts", name := "asNow", desc := "()LDatedContacts$Net;" } : Jvm.MethodName)) ∈ lw_all := lw_g (lw_at lw_m6 121 rfl) rfl
theorem q1398 : (Jvm.Cond.code ({ cls := "DatedContacts", name := "asNow", desc := "()LDatedContacts$Net;" } : Jvm.MethodName) prog_1_method_47_code (1 : Nat) (Option.some (Jvm.ClassFile.FieldType.object "DatedContacts$Net"))) ∈ lw_all := lw_g (lw_at lw_m6 122 rfl) rfl
theorem q1399 : (Jvm.Cond.methodLink "DatedContacts" (340 : Nat) ({ cls := "DatedContacts", name := "isSo", desc := "(LDatedContacts$Net;I[I)Z" } : Jvm.MethodName)) ∈ lw_all := lw_g (lw_at lw_m6 123 rfl) rfl
theorem q1400 : (Jvm.Cond.privateMethod ({ cls := "DatedContacts", name := "isSo", desc := "(LDatedContacts$Net;I[I)Z" } : Jvm.MethodName)) ∈ lw_tbl := lw_at lw_m6 124 rfl
theorem q1401 : (Jvm.Cond.instanceMethod ({ cls := "DatedContacts", name := "isSo", desc := "(LDatedContacts$Net;I[I)Z" } : Jvm.MethodName)) ∈ lw_all := lw_g (lw_at lw_m6 125 rfl) rfl
theorem q1402 : (Jvm.Cond.code ({ cls := "DatedContacts", name := "isSo", desc := "(LDatedContacts$Net;I[I)Z" } : Jvm.MethodName) prog_1_method_48_code (5 : Nat) (Option.some Jvm.ClassFile.FieldType.boolean)) ∈ lw_all := lw_g (lw_at lw_m6 126 rfl) rfl
theorem q1403 : (Jvm.Cond.methodLink "DatedContacts" (329 : Nat) ({ cls := "DatedContacts$Walk", name := "first", desc := "(I)I" } : Jvm.MethodName)) ∈ lw_all := lw_g (lw_at lw_m6 127 rfl) rfl
theorem q1411 : (Jvm.Cond.methodLink "DatedContacts" (355 : Nat) ({ cls := "DatedContacts", name := "daysBy", desc := "(II[I)I" } : Jvm.MethodName)) ∈ lw_all := lw_g (lw_at lw_m6 135 rfl) rfl
theorem q1412 : (Jvm.Cond.privateMethod ({ cls := "DatedContacts", name := "daysBy", desc := "(II[I)I" } : Jvm.MethodName)) ∈ lw_tbl := lw_at lw_m6 136 rfl
theorem q1413 : (Jvm.Cond.instanceMethod ({ cls := "DatedContacts", name := "daysBy", desc := "(II[I)I" } : Jvm.MethodName)) ∈ lw_all := lw_g (lw_at lw_m6 137 rfl) rfl
theorem q1414 : (Jvm.Cond.code ({ cls := "DatedContacts", name := "daysBy", desc := "(II[I)I" } : Jvm.MethodName) prog_1_method_50_code (6 : Nat) (Option.some Jvm.ClassFile.FieldType.int)) ∈ lw_all := lw_g (lw_at lw_m6 138 rfl) rfl
theorem q1415 : (Jvm.Cond.methodLink "DatedContacts" (359 : Nat) ({ cls := "DatedContacts", name := "kindsBy", desc := "(II[I)I" } : Jvm.MethodName)) ∈ lw_all := lw_g (lw_at lw_m6 139 rfl) rfl
theorem q1416 : (Jvm.Cond.privateMethod ({ cls := "DatedContacts", name := "kindsBy", desc := "(II[I)I" } : Jvm.MethodName)) ∈ lw_tbl := lw_at lw_m6 140 rfl
theorem q1417 : (Jvm.Cond.instanceMethod ({ cls := "DatedContacts", name := "kindsBy", desc := "(II[I)I" } : Jvm.MethodName)) ∈ lw_all := lw_g (lw_at lw_m6 141 rfl) rfl
theorem q1418 : (Jvm.Cond.code ({ cls := "DatedContacts", name := "kindsBy", desc := "(II[I)I" } : Jvm.MethodName) prog_1_method_51_code (6 : Nat) (Option.some Jvm.ClassFile.FieldType.int)) ∈ lw_all := lw_g (lw_at lw_m6 142 rfl) rfl
theorem q1420 : (Jvm.Cond.instanceMethod ({ cls := "DatedContacts", name := "tell", desc := "(III)I" } : Jvm.MethodName)) ∈ lw_all := lw_g (lw_at lw_m6 144 rfl) rfl
theorem q1421 : (Jvm.Cond.selects "DatedContacts" ({ cls := "DatedContacts", name := "tell", desc := "(III)I" } : Jvm.MethodName) ({ cls := "DatedContacts", name := "tell", desc := "(III)I" } : Jvm.MethodName)) ∈ lw_all := lw_g (lw_at lw_m6 145 rfl) rfl
theorem q1422 : (Jvm.Cond.codeWith ({ cls := "DatedContacts", name := "tell", desc := "(III)I" } : Jvm.MethodName) prog_1_method_54_code (6 : Nat) (Option.some Jvm.ClassFile.FieldType.int) [((25 : Nat), (104 : Nat), (105 : Nat), (131 : Nat))]) ∈ lw_all := lw_g (lw_at lw_m6 146 rfl) rfl
theorem q1424 : (Jvm.Cond.instanceMethod ({ cls := "DatedContacts", name := "drawn", desc := "(III)I" } : Jvm.MethodName)) ∈ lw_all := lw_g (lw_at lw_m6 148 rfl) rfl
theorem q1425 : (Jvm.Cond.selects "DatedContacts" ({ cls := "DatedContacts", name := "drawn", desc := "(III)I" } : Jvm.MethodName) ({ cls := "DatedContacts", name := "drawn", desc := "(III)I" } : Jvm.MethodName)) ∈ lw_all := lw_g (lw_at lw_m6 149 rfl) rfl
theorem q1426 : (Jvm.Cond.code ({ cls := "DatedContacts", name := "drawn", desc := "(III)I" } : Jvm.MethodName) prog_1_method_55_code (9 : Nat) (Option.some Jvm.ClassFile.FieldType.int)) ∈ lw_all := lw_g (lw_at lw_m6 150 rfl) rfl
theorem q1427 : (Jvm.Cond.constantLong "DatedContacts" (362 : Nat) (999999 : Int64)) ∈ lw_all := lw_g (lw_at lw_m6 151 rfl) rfl
theorem q1428 : (Jvm.Cond.constantLong "DatedContacts" (364 : Nat) (16807 : Int64)) ∈ lw_all := lw_g (lw_at lw_m6 152 rfl) rfl
theorem q1429 : (Jvm.Cond.constantLong "DatedContacts" (366 : Nat) (2147483647 : Int64)) ∈ lw_all := lw_g (lw_at lw_m6 153 rfl) rfl
theorem q1430 : (Jvm.Cond.constantLong "DatedContacts" (368 : Nat) (16 : Int64)) ∈ lw_all := lw_g (lw_at lw_m6 154 rfl) rfl
theorem q1431 : (Jvm.Cond.constantLong "DatedContacts" (370 : Nat) (31 : Int64)) ∈ lw_all := lw_g (lw_at lw_m6 155 rfl) rfl
theorem q1432 : (Jvm.Cond.methodLink "DatedContacts" (372 : Nat) ({ cls := "DatedContacts$Walk", name := "many", desc := "()I" } : Jvm.MethodName)) ∈ lw_all := lw_g (lw_at lw_m6 156 rfl) rfl
theorem q1437 : (Jvm.Cond.instanceMethod ({ cls := "DatedContacts", name := "image", desc := "(I)I" } : Jvm.MethodName)) ∈ lw_all := lw_g (lw_at lw_m6 161 rfl) rfl
theorem q1438 : (Jvm.Cond.selects "DatedContacts" ({ cls := "DatedContacts", name := "image", desc := "(I)I" } : Jvm.MethodName) ({ cls := "DatedContacts", name := "image", desc := "(I)I" } : Jvm.MethodName)) ∈ lw_all := lw_g (lw_at lw_m6 162 rfl) rfl
theorem q1439 : (Jvm.Cond.code ({ cls := "DatedContacts", name := "image", desc := "(I)I" } : Jvm.MethodName) prog_1_method_56_code (2 : Nat) (Option.some Jvm.ClassFile.FieldType.int)) ∈ lw_all := lw_g (lw_at lw_m6 163 rfl) rfl
theorem q1441 : (Jvm.Cond.instanceMethod ({ cls := "DatedContacts", name := "restore", desc := "(I)I" } : Jvm.MethodName)) ∈ lw_all := lw_g (lw_at lw_m6 165 rfl) rfl
theorem q1442 : (Jvm.Cond.selects "DatedContacts" ({ cls := "DatedContacts", name := "restore", desc := "(I)I" } : Jvm.MethodName) ({ cls := "DatedContacts", name := "restore", desc := "(I)I" } : Jvm.MethodName)) ∈ lw_all := lw_g (lw_at lw_m6 166 rfl) rfl
theorem q1443 : (Jvm.Cond.code ({ cls := "DatedContacts", name := "restore", desc := "(I)I" } : Jvm.MethodName) prog_1_method_57_code (2 : Nat) (Option.some Jvm.ClassFile.FieldType.int)) ∈ lw_all := lw_g (lw_at lw_m6 167 rfl) rfl
theorem q1445 : (Jvm.Cond.instanceMethod ({ cls := "DatedContacts", name := "kind", desc := "(I)I" } : Jvm.MethodName)) ∈ lw_all := lw_g (lw_at lw_m6 169 rfl) rfl
theorem q1446 : (Jvm.Cond.selects "DatedContacts" ({ cls := "DatedContacts", name := "kind", desc := "(I)I" } : Jvm.MethodName) ({ cls := "DatedContacts", name := "kind", desc := "(I)I" } : Jvm.MethodName)) ∈ lw_all := lw_g (lw_at lw_m6 170 rfl) rfl
theorem q1447 : (Jvm.Cond.code ({ cls := "DatedContacts", name := "kind", desc := "(I)I" } : Jvm.MethodName) prog_1_method_58_code (2 : Nat) (Option.some Jvm.ClassFile.FieldType.int)) ∈ lw_all := lw_g (lw_at lw_m6 171 rfl) rfl
theorem q1449 : (Jvm.Cond.instanceMethod ({ cls := "DatedContacts", name := "as", desc := "(II)I" } : Jvm.MethodName)) ∈ lw_all := lw_g (lw_at lw_m6 173 rfl) rfl
theorem q1450 : (Jvm.Cond.selects "DatedContacts" ({ cls := "DatedContacts", name := "as", desc := "(II)I" } : Jvm.MethodName) ({ cls := "DatedContacts", name := "as", desc := "(II)I" } : Jvm.MethodName)) ∈ lw_all := lw_g (lw_at lw_m6 174 rfl) rfl
theorem q1451 : (Jvm.Cond.codeWith ({ cls := "DatedContacts", name := "as", desc := "(II)I" } : Jvm.MethodName) prog_1_method_59_code (4 : Nat) (Option.some Jvm.ClassFile.FieldType.int) [((23 : Nat), (43 : Nat), (44 : Nat), (380 : Nat))]) ∈ lw_all := lw_g (lw_at lw_m6 175 rfl) rfl
theorem q1452 : (Jvm.Cond.classLink "DatedContacts" (380 : Nat) "java/lang/ClassCastException") ∈ lw_all := lw_g (lw_at lw_m6 176 rfl) rfl
theorem q1466 : (Jvm.Cond.methodLink "DatedContacts" (373 : Nat) ({ cls := "DatedContacts", name := "taken", desc := "(Ljava/lang/Object;I)LDatedContacts$Person;" } : Jvm.MethodName)) ∈ lw_all := lw_g (lw_at lw_m6 190 rfl) rfl
theorem q1467 : (Jvm.Cond.static ({ cls := "DatedContacts", name := "taken", desc := "(Ljava/lang/Object;I)LDatedContacts$Person;" } : Jvm.MethodName)) ∈ lw_all := lw_g (lw_at lw_m6 191 rfl) rfl
theorem q1468 : (Jvm.Cond.code ({ cls := "DatedContacts", name := "taken", desc := "(Ljava/lang/Object;I)LDatedContacts$Person;" } : Jvm.MethodName) prog_1_method_4_code (2 : Nat) (Option.some (Jvm.ClassFile.FieldType.object "DatedContacts$Person"))) ∈ lw_all := lw_g (lw_at lw_m6 192 rfl) rfl
theorem q1469 : (Jvm.Cond.classLink "DatedContacts" (19 : Nat) "DatedContacts$Person") ∈ lw_all := lw_g (lw_at lw_m6 193 rfl) rfl
theorem q1470 : (Jvm.Cond.methodLink "DatedContacts" (377 : Nat) ({ cls := "DatedContacts$Person", name := "number", desc := "()I" } : Jvm.MethodName)) ∈ lw_all := lw_g (lw_at lw_m6 194 rfl) rfl
theorem q1480 : (Jvm.Cond.instanceMethod ({ cls := "DatedContacts", name := "ask", desc := "(II)I" } : Jvm.MethodName)) ∈ lw_all := lw_g (lw_at lw_m6 204 rfl) rfl
theorem q1481 : (Jvm.Cond.selects "DatedContacts" ({ cls := "DatedContacts", name := "ask", desc := "(II)I" } : Jvm.MethodName) ({ cls := "DatedContacts", name := "ask", desc := "(II)I" } : Jvm.MethodName)) ∈ lw_all := lw_g (lw_at lw_m6 205 rfl) rfl
theorem q1482 : (Jvm.Cond.code ({ cls := "DatedContacts", name := "ask", desc := "(II)I" } : Jvm.MethodName) prog_1_method_60_code (5 : Nat) (Option.some Jvm.ClassFile.FieldType.int)) ∈ lw_all := lw_g (lw_at lw_m6 206 rfl) rfl
theorem q1483 : (Jvm.Cond.classLink "DatedContacts" (382 : Nat) "DatedContacts$Has") ∈ lw_all := lw_g (lw_at lw_m6 207 rfl) rfl
theorem q1485 : (Jvm.Cond.methodLink "DatedContacts" (384 : Nat) ({ cls := "java/lang/Math", name := "max", desc := "(II)I" } : Jvm.MethodName)) ∈ lw_all := lw_g (lw_at lw_m6 209 rfl) rfl
theorem q1486 : (Jvm.Cond.methodLink "DatedContacts" (387 : Nat) ({ cls := "DatedContacts$Has", name := "<init>", desc := "(II)V" } : Jvm.MethodName)) ∈ lw_all := lw_g (lw_at lw_m6 210 rfl) rfl
theorem q1589 : (Jvm.Cond.instanceMethod ({ cls := "DatedContacts", name := "trace", desc := "(I)I" } : Jvm.MethodName)) ∈ lw_all := lw_g (lw_at lw_m7 73 rfl) rfl
theorem q1590 : (Jvm.Cond.selects "DatedContacts" ({ cls := "DatedContacts", name := "trace", desc := "(I)I" } : Jvm.MethodName) ({ cls := "DatedContacts", name := "trace", desc := "(I)I" } : Jvm.MethodName)) ∈ lw_all := lw_g (lw_at lw_m7 74 rfl) rfl
theorem q1591 : (Jvm.Cond.code ({ cls := "DatedContacts", name := "trace", desc := "(I)I" } : Jvm.MethodName) prog_1_method_61_code (2 : Nat) (Option.some Jvm.ClassFile.FieldType.int)) ∈ lw_all := lw_g (lw_at lw_m7 75 rfl) rfl
theorem q1593 : (Jvm.Cond.instanceMethod ({ cls := "DatedContacts", name := "count", desc := "(I)I" } : Jvm.MethodName)) ∈ lw_all := lw_g (lw_at lw_m7 77 rfl) rfl
theorem q1594 : (Jvm.Cond.selects "DatedContacts" ({ cls := "DatedContacts", name := "count", desc := "(I)I" } : Jvm.MethodName) ({ cls := "DatedContacts", name := "count", desc := "(I)I" } : Jvm.MethodName)) ∈ lw_all := lw_g (lw_at lw_m7 78 rfl) rfl
theorem q1595 : (Jvm.Cond.code ({ cls := "DatedContacts", name := "count", desc := "(I)I" } : Jvm.MethodName) prog_1_method_64_code (2 : Nat) (Option.some Jvm.ClassFile.FieldType.int)) ∈ lw_all := lw_g (lw_at lw_m7 79 rfl) rfl
theorem q1596 : (Jvm.Cond.methodLink "DatedContacts" (402 : Nat) ({ cls := "DatedContacts", name := "rowsThere", desc := "()I" } : Jvm.MethodName)) ∈ lw_all := lw_g (lw_at lw_m7 80 rfl) rfl
theorem q1597 : (Jvm.Cond.privateMethod ({ cls := "DatedContacts", name := "rowsThere", desc := "()I" } : Jvm.MethodName)) ∈ lw_tbl := lw_at lw_m7 81 rfl
theorem q1598 : (Jvm.Cond.instanceMethod ({ cls := "DatedContacts", name := "rowsThere", desc := "()I" } : Jvm.MethodName)) ∈ lw_all := lw_g (lw_at lw_m7 82 rfl) rfl
theorem q1599 : (Jvm.Cond.code ({ cls := "DatedContacts", name := "rowsThere", desc := "()I" } : Jvm.MethodName) prog_1_method_62_code (3 : Nat) (Option.some Jvm.ClassFile.FieldType.int)) ∈ lw_all := lw_g (lw_at lw_m7 83 rfl) rfl
theorem q1600 : (Jvm.Cond.methodLink "DatedContacts" (405 : Nat) ({ cls := "DatedContacts", name := "cases", desc := "()I" } : Jvm.MethodName)) ∈ lw_all := lw_g (lw_at lw_m7 84 rfl) rfl
theorem q1601 : (Jvm.Cond.privateMethod ({ cls := "DatedContacts", name := "cases", desc := "()I" } : Jvm.MethodName)) ∈ lw_tbl := lw_at lw_m7 85 rfl
theorem q1602 : (Jvm.Cond.instanceMethod ({ cls := "DatedContacts", name := "cases", desc := "()I" } : Jvm.MethodName)) ∈ lw_all := lw_g (lw_at lw_m7 86 rfl) rfl
theorem q1603 : (Jvm.Cond.code ({ cls := "DatedContacts", name := "cases", desc := "()I" } : Jvm.MethodName) prog_1_method_63_code (3 : Nat) (Option.some Jvm.ClassFile.FieldType.int)) ∈ lw_all := lw_g (lw_at lw_m7 87 rfl) rfl
theorem q1605 : (Jvm.Cond.instanceMethod ({ cls := "DatedContacts", name := "status", desc := "()I" } : Jvm.MethodName)) ∈ lw_all := lw_g (lw_at lw_m7 89 rfl) rfl
theorem q1606 : (Jvm.Cond.selects "DatedContacts" ({ cls := "DatedContacts", name := "status", desc := "()I" } : Jvm.MethodName) ({ cls := "DatedContacts", name := "status", desc := "()I" } : Jvm.MethodName)) ∈ lw_all := lw_g (lw_at lw_m7 90 rfl) rfl
theorem q1607 : (Jvm.Cond.code ({ cls := "DatedContacts", name := "status", desc := "()I" } : Jvm.MethodName) prog_1_method_65_code (1 : Nat) (Option.some Jvm.ClassFile.FieldType.int)) ∈ lw_all := lw_g (lw_at lw_m7 91 rfl) rfl
theorem in_X0 : ∀ w ∈ wsX00, w ∈ lw_all := lw_in wsX00 [281, 283, 285, 287, 289, 291, 293, 295, 297, 299, 301, 303, 305] (by decide +kernel) (by decide +kernel)
