/-! DatedContacts$Shelf -/
set_option maxRecDepth 100000
def RX1 : String := "DatedContacts$Shelf"
def TX1 : u_T := fun k => match k with
  | _ => ("DatedContacts$Shelf", "held", "Ljava/lang/Object;", false)
def tyX1 : Nat → FieldType := fun k => match k with
  | _ => .object "java/lang/Object"
abbrev wsX10 : List Cond := u_ws RX1 TX1 1
theorem nmX1 : ∀ a, a < 1 → ∀ b, b < 1 → a ≠ b → (TX1 a).2.1 ≠ (TX1 b).2.1 := by decide +kernel
theorem tyX1_ok : ∀ k, k < 1 → parseFieldDescriptor (TX1 k).2.2.1 = some (tyX1 k) := by decide +kernel
abbrev cX1_init : ByteArray := prog_14_method_1_code
def yX1_init : MethodName := ⟨RX1, "<init>", "()V"⟩
theorem dX1_init_0 : decode cX1_init 0 = .ok (.aload_n 0, 1) := by decide +kernel
theorem dX1_init_1 : decode cX1_init 1 = .ok (.invokespecial 1, 3) := by decide +kernel
theorem dX1_init_4 : decode cX1_init 4 = .ok (.return_, 1) := by decide +kernel
abbrev cX1_put : ByteArray := prog_14_method_4_code
def yX1_put : MethodName := ⟨RX1, "put", "(II)I"⟩
def dkwX1_put_2 : List UInt8 := [42, 180, 0, 7, 192, 0, 17, 27, 28, 79, 42, 27, 182, 0, 19, 172]
abbrev dktX1_put_2 : List UInt8 := dkwX1_put_2 ++ []
def dkwX1_put_1 : List UInt8 := [42, 180, 0, 7, 193, 0, 15, 153, 0, 17, 42, 180, 0, 7, 192, 0, 15, 27, 28, 147, 86, 167, 0, 13]
abbrev dktX1_put_1 : List UInt8 := dkwX1_put_1 ++ dktX1_put_2
def dkwX1_put_0 : List UInt8 := [42, 180, 0, 7, 193, 0, 13, 153, 0, 17, 42, 180, 0, 7, 192, 0, 13, 27, 28, 145, 84, 167, 0, 37]
abbrev dktX1_put_0 : List UInt8 := dkwX1_put_0 ++ dktX1_put_1
theorem dksX1_put_0 : cX1_put.data.toList.drop 0 = dktX1_put_0 := by decide +kernel
theorem dksX1_put_1 : cX1_put.data.toList.drop 24 = dktX1_put_1 := dk_seg dksX1_put_0 24 rfl rfl
theorem dksX1_put_2 : cX1_put.data.toList.drop 48 = dktX1_put_2 := dk_seg dksX1_put_1 24 rfl rfl
theorem dX1_put_0 : decode cX1_put 0 = .ok (.aload_n 0, 1) := dk_42 (dk_at dksX1_put_0 0 rfl rfl)
theorem dX1_put_1 : decode cX1_put 1 = .ok (.getfield 7, 3) := dk_180 0 7 (dk_at dksX1_put_0 1 rfl rfl)
theorem dX1_put_4 : decode cX1_put 4 = .ok (.instanceof 13, 3) := dk_193 0 13 (dk_at dksX1_put_0 4 rfl rfl)
theorem dX1_put_7 : decode cX1_put 7 = .ok (.ifCond .eq 17, 3) := dk_153 0 17 (dk_at dksX1_put_0 7 rfl rfl)
theorem dX1_put_10 : decode cX1_put 10 = .ok (.aload_n 0, 1) := dk_42 (dk_at dksX1_put_0 10 rfl rfl)
theorem dX1_put_11 : decode cX1_put 11 = .ok (.getfield 7, 3) := dk_180 0 7 (dk_at dksX1_put_0 11 rfl rfl)
theorem dX1_put_14 : decode cX1_put 14 = .ok (.checkcast 13, 3) := dk_192 0 13 (dk_at dksX1_put_0 14 rfl rfl)
theorem dX1_put_17 : decode cX1_put 17 = .ok (.iload_n 1, 1) := dk_27 (dk_at dksX1_put_0 17 rfl rfl)
theorem dX1_put_18 : decode cX1_put 18 = .ok (.iload_n 2, 1) := dk_28 (dk_at dksX1_put_0 18 rfl rfl)
theorem dX1_put_19 : decode cX1_put 19 = .ok (.i2b, 1) := dk_145 (dk_at dksX1_put_0 19 rfl rfl)
theorem dX1_put_20 : decode cX1_put 20 = .ok (.bastore, 1) := dk_84 (dk_at dksX1_put_0 20 rfl rfl)
theorem dX1_put_21 : decode cX1_put 21 = .ok (.goto 37, 3) := dk_167 0 37 (dk_at dksX1_put_0 21 rfl rfl)
theorem dX1_put_24 : decode cX1_put 24 = .ok (.aload_n 0, 1) := dk_42 (dk_at dksX1_put_1 0 rfl rfl)
theorem dX1_put_25 : decode cX1_put 25 = .ok (.getfield 7, 3) := dk_180 0 7 (dk_at dksX1_put_1 1 rfl rfl)
theorem dX1_put_28 : decode cX1_put 28 = .ok (.instanceof 15, 3) := dk_193 0 15 (dk_at dksX1_put_1 4 rfl rfl)
theorem dX1_put_31 : decode cX1_put 31 = .ok (.ifCond .eq 17, 3) := dk_153 0 17 (dk_at dksX1_put_1 7 rfl rfl)
theorem dX1_put_34 : decode cX1_put 34 = .ok (.aload_n 0, 1) := dk_42 (dk_at dksX1_put_1 10 rfl rfl)
theorem dX1_put_35 : decode cX1_put 35 = .ok (.getfield 7, 3) := dk_180 0 7 (dk_at dksX1_put_1 11 rfl rfl)
theorem dX1_put_38 : decode cX1_put 38 = .ok (.checkcast 15, 3) := dk_192 0 15 (dk_at dksX1_put_1 14 rfl rfl)
theorem dX1_put_41 : decode cX1_put 41 = .ok (.iload_n 1, 1) := dk_27 (dk_at dksX1_put_1 17 rfl rfl)
theorem dX1_put_42 : decode cX1_put 42 = .ok (.iload_n 2, 1) := dk_28 (dk_at dksX1_put_1 18 rfl rfl)
theorem dX1_put_43 : decode cX1_put 43 = .ok (.i2s, 1) := dk_147 (dk_at dksX1_put_1 19 rfl rfl)
theorem dX1_put_44 : decode cX1_put 44 = .ok (.sastore, 1) := dk_86 (dk_at dksX1_put_1 20 rfl rfl)
theorem dX1_put_45 : decode cX1_put 45 = .ok (.goto 13, 3) := dk_167 0 13 (dk_at dksX1_put_1 21 rfl rfl)
theorem dX1_put_48 : decode cX1_put 48 = .ok (.aload_n 0, 1) := dk_42 (dk_at dksX1_put_2 0 rfl rfl)
theorem dX1_put_49 : decode cX1_put 49 = .ok (.getfield 7, 3) := dk_180 0 7 (dk_at dksX1_put_2 1 rfl rfl)
theorem dX1_put_52 : decode cX1_put 52 = .ok (.checkcast 17, 3) := dk_192 0 17 (dk_at dksX1_put_2 4 rfl rfl)
theorem dX1_put_55 : decode cX1_put 55 = .ok (.iload_n 1, 1) := dk_27 (dk_at dksX1_put_2 7 rfl rfl)
theorem dX1_put_56 : decode cX1_put 56 = .ok (.iload_n 2, 1) := dk_28 (dk_at dksX1_put_2 8 rfl rfl)
theorem dX1_put_57 : decode cX1_put 57 = .ok (.iastore, 1) := dk_79 (dk_at dksX1_put_2 9 rfl rfl)
theorem dX1_put_58 : decode cX1_put 58 = .ok (.aload_n 0, 1) := dk_42 (dk_at dksX1_put_2 10 rfl rfl)
theorem dX1_put_59 : decode cX1_put 59 = .ok (.iload_n 1, 1) := dk_27 (dk_at dksX1_put_2 11 rfl rfl)
theorem dX1_put_60 : decode cX1_put 60 = .ok (.invokevirtual 19, 3) := dk_182 0 19 (dk_at dksX1_put_2 12 rfl rfl)
theorem dX1_put_63 : decode cX1_put 63 = .ok (.ireturn, 1) := dk_172 (dk_at dksX1_put_2 15 rfl rfl)
abbrev cX1_at : ByteArray := prog_14_method_3_code
def yX1_at : MethodName := ⟨RX1, "at", "(I)I"⟩
def dkwX1_at_2 : List UInt8 := [46, 172]
abbrev dktX1_at_2 : List UInt8 := dkwX1_at_2 ++ []
def dkwX1_at_1 : List UInt8 := [193, 0, 15, 153, 0, 13, 42, 180, 0, 7, 192, 0, 15, 27, 53, 172, 42, 180, 0, 7, 192, 0, 17, 27]
abbrev dktX1_at_1 : List UInt8 := dkwX1_at_1 ++ dktX1_at_2
def dkwX1_at_0 : List UInt8 := [42, 180, 0, 7, 193, 0, 13, 153, 0, 13, 42, 180, 0, 7, 192, 0, 13, 27, 51, 172, 42, 180, 0, 7]
abbrev dktX1_at_0 : List UInt8 := dkwX1_at_0 ++ dktX1_at_1
theorem dksX1_at_0 : cX1_at.data.toList.drop 0 = dktX1_at_0 := by decide +kernel
theorem dksX1_at_1 : cX1_at.data.toList.drop 24 = dktX1_at_1 := dk_seg dksX1_at_0 24 rfl rfl
theorem dksX1_at_2 : cX1_at.data.toList.drop 48 = dktX1_at_2 := dk_seg dksX1_at_1 24 rfl rfl
theorem dX1_at_0 : decode cX1_at 0 = .ok (.aload_n 0, 1) := dk_42 (dk_at dksX1_at_0 0 rfl rfl)
theorem dX1_at_1 : decode cX1_at 1 = .ok (.getfield 7, 3) := dk_180 0 7 (dk_at dksX1_at_0 1 rfl rfl)
theorem dX1_at_4 : decode cX1_at 4 = .ok (.instanceof 13, 3) := dk_193 0 13 (dk_at dksX1_at_0 4 rfl rfl)
theorem dX1_at_7 : decode cX1_at 7 = .ok (.ifCond .eq 13, 3) := dk_153 0 13 (dk_at dksX1_at_0 7 rfl rfl)
theorem dX1_at_10 : decode cX1_at 10 = .ok (.aload_n 0, 1) := dk_42 (dk_at dksX1_at_0 10 rfl rfl)
theorem dX1_at_11 : decode cX1_at 11 = .ok (.getfield 7, 3) := dk_180 0 7 (dk_at dksX1_at_0 11 rfl rfl)
theorem dX1_at_14 : decode cX1_at 14 = .ok (.checkcast 13, 3) := dk_192 0 13 (dk_at dksX1_at_0 14 rfl rfl)
theorem dX1_at_17 : decode cX1_at 17 = .ok (.iload_n 1, 1) := dk_27 (dk_at dksX1_at_0 17 rfl rfl)
theorem dX1_at_18 : decode cX1_at 18 = .ok (.baload, 1) := dk_51 (dk_at dksX1_at_0 18 rfl rfl)
theorem dX1_at_19 : decode cX1_at 19 = .ok (.ireturn, 1) := dk_172 (dk_at dksX1_at_0 19 rfl rfl)
theorem dX1_at_20 : decode cX1_at 20 = .ok (.aload_n 0, 1) := dk_42 (dk_at dksX1_at_0 20 rfl rfl)
theorem dX1_at_21 : decode cX1_at 21 = .ok (.getfield 7, 3) := dk_180 0 7 (dk_at dksX1_at_0 21 rfl rfl)
theorem dX1_at_24 : decode cX1_at 24 = .ok (.instanceof 15, 3) := dk_193 0 15 (dk_at dksX1_at_1 0 rfl rfl)
theorem dX1_at_27 : decode cX1_at 27 = .ok (.ifCond .eq 13, 3) := dk_153 0 13 (dk_at dksX1_at_1 3 rfl rfl)
theorem dX1_at_30 : decode cX1_at 30 = .ok (.aload_n 0, 1) := dk_42 (dk_at dksX1_at_1 6 rfl rfl)
theorem dX1_at_31 : decode cX1_at 31 = .ok (.getfield 7, 3) := dk_180 0 7 (dk_at dksX1_at_1 7 rfl rfl)
theorem dX1_at_34 : decode cX1_at 34 = .ok (.checkcast 15, 3) := dk_192 0 15 (dk_at dksX1_at_1 10 rfl rfl)
theorem dX1_at_37 : decode cX1_at 37 = .ok (.iload_n 1, 1) := dk_27 (dk_at dksX1_at_1 13 rfl rfl)
theorem dX1_at_38 : decode cX1_at 38 = .ok (.saload, 1) := dk_53 (dk_at dksX1_at_1 14 rfl rfl)
theorem dX1_at_39 : decode cX1_at 39 = .ok (.ireturn, 1) := dk_172 (dk_at dksX1_at_1 15 rfl rfl)
theorem dX1_at_40 : decode cX1_at 40 = .ok (.aload_n 0, 1) := dk_42 (dk_at dksX1_at_1 16 rfl rfl)
theorem dX1_at_41 : decode cX1_at 41 = .ok (.getfield 7, 3) := dk_180 0 7 (dk_at dksX1_at_1 17 rfl rfl)
theorem dX1_at_44 : decode cX1_at 44 = .ok (.checkcast 17, 3) := dk_192 0 17 (dk_at dksX1_at_1 20 rfl rfl)
theorem dX1_at_47 : decode cX1_at 47 = .ok (.iload_n 1, 1) := dk_27 (dk_at dksX1_at_1 23 rfl rfl)
theorem dX1_at_48 : decode cX1_at 48 = .ok (.iaload, 1) := dk_46 (dk_at dksX1_at_2 0 rfl rfl)
theorem dX1_at_49 : decode cX1_at 49 = .ok (.ireturn, 1) := dk_172 (dk_at dksX1_at_2 1 rfl rfl)
abbrev cX1_many : ByteArray := prog_14_method_2_code
def yX1_many : MethodName := ⟨RX1, "many", "()I"⟩
def dkwX1_many_1 : List UInt8 := [193, 0, 15, 153, 0, 12, 42, 180, 0, 7, 192, 0, 15, 190, 172, 42, 180, 0, 7, 192, 0, 17, 190, 172]
abbrev dktX1_many_1 : List UInt8 := dkwX1_many_1 ++ []
def dkwX1_many_0 : List UInt8 := [42, 180, 0, 7, 193, 0, 13, 153, 0, 12, 42, 180, 0, 7, 192, 0, 13, 190, 172, 42, 180, 0, 7]
abbrev dktX1_many_0 : List UInt8 := dkwX1_many_0 ++ dktX1_many_1
theorem dksX1_many_0 : cX1_many.data.toList.drop 0 = dktX1_many_0 := by decide +kernel
theorem dksX1_many_1 : cX1_many.data.toList.drop 23 = dktX1_many_1 := dk_seg dksX1_many_0 23 rfl rfl
theorem dX1_many_0 : decode cX1_many 0 = .ok (.aload_n 0, 1) := dk_42 (dk_at dksX1_many_0 0 rfl rfl)
theorem dX1_many_1 : decode cX1_many 1 = .ok (.getfield 7, 3) := dk_180 0 7 (dk_at dksX1_many_0 1 rfl rfl)
theorem dX1_many_4 : decode cX1_many 4 = .ok (.instanceof 13, 3) := dk_193 0 13 (dk_at dksX1_many_0 4 rfl rfl)
theorem dX1_many_7 : decode cX1_many 7 = .ok (.ifCond .eq 12, 3) := dk_153 0 12 (dk_at dksX1_many_0 7 rfl rfl)
theorem dX1_many_10 : decode cX1_many 10 = .ok (.aload_n 0, 1) := dk_42 (dk_at dksX1_many_0 10 rfl rfl)
theorem dX1_many_11 : decode cX1_many 11 = .ok (.getfield 7, 3) := dk_180 0 7 (dk_at dksX1_many_0 11 rfl rfl)
theorem dX1_many_14 : decode cX1_many 14 = .ok (.checkcast 13, 3) := dk_192 0 13 (dk_at dksX1_many_0 14 rfl rfl)
theorem dX1_many_17 : decode cX1_many 17 = .ok (.arraylength, 1) := dk_190 (dk_at dksX1_many_0 17 rfl rfl)
theorem dX1_many_18 : decode cX1_many 18 = .ok (.ireturn, 1) := dk_172 (dk_at dksX1_many_0 18 rfl rfl)
theorem dX1_many_19 : decode cX1_many 19 = .ok (.aload_n 0, 1) := dk_42 (dk_at dksX1_many_0 19 rfl rfl)
theorem dX1_many_20 : decode cX1_many 20 = .ok (.getfield 7, 3) := dk_180 0 7 (dk_at dksX1_many_0 20 rfl rfl)
theorem dX1_many_23 : decode cX1_many 23 = .ok (.instanceof 15, 3) := dk_193 0 15 (dk_at dksX1_many_1 0 rfl rfl)
theorem dX1_many_26 : decode cX1_many 26 = .ok (.ifCond .eq 12, 3) := dk_153 0 12 (dk_at dksX1_many_1 3 rfl rfl)
theorem dX1_many_29 : decode cX1_many 29 = .ok (.aload_n 0, 1) := dk_42 (dk_at dksX1_many_1 6 rfl rfl)
theorem dX1_many_30 : decode cX1_many 30 = .ok (.getfield 7, 3) := dk_180 0 7 (dk_at dksX1_many_1 7 rfl rfl)
theorem dX1_many_33 : decode cX1_many 33 = .ok (.checkcast 15, 3) := dk_192 0 15 (dk_at dksX1_many_1 10 rfl rfl)
theorem dX1_many_36 : decode cX1_many 36 = .ok (.arraylength, 1) := dk_190 (dk_at dksX1_many_1 13 rfl rfl)
theorem dX1_many_37 : decode cX1_many 37 = .ok (.ireturn, 1) := dk_172 (dk_at dksX1_many_1 14 rfl rfl)
theorem dX1_many_38 : decode cX1_many 38 = .ok (.aload_n 0, 1) := dk_42 (dk_at dksX1_many_1 15 rfl rfl)
theorem dX1_many_39 : decode cX1_many 39 = .ok (.getfield 7, 3) := dk_180 0 7 (dk_at dksX1_many_1 16 rfl rfl)
theorem dX1_many_42 : decode cX1_many 42 = .ok (.checkcast 17, 3) := dk_192 0 17 (dk_at dksX1_many_1 19 rfl rfl)
theorem dX1_many_45 : decode cX1_many 45 = .ok (.arraylength, 1) := dk_190 (dk_at dksX1_many_1 22 rfl rfl)
theorem dX1_many_46 : decode cX1_many 46 = .ok (.ireturn, 1) := dk_172 (dk_at dksX1_many_1 23 rfl rfl)
theorem q78 : (Jvm.Cond.initialized "DatedContacts$Shelf") ∈ lw_all := lw_g (lw_at lw_m1 2 rfl) rfl
theorem q130 : (Jvm.Cond.instantiable "DatedContacts$Shelf" (1 : Nat)) ∈ lw_all := lw_g (lw_at lw_m1 54 rfl) rfl
theorem q132 : (Jvm.Cond.instanceMethod ({ cls := "DatedContacts$Shelf", name := "<init>", desc := "()V" } : Jvm.MethodName)) ∈ lw_all := lw_g (lw_at lw_m1 56 rfl) rfl
theorem q133 : (Jvm.Cond.code ({ cls := "DatedContacts$Shelf", name := "<init>", desc := "()V" } : Jvm.MethodName) prog_14_method_1_code (1 : Nat) (Option.none : Option Jvm.ClassFile.FieldType)) ∈ lw_all := lw_g (lw_at lw_m1 57 rfl) rfl
theorem q134 : (Jvm.Cond.methodLink "DatedContacts$Shelf" (1 : Nat) ({ cls := "java/lang/Object", name := "<init>", desc := "()V" } : Jvm.MethodName)) ∈ lw_all := lw_g (lw_at lw_m1 58 rfl) rfl
theorem q135 : (Jvm.Cond.fieldLink "DatedContacts$Shelf" (7 : Nat) "DatedContacts$Shelf" "held" "Ljava/lang/Object;") ∈ lw_all := lw_g (lw_at lw_m1 59 rfl) rfl
theorem q137 : (Jvm.Cond.lays "DatedContacts$Shelf" "DatedContacts$Shelf" "held" "Ljava/lang/Object;") ∈ lw_all := lw_g (lw_at lw_m1 61 rfl) rfl
theorem q138 : (Jvm.Cond.soleField "DatedContacts$Shelf" "held") ∈ lw_all := lw_g (lw_at lw_m1 62 rfl) rfl
theorem q139 : (Jvm.Cond.superclass "DatedContacts$Shelf" "java/lang/Object") ∈ lw_all := lw_g (lw_at lw_m1 63 rfl) rfl
theorem q469 : (Jvm.Cond.privateMethod ({ cls := "DatedContacts$Shelf", name := "put", desc := "(II)I" } : Jvm.MethodName)) ∈ lw_tbl := lw_at lw_m2 153 rfl
theorem q470 : (Jvm.Cond.instanceMethod ({ cls := "DatedContacts$Shelf", name := "put", desc := "(II)I" } : Jvm.MethodName)) ∈ lw_all := lw_g (lw_at lw_m2 154 rfl) rfl
theorem q471 : (Jvm.Cond.code ({ cls := "DatedContacts$Shelf", name := "put", desc := "(II)I" } : Jvm.MethodName) prog_14_method_4_code (3 : Nat) (Option.some Jvm.ClassFile.FieldType.int)) ∈ lw_all := lw_g (lw_at lw_m2 155 rfl) rfl
theorem q472 : (Jvm.Cond.classLink "DatedContacts$Shelf" (13 : Nat) "[B") ∈ lw_all := lw_g (lw_at lw_m2 156 rfl) rfl
theorem q473 : (Jvm.Cond.classLink "DatedContacts$Shelf" (15 : Nat) "[S") ∈ lw_all := lw_g (lw_at lw_m2 157 rfl) rfl
theorem q474 : (Jvm.Cond.classLink "DatedContacts$Shelf" (17 : Nat) "[I") ∈ lw_all := lw_g (lw_at lw_m2 158 rfl) rfl
theorem q475 : (Jvm.Cond.methodLink "DatedContacts$Shelf" (19 : Nat) ({ cls := "DatedContacts$Shelf", name := "at", desc := "(I)I" } : Jvm.MethodName)) ∈ lw_all := lw_g (lw_at lw_m2 159 rfl) rfl
theorem q476 : (Jvm.Cond.privateMethod ({ cls := "DatedContacts$Shelf", name := "at", desc := "(I)I" } : Jvm.MethodName)) ∈ lw_tbl := lw_at lw_m2 160 rfl
theorem q477 : (Jvm.Cond.instanceMethod ({ cls := "DatedContacts$Shelf", name := "at", desc := "(I)I" } : Jvm.MethodName)) ∈ lw_all := lw_g (lw_at lw_m2 161 rfl) rfl
theorem q478 : (Jvm.Cond.code ({ cls := "DatedContacts$Shelf", name := "at", desc := "(I)I" } : Jvm.MethodName) prog_14_method_3_code (2 : Nat) (Option.some Jvm.ClassFile.FieldType.int)) ∈ lw_all := lw_g (lw_at lw_m2 162 rfl) rfl
theorem q506 : (Jvm.Cond.privateMethod ({ cls := "DatedContacts$Shelf", name := "many", desc := "()I" } : Jvm.MethodName)) ∈ lw_tbl := lw_at lw_m2 190 rfl
theorem q507 : (Jvm.Cond.instanceMethod ({ cls := "DatedContacts$Shelf", name := "many", desc := "()I" } : Jvm.MethodName)) ∈ lw_all := lw_g (lw_at lw_m2 191 rfl) rfl
theorem q508 : (Jvm.Cond.code ({ cls := "DatedContacts$Shelf", name := "many", desc := "()I" } : Jvm.MethodName) prog_14_method_2_code (1 : Nat) (Option.some Jvm.ClassFile.FieldType.int)) ∈ lw_all := lw_g (lw_at lw_m2 192 rfl) rfl
theorem in_X1 : ∀ w ∈ wsX10, w ∈ lw_all := lw_in wsX10 [137] (by decide +kernel) (by decide +kernel)
/-! DatedContacts$Net -/
set_option maxRecDepth 100000
def RX2 : String := "DatedContacts$Net"
def TX2 : u_T := fun k => match k with
  | 0 => ("DatedContacts$Net", "persons", "I", false)
  | 1 => ("DatedContacts$Net", "contacts", "I", false)
  | 2 => ("DatedContacts$Net", "low", "I", false)
  | 3 => ("DatedContacts$Net", "high", "I", false)
  | 4 => ("DatedContacts$Net", "person", "[LDatedContacts$Person;", true)
  | 5 => ("DatedContacts$Net", "ill", "[I", true)
  | 6 => ("DatedContacts$Net", "a", "[I", true)
  | 7 => ("DatedContacts$Net", "b", "[I", true)
  | 8 => ("DatedContacts$Net", "day", "[I", true)
  | _ => ("DatedContacts$Net", "window", "[LDatedContacts$Window;", true)
def tyX2 : Nat → FieldType := fun k => match k with
  | 0 => .int
  | 1 => .int
  | 2 => .int
  | 3 => .int
  | 4 => .array (.object "DatedContacts$Person")
  | 5 => .array .int
  | 6 => .array .int
  | 7 => .array .int
  | 8 => .array .int
  | _ => .array (.object "DatedContacts$Window")
abbrev wsX20 : List Cond := u_ws RX2 TX2 10
theorem nmX2 : ∀ a, a < 10 → ∀ b, b < 10 → a ≠ b → (TX2 a).2.1 ≠ (TX2 b).2.1 := by decide +kernel
theorem tyX2_ok : ∀ k, k < 10 → parseFieldDescriptor (TX2 k).2.2.1 = some (tyX2 k) := by decide +kernel
abbrev cX2_init : ByteArray := prog_9_method_1_code
def yX2_init : MethodName := ⟨RX2, "<init>", "()V"⟩
def dkwX2_init_3 : List UInt8 := [167, 255, 240, 177]
abbrev dktX2_init_3 : List UInt8 := dkwX2_init_3 ++ []
def dkwX2_init_2 : List UInt8 := [189, 0, 30, 181, 0, 32, 3, 60, 27, 16, 9, 162, 0, 16, 42, 180, 0, 17, 27, 2, 79, 132, 1, 1]
abbrev dktX2_init_2 : List UInt8 := dkwX2_init_2 ++ dktX2_init_3
def dkwX2_init_1 : List UInt8 := [188, 10, 181, 0, 21, 42, 16, 10, 188, 10, 181, 0, 24, 42, 16, 10, 188, 10, 181, 0, 27, 42, 16, 9]
abbrev dktX2_init_1 : List UInt8 := dkwX2_init_1 ++ dktX2_init_2
def dkwX2_init_0 : List UInt8 := [42, 183, 0, 3, 42, 16, 9, 189, 0, 9, 181, 0, 11, 42, 16, 9, 188, 10, 181, 0, 17, 42, 16, 10]
abbrev dktX2_init_0 : List UInt8 := dkwX2_init_0 ++ dktX2_init_1
theorem dksX2_init_0 : cX2_init.data.toList.drop 0 = dktX2_init_0 := by decide +kernel
theorem dksX2_init_1 : cX2_init.data.toList.drop 24 = dktX2_init_1 := dk_seg dksX2_init_0 24 rfl rfl
theorem dksX2_init_2 : cX2_init.data.toList.drop 48 = dktX2_init_2 := dk_seg dksX2_init_1 24 rfl rfl
theorem dksX2_init_3 : cX2_init.data.toList.drop 72 = dktX2_init_3 := dk_seg dksX2_init_2 24 rfl rfl
theorem dX2_init_0 : decode cX2_init 0 = .ok (.aload_n 0, 1) := dk_42 (dk_at dksX2_init_0 0 rfl rfl)
theorem dX2_init_1 : decode cX2_init 1 = .ok (.invokespecial 3, 3) := dk_183 0 3 (dk_at dksX2_init_0 1 rfl rfl)
theorem dX2_init_4 : decode cX2_init 4 = .ok (.aload_n 0, 1) := dk_42 (dk_at dksX2_init_0 4 rfl rfl)
theorem dX2_init_5 : decode cX2_init 5 = .ok (.bipush 9, 2) := dk_16 9 (dk_at dksX2_init_0 5 rfl rfl)
theorem dX2_init_7 : decode cX2_init 7 = .ok (.anewarray 9, 3) := dk_189 0 9 (dk_at dksX2_init_0 7 rfl rfl)
theorem dX2_init_10 : decode cX2_init 10 = .ok (.putfield 11, 3) := dk_181 0 11 (dk_at dksX2_init_0 10 rfl rfl)
theorem dX2_init_13 : decode cX2_init 13 = .ok (.aload_n 0, 1) := dk_42 (dk_at dksX2_init_0 13 rfl rfl)
theorem dX2_init_14 : decode cX2_init 14 = .ok (.bipush 9, 2) := dk_16 9 (dk_at dksX2_init_0 14 rfl rfl)
theorem dX2_init_16 : decode cX2_init 16 = .ok (.newarray .int, 2) := dk_188_10 (dk_at dksX2_init_0 16 rfl rfl)
theorem dX2_init_18 : decode cX2_init 18 = .ok (.putfield 17, 3) := dk_181 0 17 (dk_at dksX2_init_0 18 rfl rfl)
theorem dX2_init_21 : decode cX2_init 21 = .ok (.aload_n 0, 1) := dk_42 (dk_at dksX2_init_0 21 rfl rfl)
theorem dX2_init_22 : decode cX2_init 22 = .ok (.bipush 10, 2) := dk_16 10 (dk_at dksX2_init_0 22 rfl rfl)
theorem dX2_init_24 : decode cX2_init 24 = .ok (.newarray .int, 2) := dk_188_10 (dk_at dksX2_init_1 0 rfl rfl)
theorem dX2_init_26 : decode cX2_init 26 = .ok (.putfield 21, 3) := dk_181 0 21 (dk_at dksX2_init_1 2 rfl rfl)
theorem dX2_init_29 : decode cX2_init 29 = .ok (.aload_n 0, 1) := dk_42 (dk_at dksX2_init_1 5 rfl rfl)
theorem dX2_init_30 : decode cX2_init 30 = .ok (.bipush 10, 2) := dk_16 10 (dk_at dksX2_init_1 6 rfl rfl)
theorem dX2_init_32 : decode cX2_init 32 = .ok (.newarray .int, 2) := dk_188_10 (dk_at dksX2_init_1 8 rfl rfl)
theorem dX2_init_34 : decode cX2_init 34 = .ok (.putfield 24, 3) := dk_181 0 24 (dk_at dksX2_init_1 10 rfl rfl)
theorem dX2_init_37 : decode cX2_init 37 = .ok (.aload_n 0, 1) := dk_42 (dk_at dksX2_init_1 13 rfl rfl)
theorem dX2_init_38 : decode cX2_init 38 = .ok (.bipush 10, 2) := dk_16 10 (dk_at dksX2_init_1 14 rfl rfl)
theorem dX2_init_40 : decode cX2_init 40 = .ok (.newarray .int, 2) := dk_188_10 (dk_at dksX2_init_1 16 rfl rfl)
theorem dX2_init_42 : decode cX2_init 42 = .ok (.putfield 27, 3) := dk_181 0 27 (dk_at dksX2_init_1 18 rfl rfl)
theorem dX2_init_45 : decode cX2_init 45 = .ok (.aload_n 0, 1) := dk_42 (dk_at dksX2_init_1 21 rfl rfl)
theorem dX2_init_46 : decode cX2_init 46 = .ok (.bipush 9, 2) := dk_16 9 (dk_at dksX2_init_1 22 rfl rfl)
theorem dX2_init_48 : decode cX2_init 48 = .ok (.anewarray 30, 3) := dk_189 0 30 (dk_at dksX2_init_2 0 rfl rfl)
theorem dX2_init_51 : decode cX2_init 51 = .ok (.putfield 32, 3) := dk_181 0 32 (dk_at dksX2_init_2 3 rfl rfl)
theorem dX2_init_54 : decode cX2_init 54 = .ok (.iconst 0, 1) := dk_3 (dk_at dksX2_init_2 6 rfl rfl)
theorem dX2_init_55 : decode cX2_init 55 = .ok (.istore_n 1, 1) := dk_60 (dk_at dksX2_init_2 7 rfl rfl)
theorem dX2_init_56 : decode cX2_init 56 = .ok (.iload_n 1, 1) := dk_27 (dk_at dksX2_init_2 8 rfl rfl)
theorem dX2_init_57 : decode cX2_init 57 = .ok (.bipush 9, 2) := dk_16 9 (dk_at dksX2_init_2 9 rfl rfl)
theorem dX2_init_59 : decode cX2_init 59 = .ok (.if_icmp .ge 16, 3) := dk_162 0 16 (dk_at dksX2_init_2 11 rfl rfl)
theorem dX2_init_62 : decode cX2_init 62 = .ok (.aload_n 0, 1) := dk_42 (dk_at dksX2_init_2 14 rfl rfl)
theorem dX2_init_63 : decode cX2_init 63 = .ok (.getfield 17, 3) := dk_180 0 17 (dk_at dksX2_init_2 15 rfl rfl)
theorem dX2_init_66 : decode cX2_init 66 = .ok (.iload_n 1, 1) := dk_27 (dk_at dksX2_init_2 18 rfl rfl)
theorem dX2_init_67 : decode cX2_init 67 = .ok (.iconst (-1), 1) := dk_2 (dk_at dksX2_init_2 19 rfl rfl)
theorem dX2_init_68 : decode cX2_init 68 = .ok (.iastore, 1) := dk_79 (dk_at dksX2_init_2 20 rfl rfl)
theorem dX2_init_69 : decode cX2_init 69 = .ok (.iinc 1 1, 3) := dk_132 1 1 (dk_at dksX2_init_2 21 rfl rfl)
theorem dX2_init_72 : decode cX2_init 72 = .ok (.goto (-16), 3) := dk_167 255 240 (dk_at dksX2_init_3 0 rfl rfl)
theorem dX2_init_75 : decode cX2_init 75 = .ok (.return_, 1) := dk_177 (dk_at dksX2_init_3 3 rfl rfl)
abbrev cX2_stirred : ByteArray := prog_9_method_3_code
def yX2_stirred : MethodName := ⟨RX2, "stirred", "()LDatedContacts$Net;"⟩
def dkwX2_stirred_2 : List UInt8 := [167, 255, 229, 42, 176]
abbrev dktX2_stirred_2 : List UInt8 := dkwX2_stirred_2 ++ []
def dkwX2_stirred_1 : List UInt8 := [162, 0, 25, 42, 180, 0, 32, 28, 42, 180, 0, 11, 28, 50, 43, 182, 0, 60, 83, 132, 2, 1]
abbrev dktX2_stirred_1 : List UInt8 := dkwX2_stirred_1 ++ dktX2_stirred_2
def dkwX2_stirred_0 : List UInt8 := [187, 0, 55, 89, 42, 180, 0, 43, 42, 180, 0, 46, 183, 0, 57, 76, 3, 61, 28, 42, 180, 0, 36]
abbrev dktX2_stirred_0 : List UInt8 := dkwX2_stirred_0 ++ dktX2_stirred_1
theorem dksX2_stirred_0 : cX2_stirred.data.toList.drop 0 = dktX2_stirred_0 := by decide +kernel
theorem dksX2_stirred_1 : cX2_stirred.data.toList.drop 23 = dktX2_stirred_1 := dk_seg dksX2_stirred_0 23 rfl rfl
theorem dksX2_stirred_2 : cX2_stirred.data.toList.drop 45 = dktX2_stirred_2 := dk_seg dksX2_stirred_1 22 rfl rfl
theorem dX2_stirred_0 : decode cX2_stirred 0 = .ok (.new 55, 3) := dk_187 0 55 (dk_at dksX2_stirred_0 0 rfl rfl)
theorem dX2_stirred_3 : decode cX2_stirred 3 = .ok (.dup, 1) := dk_89 (dk_at dksX2_stirred_0 3 rfl rfl)
theorem dX2_stirred_4 : decode cX2_stirred 4 = .ok (.aload_n 0, 1) := dk_42 (dk_at dksX2_stirred_0 4 rfl rfl)
theorem dX2_stirred_5 : decode cX2_stirred 5 = .ok (.getfield 43, 3) := dk_180 0 43 (dk_at dksX2_stirred_0 5 rfl rfl)
theorem dX2_stirred_8 : decode cX2_stirred 8 = .ok (.aload_n 0, 1) := dk_42 (dk_at dksX2_stirred_0 8 rfl rfl)
theorem dX2_stirred_9 : decode cX2_stirred 9 = .ok (.getfield 46, 3) := dk_180 0 46 (dk_at dksX2_stirred_0 9 rfl rfl)
theorem dX2_stirred_12 : decode cX2_stirred 12 = .ok (.invokespecial 57, 3) := dk_183 0 57 (dk_at dksX2_stirred_0 12 rfl rfl)
theorem dX2_stirred_15 : decode cX2_stirred 15 = .ok (.astore_n 1, 1) := dk_76 (dk_at dksX2_stirred_0 15 rfl rfl)
theorem dX2_stirred_16 : decode cX2_stirred 16 = .ok (.iconst 0, 1) := dk_3 (dk_at dksX2_stirred_0 16 rfl rfl)
theorem dX2_stirred_17 : decode cX2_stirred 17 = .ok (.istore_n 2, 1) := dk_61 (dk_at dksX2_stirred_0 17 rfl rfl)
theorem dX2_stirred_18 : decode cX2_stirred 18 = .ok (.iload_n 2, 1) := dk_28 (dk_at dksX2_stirred_0 18 rfl rfl)
theorem dX2_stirred_19 : decode cX2_stirred 19 = .ok (.aload_n 0, 1) := dk_42 (dk_at dksX2_stirred_0 19 rfl rfl)
theorem dX2_stirred_20 : decode cX2_stirred 20 = .ok (.getfield 36, 3) := dk_180 0 36 (dk_at dksX2_stirred_0 20 rfl rfl)
theorem dX2_stirred_23 : decode cX2_stirred 23 = .ok (.if_icmp .ge 25, 3) := dk_162 0 25 (dk_at dksX2_stirred_1 0 rfl rfl)
theorem dX2_stirred_26 : decode cX2_stirred 26 = .ok (.aload_n 0, 1) := dk_42 (dk_at dksX2_stirred_1 3 rfl rfl)
theorem dX2_stirred_27 : decode cX2_stirred 27 = .ok (.getfield 32, 3) := dk_180 0 32 (dk_at dksX2_stirred_1 4 rfl rfl)
theorem dX2_stirred_30 : decode cX2_stirred 30 = .ok (.iload_n 2, 1) := dk_28 (dk_at dksX2_stirred_1 7 rfl rfl)
theorem dX2_stirred_31 : decode cX2_stirred 31 = .ok (.aload_n 0, 1) := dk_42 (dk_at dksX2_stirred_1 8 rfl rfl)
theorem dX2_stirred_32 : decode cX2_stirred 32 = .ok (.getfield 11, 3) := dk_180 0 11 (dk_at dksX2_stirred_1 9 rfl rfl)
theorem dX2_stirred_35 : decode cX2_stirred 35 = .ok (.iload_n 2, 1) := dk_28 (dk_at dksX2_stirred_1 12 rfl rfl)
theorem dX2_stirred_36 : decode cX2_stirred 36 = .ok (.aaload, 1) := dk_50 (dk_at dksX2_stirred_1 13 rfl rfl)
theorem dX2_stirred_37 : decode cX2_stirred 37 = .ok (.aload_n 1, 1) := dk_43 (dk_at dksX2_stirred_1 14 rfl rfl)
theorem dX2_stirred_38 : decode cX2_stirred 38 = .ok (.invokevirtual 60, 3) := dk_182 0 60 (dk_at dksX2_stirred_1 15 rfl rfl)
theorem dX2_stirred_41 : decode cX2_stirred 41 = .ok (.aastore, 1) := dk_83 (dk_at dksX2_stirred_1 18 rfl rfl)
theorem dX2_stirred_42 : decode cX2_stirred 42 = .ok (.iinc 2 1, 3) := dk_132 2 1 (dk_at dksX2_stirred_1 19 rfl rfl)
theorem dX2_stirred_45 : decode cX2_stirred 45 = .ok (.goto (-27), 3) := dk_167 255 229 (dk_at dksX2_stirred_2 0 rfl rfl)
theorem dX2_stirred_48 : decode cX2_stirred 48 = .ok (.aload_n 0, 1) := dk_42 (dk_at dksX2_stirred_2 3 rfl rfl)
theorem dX2_stirred_49 : decode cX2_stirred 49 = .ok (.areturn, 1) := dk_176 (dk_at dksX2_stirred_2 4 rfl rfl)
abbrev cX2_become : ByteArray := prog_9_method_2_code
def yX2_become : MethodName := ⟨RX2, "become", "(LDatedContacts$Net;)LDatedContacts$Net;"⟩
def dkwX2_become_5 : List UInt8 := [184, 0, 49, 42, 176]
abbrev dktX2_become_5 : List UInt8 := dkwX2_become_5 ++ []
def dkwX2_become_4 : List UInt8 := [3, 42, 180, 0, 27, 3, 16, 10, 184, 0, 49, 43, 180, 0, 32, 3, 42, 180, 0, 32, 3, 16, 9]
abbrev dktX2_become_4 : List UInt8 := dkwX2_become_4 ++ dktX2_become_5
def dkwX2_become_3 : List UInt8 := [16, 10, 184, 0, 49, 43, 180, 0, 24, 3, 42, 180, 0, 24, 3, 16, 10, 184, 0, 49, 43, 180, 0, 27]
abbrev dktX2_become_3 : List UInt8 := dkwX2_become_3 ++ dktX2_become_4
def dkwX2_become_2 : List UInt8 := [180, 0, 17, 3, 42, 180, 0, 17, 3, 16, 9, 184, 0, 49, 43, 180, 0, 21, 3, 42, 180, 0, 21, 3]
abbrev dktX2_become_2 : List UInt8 := dkwX2_become_2 ++ dktX2_become_3
def dkwX2_become_1 : List UInt8 := [42, 43, 180, 0, 46, 181, 0, 46, 43, 180, 0, 11, 3, 42, 180, 0, 11, 3, 16, 9, 184, 0, 49, 43]
abbrev dktX2_become_1 : List UInt8 := dkwX2_become_1 ++ dktX2_become_2
def dkwX2_become_0 : List UInt8 := [42, 43, 180, 0, 36, 181, 0, 36, 42, 43, 180, 0, 40, 181, 0, 40, 42, 43, 180, 0, 43, 181, 0, 43]
abbrev dktX2_become_0 : List UInt8 := dkwX2_become_0 ++ dktX2_become_1
theorem dksX2_become_0 : cX2_become.data.toList.drop 0 = dktX2_become_0 := by decide +kernel
theorem dksX2_become_1 : cX2_become.data.toList.drop 24 = dktX2_become_1 := dk_seg dksX2_become_0 24 rfl rfl
theorem dksX2_become_2 : cX2_become.data.toList.drop 48 = dktX2_become_2 := dk_seg dksX2_become_1 24 rfl rfl
theorem dksX2_become_3 : cX2_become.data.toList.drop 72 = dktX2_become_3 := dk_seg dksX2_become_2 24 rfl rfl
theorem dksX2_become_4 : cX2_become.data.toList.drop 96 = dktX2_become_4 := dk_seg dksX2_become_3 24 rfl rfl
theorem dksX2_become_5 : cX2_become.data.toList.drop 119 = dktX2_become_5 := dk_seg dksX2_become_4 23 rfl rfl
theorem dX2_become_0 : decode cX2_become 0 = .ok (.aload_n 0, 1) := dk_42 (dk_at dksX2_become_0 0 rfl rfl)
theorem dX2_become_1 : decode cX2_become 1 = .ok (.aload_n 1, 1) := dk_43 (dk_at dksX2_become_0 1 rfl rfl)
theorem dX2_become_2 : decode cX2_become 2 = .ok (.getfield 36, 3) := dk_180 0 36 (dk_at dksX2_become_0 2 rfl rfl)
theorem dX2_become_5 : decode cX2_become 5 = .ok (.putfield 36, 3) := dk_181 0 36 (dk_at dksX2_become_0 5 rfl rfl)
theorem dX2_become_8 : decode cX2_become 8 = .ok (.aload_n 0, 1) := dk_42 (dk_at dksX2_become_0 8 rfl rfl)
theorem dX2_become_9 : decode cX2_become 9 = .ok (.aload_n 1, 1) := dk_43 (dk_at dksX2_become_0 9 rfl rfl)
theorem dX2_become_10 : decode cX2_become 10 = .ok (.getfield 40, 3) := dk_180 0 40 (dk_at dksX2_become_0 10 rfl rfl)
theorem dX2_become_13 : decode cX2_become 13 = .ok (.putfield 40, 3) := dk_181 0 40 (dk_at dksX2_become_0 13 rfl rfl)
theorem dX2_become_16 : decode cX2_become 16 = .ok (.aload_n 0, 1) := dk_42 (dk_at dksX2_become_0 16 rfl rfl)
theorem dX2_become_17 : decode cX2_become 17 = .ok (.aload_n 1, 1) := dk_43 (dk_at dksX2_become_0 17 rfl rfl)
theorem dX2_become_18 : decode cX2_become 18 = .ok (.getfield 43, 3) := dk_180 0 43 (dk_at dksX2_become_0 18 rfl rfl)
theorem dX2_become_21 : decode cX2_become 21 = .ok (.putfield 43, 3) := dk_181 0 43 (dk_at dksX2_become_0 21 rfl rfl)
theorem dX2_become_24 : decode cX2_become 24 = .ok (.aload_n 0, 1) := dk_42 (dk_at dksX2_become_1 0 rfl rfl)
theorem dX2_become_25 : decode cX2_become 25 = .ok (.aload_n 1, 1) := dk_43 (dk_at dksX2_become_1 1 rfl rfl)
theorem dX2_become_26 : decode cX2_become 26 = .ok (.getfield 46, 3) := dk_180 0 46 (dk_at dksX2_become_1 2 rfl rfl)
theorem dX2_become_29 : decode cX2_become 29 = .ok (.putfield 46, 3) := dk_181 0 46 (dk_at dksX2_become_1 5 rfl rfl)
theorem dX2_become_32 : decode cX2_become 32 = .ok (.aload_n 1, 1) := dk_43 (dk_at dksX2_become_1 8 rfl rfl)
theorem dX2_become_33 : decode cX2_become 33 = .ok (.getfield 11, 3) := dk_180 0 11 (dk_at dksX2_become_1 9 rfl rfl)
theorem dX2_become_36 : decode cX2_become 36 = .ok (.iconst 0, 1) := dk_3 (dk_at dksX2_become_1 12 rfl rfl)
theorem dX2_become_37 : decode cX2_become 37 = .ok (.aload_n 0, 1) := dk_42 (dk_at dksX2_become_1 13 rfl rfl)
theorem dX2_become_38 : decode cX2_become 38 = .ok (.getfield 11, 3) := dk_180 0 11 (dk_at dksX2_become_1 14 rfl rfl)
theorem dX2_become_41 : decode cX2_become 41 = .ok (.iconst 0, 1) := dk_3 (dk_at dksX2_become_1 17 rfl rfl)
theorem dX2_become_42 : decode cX2_become 42 = .ok (.bipush 9, 2) := dk_16 9 (dk_at dksX2_become_1 18 rfl rfl)
theorem dX2_become_44 : decode cX2_become 44 = .ok (.invokestatic 49, 3) := dk_184 0 49 (dk_at dksX2_become_1 20 rfl rfl)
theorem dX2_become_47 : decode cX2_become 47 = .ok (.aload_n 1, 1) := dk_43 (dk_at dksX2_become_1 23 rfl rfl)
theorem dX2_become_48 : decode cX2_become 48 = .ok (.getfield 17, 3) := dk_180 0 17 (dk_at dksX2_become_2 0 rfl rfl)
theorem dX2_become_51 : decode cX2_become 51 = .ok (.iconst 0, 1) := dk_3 (dk_at dksX2_become_2 3 rfl rfl)
theorem dX2_become_52 : decode cX2_become 52 = .ok (.aload_n 0, 1) := dk_42 (dk_at dksX2_become_2 4 rfl rfl)
theorem dX2_become_53 : decode cX2_become 53 = .ok (.getfield 17, 3) := dk_180 0 17 (dk_at dksX2_become_2 5 rfl rfl)
theorem dX2_become_56 : decode cX2_become 56 = .ok (.iconst 0, 1) := dk_3 (dk_at dksX2_become_2 8 rfl rfl)
theorem dX2_become_57 : decode cX2_become 57 = .ok (.bipush 9, 2) := dk_16 9 (dk_at dksX2_become_2 9 rfl rfl)
theorem dX2_become_59 : decode cX2_become 59 = .ok (.invokestatic 49, 3) := dk_184 0 49 (dk_at dksX2_become_2 11 rfl rfl)
theorem dX2_become_62 : decode cX2_become 62 = .ok (.aload_n 1, 1) := dk_43 (dk_at dksX2_become_2 14 rfl rfl)
theorem dX2_become_63 : decode cX2_become 63 = .ok (.getfield 21, 3) := dk_180 0 21 (dk_at dksX2_become_2 15 rfl rfl)
theorem dX2_become_66 : decode cX2_become 66 = .ok (.iconst 0, 1) := dk_3 (dk_at dksX2_become_2 18 rfl rfl)
theorem dX2_become_67 : decode cX2_become 67 = .ok (.aload_n 0, 1) := dk_42 (dk_at dksX2_become_2 19 rfl rfl)
theorem dX2_become_68 : decode cX2_become 68 = .ok (.getfield 21, 3) := dk_180 0 21 (dk_at dksX2_become_2 20 rfl rfl)
theorem dX2_become_71 : decode cX2_become 71 = .ok (.iconst 0, 1) := dk_3 (dk_at dksX2_become_2 23 rfl rfl)
theorem dX2_become_72 : decode cX2_become 72 = .ok (.bipush 10, 2) := dk_16 10 (dk_at dksX2_become_3 0 rfl rfl)
theorem dX2_become_74 : decode cX2_become 74 = .ok (.invokestatic 49, 3) := dk_184 0 49 (dk_at dksX2_become_3 2 rfl rfl)
theorem dX2_become_77 : decode cX2_become 77 = .ok (.aload_n 1, 1) := dk_43 (dk_at dksX2_become_3 5 rfl rfl)
theorem dX2_become_78 : decode cX2_become 78 = .ok (.getfield 24, 3) := dk_180 0 24 (dk_at dksX2_become_3 6 rfl rfl)
theorem dX2_become_81 : decode cX2_become 81 = .ok (.iconst 0, 1) := dk_3 (dk_at dksX2_become_3 9 rfl rfl)
theorem dX2_become_82 : decode cX2_become 82 = .ok (.aload_n 0, 1) := dk_42 (dk_at dksX2_become_3 10 rfl rfl)
theorem dX2_become_83 : decode cX2_become 83 = .ok (.getfield 24, 3) := dk_180 0 24 (dk_at dksX2_become_3 11 rfl rfl)
theorem dX2_become_86 : decode cX2_become 86 = .ok (.iconst 0, 1) := dk_3 (dk_at dksX2_become_3 14 rfl rfl)
theorem dX2_become_87 : decode cX2_become 87 = .ok (.bipush 10, 2) := dk_16 10 (dk_at dksX2_become_3 15 rfl rfl)
theorem dX2_become_89 : decode cX2_become 89 = .ok (.invokestatic 49, 3) := dk_184 0 49 (dk_at dksX2_become_3 17 rfl rfl)
theorem dX2_become_92 : decode cX2_become 92 = .ok (.aload_n 1, 1) := dk_43 (dk_at dksX2_become_3 20 rfl rfl)
theorem dX2_become_93 : decode cX2_become 93 = .ok (.getfield 27, 3) := dk_180 0 27 (dk_at dksX2_become_3 21 rfl rfl)
theorem dX2_become_96 : decode cX2_become 96 = .ok (.iconst 0, 1) := dk_3 (dk_at dksX2_become_4 0 rfl rfl)
theorem dX2_become_97 : decode cX2_become 97 = .ok (.aload_n 0, 1) := dk_42 (dk_at dksX2_become_4 1 rfl rfl)
theorem dX2_become_98 : decode cX2_become 98 = .ok (.getfield 27, 3) := dk_180 0 27 (dk_at dksX2_become_4 2 rfl rfl)
theorem dX2_become_101 : decode cX2_become 101 = .ok (.iconst 0, 1) := dk_3 (dk_at dksX2_become_4 5 rfl rfl)
theorem dX2_become_102 : decode cX2_become 102 = .ok (.bipush 10, 2) := dk_16 10 (dk_at dksX2_become_4 6 rfl rfl)
theorem dX2_become_104 : decode cX2_become 104 = .ok (.invokestatic 49, 3) := dk_184 0 49 (dk_at dksX2_become_4 8 rfl rfl)
theorem dX2_become_107 : decode cX2_become 107 = .ok (.aload_n 1, 1) := dk_43 (dk_at dksX2_become_4 11 rfl rfl)
theorem dX2_become_108 : decode cX2_become 108 = .ok (.getfield 32, 3) := dk_180 0 32 (dk_at dksX2_become_4 12 rfl rfl)
theorem dX2_become_111 : decode cX2_become 111 = .ok (.iconst 0, 1) := dk_3 (dk_at dksX2_become_4 15 rfl rfl)
theorem dX2_become_112 : decode cX2_become 112 = .ok (.aload_n 0, 1) := dk_42 (dk_at dksX2_become_4 16 rfl rfl)
theorem dX2_become_113 : decode cX2_become 113 = .ok (.getfield 32, 3) := dk_180 0 32 (dk_at dksX2_become_4 17 rfl rfl)
theorem dX2_become_116 : decode cX2_become 116 = .ok (.iconst 0, 1) := dk_3 (dk_at dksX2_become_4 20 rfl rfl)
theorem dX2_become_117 : decode cX2_become 117 = .ok (.bipush 9, 2) := dk_16 9 (dk_at dksX2_become_4 21 rfl rfl)
theorem dX2_become_119 : decode cX2_become 119 = .ok (.invokestatic 49, 3) := dk_184 0 49 (dk_at dksX2_become_5 0 rfl rfl)
theorem dX2_become_122 : decode cX2_become 122 = .ok (.aload_n 0, 1) := dk_42 (dk_at dksX2_become_5 3 rfl rfl)
theorem dX2_become_123 : decode cX2_become 123 = .ok (.areturn, 1) := dk_176 (dk_at dksX2_become_5 4 rfl rfl)
abbrev cX2_window : ByteArray := prog_9_method_4_code
def yX2_window : MethodName := ⟨RX2, "window", "(I)LDatedContacts$Window;"⟩
def dkwX2_window_0 : List UInt8 := [42, 180, 0, 32, 27, 50, 176]
abbrev dktX2_window_0 : List UInt8 := dkwX2_window_0 ++ []
theorem dksX2_window_0 : cX2_window.data.toList.drop 0 = dktX2_window_0 := by decide +kernel
theorem dX2_window_0 : decode cX2_window 0 = .ok (.aload_n 0, 1) := dk_42 (dk_at dksX2_window_0 0 rfl rfl)
theorem dX2_window_1 : decode cX2_window 1 = .ok (.getfield 32, 3) := dk_180 0 32 (dk_at dksX2_window_0 1 rfl rfl)
theorem dX2_window_4 : decode cX2_window 4 = .ok (.iload_n 1, 1) := dk_27 (dk_at dksX2_window_0 4 rfl rfl)
theorem dX2_window_5 : decode cX2_window 5 = .ok (.aaload, 1) := dk_50 (dk_at dksX2_window_0 5 rfl rfl)
theorem dX2_window_6 : decode cX2_window 6 = .ok (.areturn, 1) := dk_176 (dk_at dksX2_window_0 6 rfl rfl)
abbrev cX2_of : ByteArray := prog_9_method_6_code
def yX2_of : MethodName := ⟨RX2, "of", "(I)I"⟩
def dkwX2_of_2 : List UInt8 := [28, 172]
abbrev dktX2_of_2 : List UInt8 := dkwX2_of_2 ++ []
def dkwX2_of_1 : List UInt8 := [180, 0, 24, 29, 46, 27, 160, 0, 9, 4, 29, 120, 167, 0, 4, 3, 128, 61, 132, 3, 1, 167, 255, 215]
abbrev dktX2_of_1 : List UInt8 := dkwX2_of_1 ++ dktX2_of_2
def dkwX2_of_0 : List UInt8 := [3, 61, 3, 62, 29, 42, 180, 0, 40, 162, 0, 39, 28, 42, 180, 0, 21, 29, 46, 27, 159, 0, 13, 42]
abbrev dktX2_of_0 : List UInt8 := dkwX2_of_0 ++ dktX2_of_1
theorem dksX2_of_0 : cX2_of.data.toList.drop 0 = dktX2_of_0 := by decide +kernel
theorem dksX2_of_1 : cX2_of.data.toList.drop 24 = dktX2_of_1 := dk_seg dksX2_of_0 24 rfl rfl
theorem dksX2_of_2 : cX2_of.data.toList.drop 48 = dktX2_of_2 := dk_seg dksX2_of_1 24 rfl rfl
theorem dX2_of_0 : decode cX2_of 0 = .ok (.iconst 0, 1) := dk_3 (dk_at dksX2_of_0 0 rfl rfl)
theorem dX2_of_1 : decode cX2_of 1 = .ok (.istore_n 2, 1) := dk_61 (dk_at dksX2_of_0 1 rfl rfl)
theorem dX2_of_2 : decode cX2_of 2 = .ok (.iconst 0, 1) := dk_3 (dk_at dksX2_of_0 2 rfl rfl)
theorem dX2_of_3 : decode cX2_of 3 = .ok (.istore_n 3, 1) := dk_62 (dk_at dksX2_of_0 3 rfl rfl)
theorem dX2_of_4 : decode cX2_of 4 = .ok (.iload_n 3, 1) := dk_29 (dk_at dksX2_of_0 4 rfl rfl)
theorem dX2_of_5 : decode cX2_of 5 = .ok (.aload_n 0, 1) := dk_42 (dk_at dksX2_of_0 5 rfl rfl)
theorem dX2_of_6 : decode cX2_of 6 = .ok (.getfield 40, 3) := dk_180 0 40 (dk_at dksX2_of_0 6 rfl rfl)
theorem dX2_of_9 : decode cX2_of 9 = .ok (.if_icmp .ge 39, 3) := dk_162 0 39 (dk_at dksX2_of_0 9 rfl rfl)
theorem dX2_of_12 : decode cX2_of 12 = .ok (.iload_n 2, 1) := dk_28 (dk_at dksX2_of_0 12 rfl rfl)
theorem dX2_of_13 : decode cX2_of 13 = .ok (.aload_n 0, 1) := dk_42 (dk_at dksX2_of_0 13 rfl rfl)
theorem dX2_of_14 : decode cX2_of 14 = .ok (.getfield 21, 3) := dk_180 0 21 (dk_at dksX2_of_0 14 rfl rfl)
theorem dX2_of_17 : decode cX2_of 17 = .ok (.iload_n 3, 1) := dk_29 (dk_at dksX2_of_0 17 rfl rfl)
theorem dX2_of_18 : decode cX2_of 18 = .ok (.iaload, 1) := dk_46 (dk_at dksX2_of_0 18 rfl rfl)
theorem dX2_of_19 : decode cX2_of 19 = .ok (.iload_n 1, 1) := dk_27 (dk_at dksX2_of_0 19 rfl rfl)
theorem dX2_of_20 : decode cX2_of 20 = .ok (.if_icmp .eq 13, 3) := dk_159 0 13 (dk_at dksX2_of_0 20 rfl rfl)
theorem dX2_of_23 : decode cX2_of 23 = .ok (.aload_n 0, 1) := dk_42 (dk_at dksX2_of_0 23 rfl rfl)
theorem dX2_of_24 : decode cX2_of 24 = .ok (.getfield 24, 3) := dk_180 0 24 (dk_at dksX2_of_1 0 rfl rfl)
theorem dX2_of_27 : decode cX2_of 27 = .ok (.iload_n 3, 1) := dk_29 (dk_at dksX2_of_1 3 rfl rfl)
theorem dX2_of_28 : decode cX2_of 28 = .ok (.iaload, 1) := dk_46 (dk_at dksX2_of_1 4 rfl rfl)
theorem dX2_of_29 : decode cX2_of 29 = .ok (.iload_n 1, 1) := dk_27 (dk_at dksX2_of_1 5 rfl rfl)
theorem dX2_of_30 : decode cX2_of 30 = .ok (.if_icmp .ne 9, 3) := dk_160 0 9 (dk_at dksX2_of_1 6 rfl rfl)
theorem dX2_of_33 : decode cX2_of 33 = .ok (.iconst 1, 1) := dk_4 (dk_at dksX2_of_1 9 rfl rfl)
theorem dX2_of_34 : decode cX2_of 34 = .ok (.iload_n 3, 1) := dk_29 (dk_at dksX2_of_1 10 rfl rfl)
theorem dX2_of_35 : decode cX2_of 35 = .ok (.ishl, 1) := dk_120 (dk_at dksX2_of_1 11 rfl rfl)
theorem dX2_of_36 : decode cX2_of 36 = .ok (.goto 4, 3) := dk_167 0 4 (dk_at dksX2_of_1 12 rfl rfl)
theorem dX2_of_39 : decode cX2_of 39 = .ok (.iconst 0, 1) := dk_3 (dk_at dksX2_of_1 15 rfl rfl)
theorem dX2_of_40 : decode cX2_of 40 = .ok (.ior, 1) := dk_128 (dk_at dksX2_of_1 16 rfl rfl)
theorem dX2_of_41 : decode cX2_of 41 = .ok (.istore_n 2, 1) := dk_61 (dk_at dksX2_of_1 17 rfl rfl)
theorem dX2_of_42 : decode cX2_of 42 = .ok (.iinc 3 1, 3) := dk_132 3 1 (dk_at dksX2_of_1 18 rfl rfl)
theorem dX2_of_45 : decode cX2_of 45 = .ok (.goto (-41), 3) := dk_167 255 215 (dk_at dksX2_of_1 21 rfl rfl)
theorem dX2_of_48 : decode cX2_of 48 = .ok (.iload_n 2, 1) := dk_28 (dk_at dksX2_of_2 0 rfl rfl)
theorem dX2_of_49 : decode cX2_of 49 = .ok (.ireturn, 1) := dk_172 (dk_at dksX2_of_2 1 rfl rfl)
abbrev cX2_gives : ByteArray := prog_9_method_8_code
def yX2_gives : MethodName := ⟨RX2, "gives", "(III)Z"⟩
def dkwX2_gives_2 : List UInt8 := [153, 0, 7, 4, 167, 0, 4, 3, 172]
abbrev dktX2_gives_2 : List UInt8 := dkwX2_gives_2 ++ []
def dkwX2_gives_1 : List UInt8 := [154, 0, 5, 3, 172, 42, 180, 0, 32, 28, 50, 42, 180, 0, 27, 27, 46, 185, 0, 72, 2, 0, 29, 126]
abbrev dktX2_gives_1 : List UInt8 := dkwX2_gives_1 ++ dktX2_gives_2
def dkwX2_gives_0 : List UInt8 := [42, 180, 0, 32, 28, 50, 198, 0, 20, 42, 180, 0, 11, 42, 27, 28, 182, 0, 64, 50, 182, 0, 68]
abbrev dktX2_gives_0 : List UInt8 := dkwX2_gives_0 ++ dktX2_gives_1
theorem dksX2_gives_0 : cX2_gives.data.toList.drop 0 = dktX2_gives_0 := by decide +kernel
theorem dksX2_gives_1 : cX2_gives.data.toList.drop 23 = dktX2_gives_1 := dk_seg dksX2_gives_0 23 rfl rfl
theorem dksX2_gives_2 : cX2_gives.data.toList.drop 47 = dktX2_gives_2 := dk_seg dksX2_gives_1 24 rfl rfl
theorem dX2_gives_0 : decode cX2_gives 0 = .ok (.aload_n 0, 1) := dk_42 (dk_at dksX2_gives_0 0 rfl rfl)
theorem dX2_gives_1 : decode cX2_gives 1 = .ok (.getfield 32, 3) := dk_180 0 32 (dk_at dksX2_gives_0 1 rfl rfl)
theorem dX2_gives_4 : decode cX2_gives 4 = .ok (.iload_n 2, 1) := dk_28 (dk_at dksX2_gives_0 4 rfl rfl)
theorem dX2_gives_5 : decode cX2_gives 5 = .ok (.aaload, 1) := dk_50 (dk_at dksX2_gives_0 5 rfl rfl)
theorem dX2_gives_6 : decode cX2_gives 6 = .ok (.ifnull 20, 3) := dk_198 0 20 (dk_at dksX2_gives_0 6 rfl rfl)
theorem dX2_gives_9 : decode cX2_gives 9 = .ok (.aload_n 0, 1) := dk_42 (dk_at dksX2_gives_0 9 rfl rfl)
theorem dX2_gives_10 : decode cX2_gives 10 = .ok (.getfield 11, 3) := dk_180 0 11 (dk_at dksX2_gives_0 10 rfl rfl)
theorem dX2_gives_13 : decode cX2_gives 13 = .ok (.aload_n 0, 1) := dk_42 (dk_at dksX2_gives_0 13 rfl rfl)
theorem dX2_gives_14 : decode cX2_gives 14 = .ok (.iload_n 1, 1) := dk_27 (dk_at dksX2_gives_0 14 rfl rfl)
theorem dX2_gives_15 : decode cX2_gives 15 = .ok (.iload_n 2, 1) := dk_28 (dk_at dksX2_gives_0 15 rfl rfl)
theorem dX2_gives_16 : decode cX2_gives 16 = .ok (.invokevirtual 64, 3) := dk_182 0 64 (dk_at dksX2_gives_0 16 rfl rfl)
theorem dX2_gives_19 : decode cX2_gives 19 = .ok (.aaload, 1) := dk_50 (dk_at dksX2_gives_0 19 rfl rfl)
theorem dX2_gives_20 : decode cX2_gives 20 = .ok (.invokevirtual 68, 3) := dk_182 0 68 (dk_at dksX2_gives_0 20 rfl rfl)
theorem dX2_gives_23 : decode cX2_gives 23 = .ok (.ifCond .ne 5, 3) := dk_154 0 5 (dk_at dksX2_gives_1 0 rfl rfl)
theorem dX2_gives_26 : decode cX2_gives 26 = .ok (.iconst 0, 1) := dk_3 (dk_at dksX2_gives_1 3 rfl rfl)
theorem dX2_gives_27 : decode cX2_gives 27 = .ok (.ireturn, 1) := dk_172 (dk_at dksX2_gives_1 4 rfl rfl)
theorem dX2_gives_28 : decode cX2_gives 28 = .ok (.aload_n 0, 1) := dk_42 (dk_at dksX2_gives_1 5 rfl rfl)
theorem dX2_gives_29 : decode cX2_gives 29 = .ok (.getfield 32, 3) := dk_180 0 32 (dk_at dksX2_gives_1 6 rfl rfl)
theorem dX2_gives_32 : decode cX2_gives 32 = .ok (.iload_n 2, 1) := dk_28 (dk_at dksX2_gives_1 9 rfl rfl)
theorem dX2_gives_33 : decode cX2_gives 33 = .ok (.aaload, 1) := dk_50 (dk_at dksX2_gives_1 10 rfl rfl)
theorem dX2_gives_34 : decode cX2_gives 34 = .ok (.aload_n 0, 1) := dk_42 (dk_at dksX2_gives_1 11 rfl rfl)
theorem dX2_gives_35 : decode cX2_gives 35 = .ok (.getfield 27, 3) := dk_180 0 27 (dk_at dksX2_gives_1 12 rfl rfl)
theorem dX2_gives_38 : decode cX2_gives 38 = .ok (.iload_n 1, 1) := dk_27 (dk_at dksX2_gives_1 15 rfl rfl)
theorem dX2_gives_39 : decode cX2_gives 39 = .ok (.iaload, 1) := dk_46 (dk_at dksX2_gives_1 16 rfl rfl)
theorem dX2_gives_40 : decode cX2_gives 40 = .ok (.invokeinterface 72 2, 5) := by decide +kernel
theorem dX2_gives_45 : decode cX2_gives 45 = .ok (.iload_n 3, 1) := dk_29 (dk_at dksX2_gives_1 22 rfl rfl)
theorem dX2_gives_46 : decode cX2_gives 46 = .ok (.iand, 1) := dk_126 (dk_at dksX2_gives_1 23 rfl rfl)
theorem dX2_gives_47 : decode cX2_gives 47 = .ok (.ifCond .eq 7, 3) := dk_153 0 7 (dk_at dksX2_gives_2 0 rfl rfl)
theorem dX2_gives_50 : decode cX2_gives 50 = .ok (.iconst 1, 1) := dk_4 (dk_at dksX2_gives_2 3 rfl rfl)
theorem dX2_gives_51 : decode cX2_gives 51 = .ok (.goto 4, 3) := dk_167 0 4 (dk_at dksX2_gives_2 4 rfl rfl)
theorem dX2_gives_54 : decode cX2_gives 54 = .ok (.iconst 0, 1) := dk_3 (dk_at dksX2_gives_2 7 rfl rfl)
theorem dX2_gives_55 : decode cX2_gives 55 = .ok (.ireturn, 1) := dk_172 (dk_at dksX2_gives_2 8 rfl rfl)
abbrev cX2_otherOf : ByteArray := prog_9_method_7_code
def yX2_otherOf : MethodName := ⟨RX2, "otherOf", "(II)I"⟩
def dkwX2_otherOf_1 : List UInt8 := [46, 28, 160, 0, 12, 42, 180, 0, 21, 27, 46, 167, 0, 5, 18, 63, 172]
abbrev dktX2_otherOf_1 : List UInt8 := dkwX2_otherOf_1 ++ []
def dkwX2_otherOf_0 : List UInt8 := [42, 180, 0, 21, 27, 46, 28, 160, 0, 12, 42, 180, 0, 24, 27, 46, 167, 0, 24, 42, 180, 0, 24, 27]
abbrev dktX2_otherOf_0 : List UInt8 := dkwX2_otherOf_0 ++ dktX2_otherOf_1
theorem dksX2_otherOf_0 : cX2_otherOf.data.toList.drop 0 = dktX2_otherOf_0 := by decide +kernel
theorem dksX2_otherOf_1 : cX2_otherOf.data.toList.drop 24 = dktX2_otherOf_1 := dk_seg dksX2_otherOf_0 24 rfl rfl
theorem dX2_otherOf_0 : decode cX2_otherOf 0 = .ok (.aload_n 0, 1) := dk_42 (dk_at dksX2_otherOf_0 0 rfl rfl)
theorem dX2_otherOf_1 : decode cX2_otherOf 1 = .ok (.getfield 21, 3) := dk_180 0 21 (dk_at dksX2_otherOf_0 1 rfl rfl)
theorem dX2_otherOf_4 : decode cX2_otherOf 4 = .ok (.iload_n 1, 1) := dk_27 (dk_at dksX2_otherOf_0 4 rfl rfl)
theorem dX2_otherOf_5 : decode cX2_otherOf 5 = .ok (.iaload, 1) := dk_46 (dk_at dksX2_otherOf_0 5 rfl rfl)
theorem dX2_otherOf_6 : decode cX2_otherOf 6 = .ok (.iload_n 2, 1) := dk_28 (dk_at dksX2_otherOf_0 6 rfl rfl)
theorem dX2_otherOf_7 : decode cX2_otherOf 7 = .ok (.if_icmp .ne 12, 3) := dk_160 0 12 (dk_at dksX2_otherOf_0 7 rfl rfl)
theorem dX2_otherOf_10 : decode cX2_otherOf 10 = .ok (.aload_n 0, 1) := dk_42 (dk_at dksX2_otherOf_0 10 rfl rfl)
theorem dX2_otherOf_11 : decode cX2_otherOf 11 = .ok (.getfield 24, 3) := dk_180 0 24 (dk_at dksX2_otherOf_0 11 rfl rfl)
theorem dX2_otherOf_14 : decode cX2_otherOf 14 = .ok (.iload_n 1, 1) := dk_27 (dk_at dksX2_otherOf_0 14 rfl rfl)
theorem dX2_otherOf_15 : decode cX2_otherOf 15 = .ok (.iaload, 1) := dk_46 (dk_at dksX2_otherOf_0 15 rfl rfl)
theorem dX2_otherOf_16 : decode cX2_otherOf 16 = .ok (.goto 24, 3) := dk_167 0 24 (dk_at dksX2_otherOf_0 16 rfl rfl)
theorem dX2_otherOf_19 : decode cX2_otherOf 19 = .ok (.aload_n 0, 1) := dk_42 (dk_at dksX2_otherOf_0 19 rfl rfl)
theorem dX2_otherOf_20 : decode cX2_otherOf 20 = .ok (.getfield 24, 3) := dk_180 0 24 (dk_at dksX2_otherOf_0 20 rfl rfl)
theorem dX2_otherOf_23 : decode cX2_otherOf 23 = .ok (.iload_n 1, 1) := dk_27 (dk_at dksX2_otherOf_0 23 rfl rfl)
theorem dX2_otherOf_24 : decode cX2_otherOf 24 = .ok (.iaload, 1) := dk_46 (dk_at dksX2_otherOf_1 0 rfl rfl)
theorem dX2_otherOf_25 : decode cX2_otherOf 25 = .ok (.iload_n 2, 1) := dk_28 (dk_at dksX2_otherOf_1 1 rfl rfl)
theorem dX2_otherOf_26 : decode cX2_otherOf 26 = .ok (.if_icmp .ne 12, 3) := dk_160 0 12 (dk_at dksX2_otherOf_1 2 rfl rfl)
theorem dX2_otherOf_29 : decode cX2_otherOf 29 = .ok (.aload_n 0, 1) := dk_42 (dk_at dksX2_otherOf_1 5 rfl rfl)
theorem dX2_otherOf_30 : decode cX2_otherOf 30 = .ok (.getfield 21, 3) := dk_180 0 21 (dk_at dksX2_otherOf_1 6 rfl rfl)
theorem dX2_otherOf_33 : decode cX2_otherOf 33 = .ok (.iload_n 1, 1) := dk_27 (dk_at dksX2_otherOf_1 9 rfl rfl)
theorem dX2_otherOf_34 : decode cX2_otherOf 34 = .ok (.iaload, 1) := dk_46 (dk_at dksX2_otherOf_1 10 rfl rfl)
theorem dX2_otherOf_35 : decode cX2_otherOf 35 = .ok (.goto 5, 3) := dk_167 0 5 (dk_at dksX2_otherOf_1 11 rfl rfl)
theorem dX2_otherOf_38 : decode cX2_otherOf 38 = .ok (.ldc 63, 2) := dk_18 63 (dk_at dksX2_otherOf_1 14 rfl rfl)
theorem dX2_otherOf_40 : decode cX2_otherOf 40 = .ok (.ireturn, 1) := dk_172 (dk_at dksX2_otherOf_1 16 rfl rfl)
abbrev cX2_all : ByteArray := prog_9_method_5_code
def yX2_all : MethodName := ⟨RX2, "all", "()I"⟩
def dkwX2_all_0 : List UInt8 := [4, 42, 180, 0, 40, 120, 4, 100, 172]
abbrev dktX2_all_0 : List UInt8 := dkwX2_all_0 ++ []
theorem dksX2_all_0 : cX2_all.data.toList.drop 0 = dktX2_all_0 := by decide +kernel
theorem dX2_all_0 : decode cX2_all 0 = .ok (.iconst 1, 1) := dk_4 (dk_at dksX2_all_0 0 rfl rfl)
theorem dX2_all_1 : decode cX2_all 1 = .ok (.aload_n 0, 1) := dk_42 (dk_at dksX2_all_0 1 rfl rfl)
theorem dX2_all_2 : decode cX2_all 2 = .ok (.getfield 40, 3) := dk_180 0 40 (dk_at dksX2_all_0 2 rfl rfl)
theorem dX2_all_5 : decode cX2_all 5 = .ok (.ishl, 1) := dk_120 (dk_at dksX2_all_0 5 rfl rfl)
theorem dX2_all_6 : decode cX2_all 6 = .ok (.iconst 1, 1) := dk_4 (dk_at dksX2_all_0 6 rfl rfl)
theorem dX2_all_7 : decode cX2_all 7 = .ok (.isub, 1) := dk_100 (dk_at dksX2_all_0 7 rfl rfl)
theorem dX2_all_8 : decode cX2_all 8 = .ok (.ireturn, 1) := dk_172 (dk_at dksX2_all_0 8 rfl rfl)
theorem q79 : (Jvm.Cond.initialized "DatedContacts$Net") ∈ lw_all := lw_g (lw_at lw_m1 3 rfl) rfl
theorem q141 : (Jvm.Cond.instantiable "DatedContacts$Net" (10 : Nat)) ∈ lw_all := lw_g (lw_at lw_m1 65 rfl) rfl
theorem q143 : (Jvm.Cond.instanceMethod ({ cls := "DatedContacts$Net", name := "<init>", desc := "()V" } : Jvm.MethodName)) ∈ lw_all := lw_g (lw_at lw_m1 67 rfl) rfl
theorem q144 : (Jvm.Cond.code ({ cls := "DatedContacts$Net", name := "<init>", desc := "()V" } : Jvm.MethodName) prog_9_method_1_code (2 : Nat) (Option.none : Option Jvm.ClassFile.FieldType)) ∈ lw_all := lw_g (lw_at lw_m1 68 rfl) rfl
theorem q145 : (Jvm.Cond.methodLink "DatedContacts$Net" (3 : Nat) ({ cls := "java/lang/Object", name := "<init>", desc := "()V" } : Jvm.MethodName)) ∈ lw_all := lw_g (lw_at lw_m1 69 rfl) rfl
theorem q146 : (Jvm.Cond.classLink "DatedContacts$Net" (9 : Nat) "DatedContacts$Person") ∈ lw_all := lw_g (lw_at lw_m1 70 rfl) rfl
theorem q148 : (Jvm.Cond.classLink "DatedContacts$Net" (30 : Nat) "DatedContacts$Window") ∈ lw_all := lw_g (lw_at lw_m1 72 rfl) rfl
theorem q150 : (Jvm.Cond.fieldLink "DatedContacts$Net" (36 : Nat) "DatedContacts$Net" "persons" "I") ∈ lw_all := lw_g (lw_at lw_m1 74 rfl) rfl
theorem q153 : (Jvm.Cond.fieldLink "DatedContacts$Net" (40 : Nat) "DatedContacts$Net" "contacts" "I") ∈ lw_all := lw_g (lw_at lw_m1 77 rfl) rfl
theorem q158 : (Jvm.Cond.fieldLink "DatedContacts$Net" (43 : Nat) "DatedContacts$Net" "low" "I") ∈ lw_all := lw_g (lw_at lw_m1 82 rfl) rfl
theorem q161 : (Jvm.Cond.fieldLink "DatedContacts$Net" (46 : Nat) "DatedContacts$Net" "high" "I") ∈ lw_all := lw_g (lw_at lw_m1 85 rfl) rfl
theorem q164 : (Jvm.Cond.fieldLink "DatedContacts$Net" (11 : Nat) "DatedContacts$Net" "person" "[LDatedContacts$Person;") ∈ lw_all := lw_g (lw_at lw_m1 88 rfl) rfl
theorem q167 : (Jvm.Cond.fieldLink "DatedContacts$Net" (17 : Nat) "DatedContacts$Net" "ill" "[I") ∈ lw_all := lw_g (lw_at lw_m1 91 rfl) rfl
theorem q170 : (Jvm.Cond.fieldLink "DatedContacts$Net" (21 : Nat) "DatedContacts$Net" "a" "[I") ∈ lw_all := lw_g (lw_at lw_m1 94 rfl) rfl
theorem q175 : (Jvm.Cond.fieldLink "DatedContacts$Net" (24 : Nat) "DatedContacts$Net" "b" "[I") ∈ lw_all := lw_g (lw_at lw_m1 99 rfl) rfl
theorem q179 : (Jvm.Cond.fieldLink "DatedContacts$Net" (27 : Nat) "DatedContacts$Net" "day" "[I") ∈ lw_all := lw_g (lw_at lw_m1 103 rfl) rfl
theorem q184 : (Jvm.Cond.fieldLink "DatedContacts$Net" (32 : Nat) "DatedContacts$Net" "window" "[LDatedContacts$Window;") ∈ lw_all := lw_g (lw_at lw_m1 108 rfl) rfl
theorem q185 : (Jvm.Cond.lays "DatedContacts$Net" "DatedContacts$Net" "persons" "I") ∈ lw_all := lw_g (lw_at lw_m1 109 rfl) rfl
theorem q186 : (Jvm.Cond.soleField "DatedContacts$Net" "persons") ∈ lw_all := lw_g (lw_at lw_m1 110 rfl) rfl
theorem q187 : (Jvm.Cond.lays "DatedContacts$Net" "DatedContacts$Net" "contacts" "I") ∈ lw_all := lw_g (lw_at lw_m1 111 rfl) rfl
theorem q188 : (Jvm.Cond.soleField "DatedContacts$Net" "contacts") ∈ lw_all := lw_g (lw_at lw_m1 112 rfl) rfl
theorem q189 : (Jvm.Cond.lays "DatedContacts$Net" "DatedContacts$Net" "low" "I") ∈ lw_all := lw_g (lw_at lw_m1 113 rfl) rfl
theorem q190 : (Jvm.Cond.soleField "DatedContacts$Net" "low") ∈ lw_all := lw_g (lw_at lw_m1 114 rfl) rfl
theorem q191 : (Jvm.Cond.lays "DatedContacts$Net" "DatedContacts$Net" "high" "I") ∈ lw_all := lw_g (lw_at lw_m1 115 rfl) rfl
theorem q192 : (Jvm.Cond.soleField "DatedContacts$Net" "high") ∈ lw_all := lw_g (lw_at lw_m1 116 rfl) rfl
theorem q193 : (Jvm.Cond.laysFinal "DatedContacts$Net" "DatedContacts$Net" "person" "[LDatedContacts$Person;") ∈ lw_all := lw_g (lw_at lw_m1 117 rfl) rfl
theorem q194 : (Jvm.Cond.soleField "DatedContacts$Net" "person") ∈ lw_all := lw_g (lw_at lw_m1 118 rfl) rfl
theorem q195 : (Jvm.Cond.laysFinal "DatedContacts$Net" "DatedContacts$Net" "ill" "[I") ∈ lw_all := lw_g (lw_at lw_m1 119 rfl) rfl
theorem q196 : (Jvm.Cond.soleField "DatedContacts$Net" "ill") ∈ lw_all := lw_g (lw_at lw_m1 120 rfl) rfl
theorem q197 : (Jvm.Cond.laysFinal "DatedContacts$Net" "DatedContacts$Net" "a" "[I") ∈ lw_all := lw_g (lw_at lw_m1 121 rfl) rfl
theorem q198 : (Jvm.Cond.soleField "DatedContacts$Net" "a") ∈ lw_all := lw_g (lw_at lw_m1 122 rfl) rfl
theorem q199 : (Jvm.Cond.laysFinal "DatedContacts$Net" "DatedContacts$Net" "b" "[I") ∈ lw_all := lw_g (lw_at lw_m1 123 rfl) rfl
theorem q200 : (Jvm.Cond.soleField "DatedContacts$Net" "b") ∈ lw_all := lw_g (lw_at lw_m1 124 rfl) rfl
theorem q201 : (Jvm.Cond.laysFinal "DatedContacts$Net" "DatedContacts$Net" "day" "[I") ∈ lw_all := lw_g (lw_at lw_m1 125 rfl) rfl
theorem q202 : (Jvm.Cond.soleField "DatedContacts$Net" "day") ∈ lw_all := lw_g (lw_at lw_m1 126 rfl) rfl
theorem q203 : (Jvm.Cond.laysFinal "DatedContacts$Net" "DatedContacts$Net" "window" "[LDatedContacts$Window;") ∈ lw_all := lw_g (lw_at lw_m1 127 rfl) rfl
theorem q204 : (Jvm.Cond.soleField "DatedContacts$Net" "window") ∈ lw_all := lw_g (lw_at lw_m1 128 rfl) rfl
theorem q205 : (Jvm.Cond.superclass "DatedContacts$Net" "java/lang/Object") ∈ lw_all := lw_g (lw_at lw_m1 129 rfl) rfl
theorem q983 : (Jvm.Cond.instanceMethod ({ cls := "DatedContacts$Net", name := "stirred", desc := "()LDatedContacts$Net;" } : Jvm.MethodName)) ∈ lw_all := lw_g (lw_at lw_m4 187 rfl) rfl
theorem q984 : (Jvm.Cond.selects "DatedContacts$Net" ({ cls := "DatedContacts$Net", name := "stirred", desc := "()LDatedContacts$Net;" } : Jvm.MethodName) ({ cls := "DatedContacts$Net", name := "stirred", desc := "()LDatedContacts$Net;" } : Jvm.MethodName)) ∈ lw_all := lw_g (lw_at lw_m4 188 rfl) rfl
theorem q985 : (Jvm.Cond.code ({ cls := "DatedContacts$Net", name := "stirred", desc := "()LDatedContacts$Net;" } : Jvm.MethodName) prog_9_method_3_code (3 : Nat) (Option.some (Jvm.ClassFile.FieldType.object "DatedContacts$Net"))) ∈ lw_all := lw_g (lw_at lw_m4 189 rfl) rfl
theorem q986 : (Jvm.Cond.classLink "DatedContacts$Net" (55 : Nat) "DatedContacts$Told") ∈ lw_all := lw_g (lw_at lw_m4 190 rfl) rfl
theorem q988 : (Jvm.Cond.methodLink "DatedContacts$Net" (57 : Nat) ({ cls := "DatedContacts$Told", name := "<init>", desc := "(II)V" } : Jvm.MethodName)) ∈ lw_all := lw_g (lw_at lw_m4 192 rfl) rfl
theorem q999 : (Jvm.Cond.methodLink "DatedContacts$Net" (60 : Nat) ({ cls := "DatedContacts$Person", name := "window", desc := "(LDatedContacts$Window;)LDatedContacts$Window;" } : Jvm.MethodName)) ∈ lw_all := lw_g (lw_at lw_m4 203 rfl) rfl
theorem q1047 : (Jvm.Cond.instanceMethod ({ cls := "DatedContacts$Net", name := "become", desc := "(LDatedContacts$Net;)LDatedContacts$Net;" } : Jvm.MethodName)) ∈ lw_all := lw_g (lw_at lw_m5 11 rfl) rfl
theorem q1048 : (Jvm.Cond.selects "DatedContacts$Net" ({ cls := "DatedContacts$Net", name := "become", desc := "(LDatedContacts$Net;)LDatedContacts$Net;" } : Jvm.MethodName) ({ cls := "DatedContacts$Net", name := "become", desc := "(LDatedContacts$Net;)LDatedContacts$Net;" } : Jvm.MethodName)) ∈ lw_all := lw_g (lw_at lw_m5 12 rfl) rfl
theorem q1049 : (Jvm.Cond.code ({ cls := "DatedContacts$Net", name := "become", desc := "(LDatedContacts$Net;)LDatedContacts$Net;" } : Jvm.MethodName) prog_9_method_2_code (2 : Nat) (Option.some (Jvm.ClassFile.FieldType.object "DatedContacts$Net"))) ∈ lw_all := lw_g (lw_at lw_m5 13 rfl) rfl
theorem q1050 : (Jvm.Cond.methodLink "DatedContacts$Net" (49 : Nat) ({ cls := "java/lang/System", name := "arraycopy", desc := "(Ljava/lang/Object;ILjava/lang/Object;II)V" } : Jvm.MethodName)) ∈ lw_all := lw_g (lw_at lw_m5 14 rfl) rfl
theorem q1131 : (Jvm.Cond.instanceMethod ({ cls := "DatedContacts$Net", name := "window", desc := "(I)LDatedContacts$Window;" } : Jvm.MethodName)) ∈ lw_all := lw_g (lw_at lw_m5 95 rfl) rfl
theorem q1132 : (Jvm.Cond.selects "DatedContacts$Net" ({ cls := "DatedContacts$Net", name := "window", desc := "(I)LDatedContacts$Window;" } : Jvm.MethodName) ({ cls := "DatedContacts$Net", name := "window", desc := "(I)LDatedContacts$Window;" } : Jvm.MethodName)) ∈ lw_all := lw_g (lw_at lw_m5 96 rfl) rfl
theorem q1133 : (Jvm.Cond.code ({ cls := "DatedContacts$Net", name := "window", desc := "(I)LDatedContacts$Window;" } : Jvm.MethodName) prog_9_method_4_code (2 : Nat) (Option.some (Jvm.ClassFile.FieldType.object "DatedContacts$Window"))) ∈ lw_all := lw_g (lw_at lw_m5 97 rfl) rfl
theorem q1140 : (Jvm.Cond.instanceMethod ({ cls := "DatedContacts$Net", name := "of", desc := "(I)I" } : Jvm.MethodName)) ∈ lw_all := lw_g (lw_at lw_m5 104 rfl) rfl
theorem q1141 : (Jvm.Cond.selects "DatedContacts$Net" ({ cls := "DatedContacts$Net", name := "of", desc := "(I)I" } : Jvm.MethodName) ({ cls := "DatedContacts$Net", name := "of", desc := "(I)I" } : Jvm.MethodName)) ∈ lw_all := lw_g (lw_at lw_m5 105 rfl) rfl
theorem q1142 : (Jvm.Cond.code ({ cls := "DatedContacts$Net", name := "of", desc := "(I)I" } : Jvm.MethodName) prog_9_method_6_code (4 : Nat) (Option.some Jvm.ClassFile.FieldType.int)) ∈ lw_all := lw_g (lw_at lw_m5 106 rfl) rfl
theorem q1167 : (Jvm.Cond.instanceMethod ({ cls := "DatedContacts$Net", name := "gives", desc := "(III)Z" } : Jvm.MethodName)) ∈ lw_all := lw_g (lw_at lw_m5 131 rfl) rfl
theorem q1168 : (Jvm.Cond.selects "DatedContacts$Net" ({ cls := "DatedContacts$Net", name := "gives", desc := "(III)Z" } : Jvm.MethodName) ({ cls := "DatedContacts$Net", name := "gives", desc := "(III)Z" } : Jvm.MethodName)) ∈ lw_all := lw_g (lw_at lw_m5 132 rfl) rfl
theorem q1169 : (Jvm.Cond.code ({ cls := "DatedContacts$Net", name := "gives", desc := "(III)Z" } : Jvm.MethodName) prog_9_method_8_code (4 : Nat) (Option.some Jvm.ClassFile.FieldType.boolean)) ∈ lw_all := lw_g (lw_at lw_m5 133 rfl) rfl
theorem q1170 : (Jvm.Cond.methodLink "DatedContacts$Net" (64 : Nat) ({ cls := "DatedContacts$Net", name := "otherOf", desc := "(II)I" } : Jvm.MethodName)) ∈ lw_all := lw_g (lw_at lw_m5 134 rfl) rfl
theorem q1171 : (Jvm.Cond.instanceMethod ({ cls := "DatedContacts$Net", name := "otherOf", desc := "(II)I" } : Jvm.MethodName)) ∈ lw_all := lw_g (lw_at lw_m5 135 rfl) rfl
theorem q1172 : (Jvm.Cond.selects "DatedContacts$Net" ({ cls := "DatedContacts$Net", name := "otherOf", desc := "(II)I" } : Jvm.MethodName) ({ cls := "DatedContacts$Net", name := "otherOf", desc := "(II)I" } : Jvm.MethodName)) ∈ lw_all := lw_g (lw_at lw_m5 136 rfl) rfl
theorem q1173 : (Jvm.Cond.code ({ cls := "DatedContacts$Net", name := "otherOf", desc := "(II)I" } : Jvm.MethodName) prog_9_method_7_code (3 : Nat) (Option.some Jvm.ClassFile.FieldType.int)) ∈ lw_all := lw_g (lw_at lw_m5 137 rfl) rfl
theorem q1174 : (Jvm.Cond.constant "DatedContacts$Net" (63 : Nat) (-1000000 : Int32)) ∈ lw_all := lw_g (lw_at lw_m5 138 rfl) rfl
theorem q1175 : (Jvm.Cond.methodLink "DatedContacts$Net" (68 : Nat) ({ cls := "DatedContacts$Person", name := "catches", desc := "()Z" } : Jvm.MethodName)) ∈ lw_all := lw_g (lw_at lw_m5 139 rfl) rfl
theorem q1189 : (Jvm.Cond.interfaceEntry "DatedContacts$Net" (72 : Nat)) ∈ lw_tbl := lw_at lw_m5 153 rfl
theorem q1190 : (Jvm.Cond.methodLink "DatedContacts$Net" (72 : Nat) ({ cls := "DatedContacts$Window", name := "ahead", desc := "(I)I" } : Jvm.MethodName)) ∈ lw_all := lw_g (lw_at lw_m5 154 rfl) rfl
theorem q1347 : (Jvm.Cond.instanceMethod ({ cls := "DatedContacts$Net", name := "all", desc := "()I" } : Jvm.MethodName)) ∈ lw_all := lw_g (lw_at lw_m6 71 rfl) rfl
theorem q1348 : (Jvm.Cond.selects "DatedContacts$Net" ({ cls := "DatedContacts$Net", name := "all", desc := "()I" } : Jvm.MethodName) ({ cls := "DatedContacts$Net", name := "all", desc := "()I" } : Jvm.MethodName)) ∈ lw_all := lw_g (lw_at lw_m6 72 rfl) rfl
theorem q1349 : (Jvm.Cond.code ({ cls := "DatedContacts$Net", name := "all", desc := "()I" } : Jvm.MethodName) prog_9_method_5_code (1 : Nat) (Option.some Jvm.ClassFile.FieldType.int)) ∈ lw_all := lw_g (lw_at lw_m6 73 rfl) rfl
theorem in_X2 : ∀ w ∈ wsX20, w ∈ lw_all := lw_in wsX20 [185, 187, 189, 191, 193, 195, 197, 199, 201, 203] (by decide +kernel) (by decide +kernel)
/-! DatedContacts$Walk -/
set_option maxRecDepth 100000
def RX3 : String := "DatedContacts$Walk"
def TX3 : u_T := fun k => match k with
  | _ => ("DatedContacts$Walk", "days", "[I", true)
def tyX3 : Nat → FieldType := fun k => match k with
  | _ => .array .int
abbrev wsX30 : List Cond := u_ws RX3 TX3 1
theorem nmX3 : ∀ a, a < 1 → ∀ b, b < 1 → a ≠ b → (TX3 a).2.1 ≠ (TX3 b).2.1 := by decide +kernel
theorem tyX3_ok : ∀ k, k < 1 → parseFieldDescriptor (TX3 k).2.2.1 = some (tyX3 k) := by decide +kernel
abbrev cX3_init : ByteArray := prog_17_method_1_code
def yX3_init : MethodName := ⟨RX3, "<init>", "()V"⟩
def dkwX3_init_0 : List UInt8 := [42, 183, 0, 3, 42, 16, 9, 188, 10, 181, 0, 9, 177]
abbrev dktX3_init_0 : List UInt8 := dkwX3_init_0 ++ []
theorem dksX3_init_0 : cX3_init.data.toList.drop 0 = dktX3_init_0 := by decide +kernel
theorem dX3_init_0 : decode cX3_init 0 = .ok (.aload_n 0, 1) := dk_42 (dk_at dksX3_init_0 0 rfl rfl)
theorem dX3_init_1 : decode cX3_init 1 = .ok (.invokespecial 3, 3) := dk_183 0 3 (dk_at dksX3_init_0 1 rfl rfl)
theorem dX3_init_4 : decode cX3_init 4 = .ok (.aload_n 0, 1) := dk_42 (dk_at dksX3_init_0 4 rfl rfl)
theorem dX3_init_5 : decode cX3_init 5 = .ok (.bipush 9, 2) := dk_16 9 (dk_at dksX3_init_0 5 rfl rfl)
theorem dX3_init_7 : decode cX3_init 7 = .ok (.newarray .int, 2) := dk_188_10 (dk_at dksX3_init_0 7 rfl rfl)
theorem dX3_init_9 : decode cX3_init 9 = .ok (.putfield 9, 3) := dk_181 0 9 (dk_at dksX3_init_0 9 rfl rfl)
theorem dX3_init_12 : decode cX3_init 12 = .ok (.return_, 1) := dk_177 (dk_at dksX3_init_0 12 rfl rfl)
abbrev cX3_go : ByteArray := prog_17_method_3_code
def yX3_go : MethodName := ⟨RX3, "go", "(LDatedContacts$Net;III)LDatedContacts$Walk;"⟩
def dkwX3_go_4 : List UInt8 := [167, 255, 199, 42, 176]
abbrev dktX3_go_4 : List UInt8 := dkwX3_go_4 ++ []
def dkwX3_go_3 : List UInt8 := [184, 0, 34, 154, 0, 10, 42, 43, 21, 6, 182, 0, 38, 132, 6, 1, 167, 255, 215, 132, 5, 1]
abbrev dktX3_go_3 : List UInt8 := dkwX3_go_3 ++ dktX3_go_4
def dkwX3_go_2 : List UInt8 := [43, 180, 0, 30, 162, 0, 38, 43, 180, 0, 27, 21, 6, 46, 21, 5, 160, 0, 20, 21, 4, 21, 6]
abbrev dktX3_go_2 : List UInt8 := dkwX3_go_2 ++ dktX3_go_3
def dkwX3_go_1 : List UInt8 := [42, 180, 0, 9, 28, 4, 29, 120, 79, 3, 54, 5, 21, 5, 16, 31, 162, 0, 56, 3, 54, 6, 21, 6]
abbrev dktX3_go_1 : List UInt8 := dkwX3_go_1 ++ dktX3_go_2
def dkwX3_go_0 : List UInt8 := [3, 54, 5, 21, 5, 16, 9, 162, 0, 17, 42, 180, 0, 9, 21, 5, 3, 79, 132, 5, 1, 167, 255, 238]
abbrev dktX3_go_0 : List UInt8 := dkwX3_go_0 ++ dktX3_go_1
theorem dksX3_go_0 : cX3_go.data.toList.drop 0 = dktX3_go_0 := by decide +kernel
theorem dksX3_go_1 : cX3_go.data.toList.drop 24 = dktX3_go_1 := dk_seg dksX3_go_0 24 rfl rfl
theorem dksX3_go_2 : cX3_go.data.toList.drop 48 = dktX3_go_2 := dk_seg dksX3_go_1 24 rfl rfl
theorem dksX3_go_3 : cX3_go.data.toList.drop 71 = dktX3_go_3 := dk_seg dksX3_go_2 23 rfl rfl
theorem dksX3_go_4 : cX3_go.data.toList.drop 93 = dktX3_go_4 := dk_seg dksX3_go_3 22 rfl rfl
theorem dX3_go_0 : decode cX3_go 0 = .ok (.iconst 0, 1) := dk_3 (dk_at dksX3_go_0 0 rfl rfl)
theorem dX3_go_1 : decode cX3_go 1 = .ok (.istore 5, 2) := dk_54 5 (dk_at dksX3_go_0 1 rfl rfl)
theorem dX3_go_3 : decode cX3_go 3 = .ok (.iload 5, 2) := dk_21 5 (dk_at dksX3_go_0 3 rfl rfl)
theorem dX3_go_5 : decode cX3_go 5 = .ok (.bipush 9, 2) := dk_16 9 (dk_at dksX3_go_0 5 rfl rfl)
theorem dX3_go_7 : decode cX3_go 7 = .ok (.if_icmp .ge 17, 3) := dk_162 0 17 (dk_at dksX3_go_0 7 rfl rfl)
theorem dX3_go_10 : decode cX3_go 10 = .ok (.aload_n 0, 1) := dk_42 (dk_at dksX3_go_0 10 rfl rfl)
theorem dX3_go_11 : decode cX3_go 11 = .ok (.getfield 9, 3) := dk_180 0 9 (dk_at dksX3_go_0 11 rfl rfl)
theorem dX3_go_14 : decode cX3_go 14 = .ok (.iload 5, 2) := dk_21 5 (dk_at dksX3_go_0 14 rfl rfl)
theorem dX3_go_16 : decode cX3_go 16 = .ok (.iconst 0, 1) := dk_3 (dk_at dksX3_go_0 16 rfl rfl)
theorem dX3_go_17 : decode cX3_go 17 = .ok (.iastore, 1) := dk_79 (dk_at dksX3_go_0 17 rfl rfl)
theorem dX3_go_18 : decode cX3_go 18 = .ok (.iinc 5 1, 3) := dk_132 5 1 (dk_at dksX3_go_0 18 rfl rfl)
theorem dX3_go_21 : decode cX3_go 21 = .ok (.goto (-18), 3) := dk_167 255 238 (dk_at dksX3_go_0 21 rfl rfl)
theorem dX3_go_24 : decode cX3_go 24 = .ok (.aload_n 0, 1) := dk_42 (dk_at dksX3_go_1 0 rfl rfl)
theorem dX3_go_25 : decode cX3_go 25 = .ok (.getfield 9, 3) := dk_180 0 9 (dk_at dksX3_go_1 1 rfl rfl)
theorem dX3_go_28 : decode cX3_go 28 = .ok (.iload_n 2, 1) := dk_28 (dk_at dksX3_go_1 4 rfl rfl)
theorem dX3_go_29 : decode cX3_go 29 = .ok (.iconst 1, 1) := dk_4 (dk_at dksX3_go_1 5 rfl rfl)
theorem dX3_go_30 : decode cX3_go 30 = .ok (.iload_n 3, 1) := dk_29 (dk_at dksX3_go_1 6 rfl rfl)
theorem dX3_go_31 : decode cX3_go 31 = .ok (.ishl, 1) := dk_120 (dk_at dksX3_go_1 7 rfl rfl)
theorem dX3_go_32 : decode cX3_go 32 = .ok (.iastore, 1) := dk_79 (dk_at dksX3_go_1 8 rfl rfl)
theorem dX3_go_33 : decode cX3_go 33 = .ok (.iconst 0, 1) := dk_3 (dk_at dksX3_go_1 9 rfl rfl)
theorem dX3_go_34 : decode cX3_go 34 = .ok (.istore 5, 2) := dk_54 5 (dk_at dksX3_go_1 10 rfl rfl)
theorem dX3_go_36 : decode cX3_go 36 = .ok (.iload 5, 2) := dk_21 5 (dk_at dksX3_go_1 12 rfl rfl)
theorem dX3_go_38 : decode cX3_go 38 = .ok (.bipush 31, 2) := dk_16 31 (dk_at dksX3_go_1 14 rfl rfl)
theorem dX3_go_40 : decode cX3_go 40 = .ok (.if_icmp .ge 56, 3) := dk_162 0 56 (dk_at dksX3_go_1 16 rfl rfl)
theorem dX3_go_43 : decode cX3_go 43 = .ok (.iconst 0, 1) := dk_3 (dk_at dksX3_go_1 19 rfl rfl)
theorem dX3_go_44 : decode cX3_go 44 = .ok (.istore 6, 2) := dk_54 6 (dk_at dksX3_go_1 20 rfl rfl)
theorem dX3_go_46 : decode cX3_go 46 = .ok (.iload 6, 2) := dk_21 6 (dk_at dksX3_go_1 22 rfl rfl)
theorem dX3_go_48 : decode cX3_go 48 = .ok (.aload_n 1, 1) := dk_43 (dk_at dksX3_go_2 0 rfl rfl)
theorem dX3_go_49 : decode cX3_go 49 = .ok (.getfield 30, 3) := dk_180 0 30 (dk_at dksX3_go_2 1 rfl rfl)
theorem dX3_go_52 : decode cX3_go 52 = .ok (.if_icmp .ge 38, 3) := dk_162 0 38 (dk_at dksX3_go_2 4 rfl rfl)
theorem dX3_go_55 : decode cX3_go 55 = .ok (.aload_n 1, 1) := dk_43 (dk_at dksX3_go_2 7 rfl rfl)
theorem dX3_go_56 : decode cX3_go 56 = .ok (.getfield 27, 3) := dk_180 0 27 (dk_at dksX3_go_2 8 rfl rfl)
theorem dX3_go_59 : decode cX3_go 59 = .ok (.iload 6, 2) := dk_21 6 (dk_at dksX3_go_2 11 rfl rfl)
theorem dX3_go_61 : decode cX3_go 61 = .ok (.iaload, 1) := dk_46 (dk_at dksX3_go_2 13 rfl rfl)
theorem dX3_go_62 : decode cX3_go 62 = .ok (.iload 5, 2) := dk_21 5 (dk_at dksX3_go_2 14 rfl rfl)
theorem dX3_go_64 : decode cX3_go 64 = .ok (.if_icmp .ne 20, 3) := dk_160 0 20 (dk_at dksX3_go_2 16 rfl rfl)
theorem dX3_go_67 : decode cX3_go 67 = .ok (.iload 4, 2) := dk_21 4 (dk_at dksX3_go_2 19 rfl rfl)
theorem dX3_go_69 : decode cX3_go 69 = .ok (.iload 6, 2) := dk_21 6 (dk_at dksX3_go_2 21 rfl rfl)
theorem dX3_go_71 : decode cX3_go 71 = .ok (.invokestatic 34, 3) := dk_184 0 34 (dk_at dksX3_go_3 0 rfl rfl)
theorem dX3_go_74 : decode cX3_go 74 = .ok (.ifCond .ne 10, 3) := dk_154 0 10 (dk_at dksX3_go_3 3 rfl rfl)
theorem dX3_go_77 : decode cX3_go 77 = .ok (.aload_n 0, 1) := dk_42 (dk_at dksX3_go_3 6 rfl rfl)
theorem dX3_go_78 : decode cX3_go 78 = .ok (.aload_n 1, 1) := dk_43 (dk_at dksX3_go_3 7 rfl rfl)
theorem dX3_go_79 : decode cX3_go 79 = .ok (.iload 6, 2) := dk_21 6 (dk_at dksX3_go_3 8 rfl rfl)
theorem dX3_go_81 : decode cX3_go 81 = .ok (.invokevirtual 38, 3) := dk_182 0 38 (dk_at dksX3_go_3 10 rfl rfl)
theorem dX3_go_84 : decode cX3_go 84 = .ok (.iinc 6 1, 3) := dk_132 6 1 (dk_at dksX3_go_3 13 rfl rfl)
theorem dX3_go_87 : decode cX3_go 87 = .ok (.goto (-41), 3) := dk_167 255 215 (dk_at dksX3_go_3 16 rfl rfl)
theorem dX3_go_90 : decode cX3_go 90 = .ok (.iinc 5 1, 3) := dk_132 5 1 (dk_at dksX3_go_3 19 rfl rfl)
theorem dX3_go_93 : decode cX3_go 93 = .ok (.goto (-57), 3) := dk_167 255 199 (dk_at dksX3_go_4 0 rfl rfl)
theorem dX3_go_96 : decode cX3_go 96 = .ok (.aload_n 0, 1) := dk_42 (dk_at dksX3_go_4 3 rfl rfl)
theorem dX3_go_97 : decode cX3_go 97 = .ok (.areturn, 1) := dk_176 (dk_at dksX3_go_4 4 rfl rfl)
abbrev cX3_meet : ByteArray := prog_17_method_2_code
def yX3_meet : MethodName := ⟨RX3, "meet", "(LDatedContacts$Net;I)V"⟩
def dkwX3_meet_3 : List UInt8 := [153, 0, 21, 42, 180, 0, 9, 21, 4, 92, 46, 4, 43, 180, 0, 27, 28, 46, 120, 128, 79, 177]
abbrev dktX3_meet_3 : List UInt8 := dkwX3_meet_3 ++ []
def dkwX3_meet_2 : List UInt8 := [153, 0, 20, 42, 180, 0, 9, 29, 92, 46, 4, 43, 180, 0, 27, 28, 46, 120, 128, 79, 21, 6]
abbrev dktX3_meet_2 : List UInt8 := dkwX3_meet_2 ++ dktX3_meet_3
def dkwX3_meet_1 : List UInt8 := [21, 4, 46, 182, 0, 23, 54, 5, 43, 28, 29, 42, 180, 0, 9, 29, 46, 182, 0, 23, 54, 6, 21, 5]
abbrev dktX3_meet_1 : List UInt8 := dkwX3_meet_1 ++ dktX3_meet_2
def dkwX3_meet_0 : List UInt8 := [43, 180, 0, 15, 28, 46, 62, 43, 180, 0, 20, 28, 46, 54, 4, 43, 28, 21, 4, 42, 180, 0, 9]
abbrev dktX3_meet_0 : List UInt8 := dkwX3_meet_0 ++ dktX3_meet_1
theorem dksX3_meet_0 : cX3_meet.data.toList.drop 0 = dktX3_meet_0 := by decide +kernel
theorem dksX3_meet_1 : cX3_meet.data.toList.drop 23 = dktX3_meet_1 := dk_seg dksX3_meet_0 23 rfl rfl
theorem dksX3_meet_2 : cX3_meet.data.toList.drop 47 = dktX3_meet_2 := dk_seg dksX3_meet_1 24 rfl rfl
theorem dksX3_meet_3 : cX3_meet.data.toList.drop 69 = dktX3_meet_3 := dk_seg dksX3_meet_2 22 rfl rfl
theorem dX3_meet_0 : decode cX3_meet 0 = .ok (.aload_n 1, 1) := dk_43 (dk_at dksX3_meet_0 0 rfl rfl)
theorem dX3_meet_1 : decode cX3_meet 1 = .ok (.getfield 15, 3) := dk_180 0 15 (dk_at dksX3_meet_0 1 rfl rfl)
theorem dX3_meet_4 : decode cX3_meet 4 = .ok (.iload_n 2, 1) := dk_28 (dk_at dksX3_meet_0 4 rfl rfl)
theorem dX3_meet_5 : decode cX3_meet 5 = .ok (.iaload, 1) := dk_46 (dk_at dksX3_meet_0 5 rfl rfl)
theorem dX3_meet_6 : decode cX3_meet 6 = .ok (.istore_n 3, 1) := dk_62 (dk_at dksX3_meet_0 6 rfl rfl)
theorem dX3_meet_7 : decode cX3_meet 7 = .ok (.aload_n 1, 1) := dk_43 (dk_at dksX3_meet_0 7 rfl rfl)
theorem dX3_meet_8 : decode cX3_meet 8 = .ok (.getfield 20, 3) := dk_180 0 20 (dk_at dksX3_meet_0 8 rfl rfl)
theorem dX3_meet_11 : decode cX3_meet 11 = .ok (.iload_n 2, 1) := dk_28 (dk_at dksX3_meet_0 11 rfl rfl)
theorem dX3_meet_12 : decode cX3_meet 12 = .ok (.iaload, 1) := dk_46 (dk_at dksX3_meet_0 12 rfl rfl)
theorem dX3_meet_13 : decode cX3_meet 13 = .ok (.istore 4, 2) := dk_54 4 (dk_at dksX3_meet_0 13 rfl rfl)
theorem dX3_meet_15 : decode cX3_meet 15 = .ok (.aload_n 1, 1) := dk_43 (dk_at dksX3_meet_0 15 rfl rfl)
theorem dX3_meet_16 : decode cX3_meet 16 = .ok (.iload_n 2, 1) := dk_28 (dk_at dksX3_meet_0 16 rfl rfl)
theorem dX3_meet_17 : decode cX3_meet 17 = .ok (.iload 4, 2) := dk_21 4 (dk_at dksX3_meet_0 17 rfl rfl)
theorem dX3_meet_19 : decode cX3_meet 19 = .ok (.aload_n 0, 1) := dk_42 (dk_at dksX3_meet_0 19 rfl rfl)
theorem dX3_meet_20 : decode cX3_meet 20 = .ok (.getfield 9, 3) := dk_180 0 9 (dk_at dksX3_meet_0 20 rfl rfl)
theorem dX3_meet_23 : decode cX3_meet 23 = .ok (.iload 4, 2) := dk_21 4 (dk_at dksX3_meet_1 0 rfl rfl)
theorem dX3_meet_25 : decode cX3_meet 25 = .ok (.iaload, 1) := dk_46 (dk_at dksX3_meet_1 2 rfl rfl)
theorem dX3_meet_26 : decode cX3_meet 26 = .ok (.invokevirtual 23, 3) := dk_182 0 23 (dk_at dksX3_meet_1 3 rfl rfl)
theorem dX3_meet_29 : decode cX3_meet 29 = .ok (.istore 5, 2) := dk_54 5 (dk_at dksX3_meet_1 6 rfl rfl)
theorem dX3_meet_31 : decode cX3_meet 31 = .ok (.aload_n 1, 1) := dk_43 (dk_at dksX3_meet_1 8 rfl rfl)
theorem dX3_meet_32 : decode cX3_meet 32 = .ok (.iload_n 2, 1) := dk_28 (dk_at dksX3_meet_1 9 rfl rfl)
theorem dX3_meet_33 : decode cX3_meet 33 = .ok (.iload_n 3, 1) := dk_29 (dk_at dksX3_meet_1 10 rfl rfl)
theorem dX3_meet_34 : decode cX3_meet 34 = .ok (.aload_n 0, 1) := dk_42 (dk_at dksX3_meet_1 11 rfl rfl)
theorem dX3_meet_35 : decode cX3_meet 35 = .ok (.getfield 9, 3) := dk_180 0 9 (dk_at dksX3_meet_1 12 rfl rfl)
theorem dX3_meet_38 : decode cX3_meet 38 = .ok (.iload_n 3, 1) := dk_29 (dk_at dksX3_meet_1 15 rfl rfl)
theorem dX3_meet_39 : decode cX3_meet 39 = .ok (.iaload, 1) := dk_46 (dk_at dksX3_meet_1 16 rfl rfl)
theorem dX3_meet_40 : decode cX3_meet 40 = .ok (.invokevirtual 23, 3) := dk_182 0 23 (dk_at dksX3_meet_1 17 rfl rfl)
theorem dX3_meet_43 : decode cX3_meet 43 = .ok (.istore 6, 2) := dk_54 6 (dk_at dksX3_meet_1 20 rfl rfl)
theorem dX3_meet_45 : decode cX3_meet 45 = .ok (.iload 5, 2) := dk_21 5 (dk_at dksX3_meet_1 22 rfl rfl)
theorem dX3_meet_47 : decode cX3_meet 47 = .ok (.ifCond .eq 20, 3) := dk_153 0 20 (dk_at dksX3_meet_2 0 rfl rfl)
theorem dX3_meet_50 : decode cX3_meet 50 = .ok (.aload_n 0, 1) := dk_42 (dk_at dksX3_meet_2 3 rfl rfl)
theorem dX3_meet_51 : decode cX3_meet 51 = .ok (.getfield 9, 3) := dk_180 0 9 (dk_at dksX3_meet_2 4 rfl rfl)
theorem dX3_meet_54 : decode cX3_meet 54 = .ok (.iload_n 3, 1) := dk_29 (dk_at dksX3_meet_2 7 rfl rfl)
theorem dX3_meet_55 : decode cX3_meet 55 = .ok (.dup2, 1) := dk_92 (dk_at dksX3_meet_2 8 rfl rfl)
theorem dX3_meet_56 : decode cX3_meet 56 = .ok (.iaload, 1) := dk_46 (dk_at dksX3_meet_2 9 rfl rfl)
theorem dX3_meet_57 : decode cX3_meet 57 = .ok (.iconst 1, 1) := dk_4 (dk_at dksX3_meet_2 10 rfl rfl)
theorem dX3_meet_58 : decode cX3_meet 58 = .ok (.aload_n 1, 1) := dk_43 (dk_at dksX3_meet_2 11 rfl rfl)
theorem dX3_meet_59 : decode cX3_meet 59 = .ok (.getfield 27, 3) := dk_180 0 27 (dk_at dksX3_meet_2 12 rfl rfl)
theorem dX3_meet_62 : decode cX3_meet 62 = .ok (.iload_n 2, 1) := dk_28 (dk_at dksX3_meet_2 15 rfl rfl)
theorem dX3_meet_63 : decode cX3_meet 63 = .ok (.iaload, 1) := dk_46 (dk_at dksX3_meet_2 16 rfl rfl)
theorem dX3_meet_64 : decode cX3_meet 64 = .ok (.ishl, 1) := dk_120 (dk_at dksX3_meet_2 17 rfl rfl)
theorem dX3_meet_65 : decode cX3_meet 65 = .ok (.ior, 1) := dk_128 (dk_at dksX3_meet_2 18 rfl rfl)
theorem dX3_meet_66 : decode cX3_meet 66 = .ok (.iastore, 1) := dk_79 (dk_at dksX3_meet_2 19 rfl rfl)
theorem dX3_meet_67 : decode cX3_meet 67 = .ok (.iload 6, 2) := dk_21 6 (dk_at dksX3_meet_2 20 rfl rfl)
theorem dX3_meet_69 : decode cX3_meet 69 = .ok (.ifCond .eq 21, 3) := dk_153 0 21 (dk_at dksX3_meet_3 0 rfl rfl)
theorem dX3_meet_72 : decode cX3_meet 72 = .ok (.aload_n 0, 1) := dk_42 (dk_at dksX3_meet_3 3 rfl rfl)
theorem dX3_meet_73 : decode cX3_meet 73 = .ok (.getfield 9, 3) := dk_180 0 9 (dk_at dksX3_meet_3 4 rfl rfl)
theorem dX3_meet_76 : decode cX3_meet 76 = .ok (.iload 4, 2) := dk_21 4 (dk_at dksX3_meet_3 7 rfl rfl)
theorem dX3_meet_78 : decode cX3_meet 78 = .ok (.dup2, 1) := dk_92 (dk_at dksX3_meet_3 9 rfl rfl)
theorem dX3_meet_79 : decode cX3_meet 79 = .ok (.iaload, 1) := dk_46 (dk_at dksX3_meet_3 10 rfl rfl)
theorem dX3_meet_80 : decode cX3_meet 80 = .ok (.iconst 1, 1) := dk_4 (dk_at dksX3_meet_3 11 rfl rfl)
theorem dX3_meet_81 : decode cX3_meet 81 = .ok (.aload_n 1, 1) := dk_43 (dk_at dksX3_meet_3 12 rfl rfl)
theorem dX3_meet_82 : decode cX3_meet 82 = .ok (.getfield 27, 3) := dk_180 0 27 (dk_at dksX3_meet_3 13 rfl rfl)
theorem dX3_meet_85 : decode cX3_meet 85 = .ok (.iload_n 2, 1) := dk_28 (dk_at dksX3_meet_3 16 rfl rfl)
theorem dX3_meet_86 : decode cX3_meet 86 = .ok (.iaload, 1) := dk_46 (dk_at dksX3_meet_3 17 rfl rfl)
theorem dX3_meet_87 : decode cX3_meet 87 = .ok (.ishl, 1) := dk_120 (dk_at dksX3_meet_3 18 rfl rfl)
theorem dX3_meet_88 : decode cX3_meet 88 = .ok (.ior, 1) := dk_128 (dk_at dksX3_meet_3 19 rfl rfl)
theorem dX3_meet_89 : decode cX3_meet 89 = .ok (.iastore, 1) := dk_79 (dk_at dksX3_meet_3 20 rfl rfl)
theorem dX3_meet_90 : decode cX3_meet 90 = .ok (.return_, 1) := dk_177 (dk_at dksX3_meet_3 21 rfl rfl)
abbrev cX3_first : ByteArray := prog_17_method_4_code
def yX3_first : MethodName := ⟨RX3, "first", "(I)I"⟩
def dkwX3_first_0 : List UInt8 := [42, 180, 0, 9, 27, 46, 154, 0, 7, 2, 167, 0, 12, 42, 180, 0, 9, 27, 46, 184, 0, 42, 172]
abbrev dktX3_first_0 : List UInt8 := dkwX3_first_0 ++ []
theorem dksX3_first_0 : cX3_first.data.toList.drop 0 = dktX3_first_0 := by decide +kernel
theorem dX3_first_0 : decode cX3_first 0 = .ok (.aload_n 0, 1) := dk_42 (dk_at dksX3_first_0 0 rfl rfl)
theorem dX3_first_1 : decode cX3_first 1 = .ok (.getfield 9, 3) := dk_180 0 9 (dk_at dksX3_first_0 1 rfl rfl)
theorem dX3_first_4 : decode cX3_first 4 = .ok (.iload_n 1, 1) := dk_27 (dk_at dksX3_first_0 4 rfl rfl)
theorem dX3_first_5 : decode cX3_first 5 = .ok (.iaload, 1) := dk_46 (dk_at dksX3_first_0 5 rfl rfl)
theorem dX3_first_6 : decode cX3_first 6 = .ok (.ifCond .ne 7, 3) := dk_154 0 7 (dk_at dksX3_first_0 6 rfl rfl)
theorem dX3_first_9 : decode cX3_first 9 = .ok (.iconst (-1), 1) := dk_2 (dk_at dksX3_first_0 9 rfl rfl)
theorem dX3_first_10 : decode cX3_first 10 = .ok (.goto 12, 3) := dk_167 0 12 (dk_at dksX3_first_0 10 rfl rfl)
theorem dX3_first_13 : decode cX3_first 13 = .ok (.aload_n 0, 1) := dk_42 (dk_at dksX3_first_0 13 rfl rfl)
theorem dX3_first_14 : decode cX3_first 14 = .ok (.getfield 9, 3) := dk_180 0 9 (dk_at dksX3_first_0 14 rfl rfl)
theorem dX3_first_17 : decode cX3_first 17 = .ok (.iload_n 1, 1) := dk_27 (dk_at dksX3_first_0 17 rfl rfl)
theorem dX3_first_18 : decode cX3_first 18 = .ok (.iaload, 1) := dk_46 (dk_at dksX3_first_0 18 rfl rfl)
theorem dX3_first_19 : decode cX3_first 19 = .ok (.invokestatic 42, 3) := dk_184 0 42 (dk_at dksX3_first_0 19 rfl rfl)
theorem dX3_first_22 : decode cX3_first 22 = .ok (.ireturn, 1) := dk_172 (dk_at dksX3_first_0 22 rfl rfl)
abbrev cX3_many : ByteArray := prog_17_method_5_code
def yX3_many : MethodName := ⟨RX3, "many", "()I"⟩
def dkwX3_many_1 : List UInt8 := [4, 96, 60, 132, 2, 1, 167, 255, 230, 27, 172]
abbrev dktX3_many_1 : List UInt8 := dkwX3_many_1 ++ []
def dkwX3_many_0 : List UInt8 := [3, 60, 3, 61, 28, 16, 9, 162, 0, 26, 27, 42, 180, 0, 9, 28, 46, 154, 0, 7, 3, 167, 0, 4]
abbrev dktX3_many_0 : List UInt8 := dkwX3_many_0 ++ dktX3_many_1
theorem dksX3_many_0 : cX3_many.data.toList.drop 0 = dktX3_many_0 := by decide +kernel
theorem dksX3_many_1 : cX3_many.data.toList.drop 24 = dktX3_many_1 := dk_seg dksX3_many_0 24 rfl rfl
theorem dX3_many_0 : decode cX3_many 0 = .ok (.iconst 0, 1) := dk_3 (dk_at dksX3_many_0 0 rfl rfl)
theorem dX3_many_1 : decode cX3_many 1 = .ok (.istore_n 1, 1) := dk_60 (dk_at dksX3_many_0 1 rfl rfl)
theorem dX3_many_2 : decode cX3_many 2 = .ok (.iconst 0, 1) := dk_3 (dk_at dksX3_many_0 2 rfl rfl)
theorem dX3_many_3 : decode cX3_many 3 = .ok (.istore_n 2, 1) := dk_61 (dk_at dksX3_many_0 3 rfl rfl)
theorem dX3_many_4 : decode cX3_many 4 = .ok (.iload_n 2, 1) := dk_28 (dk_at dksX3_many_0 4 rfl rfl)
theorem dX3_many_5 : decode cX3_many 5 = .ok (.bipush 9, 2) := dk_16 9 (dk_at dksX3_many_0 5 rfl rfl)
theorem dX3_many_7 : decode cX3_many 7 = .ok (.if_icmp .ge 26, 3) := dk_162 0 26 (dk_at dksX3_many_0 7 rfl rfl)
theorem dX3_many_10 : decode cX3_many 10 = .ok (.iload_n 1, 1) := dk_27 (dk_at dksX3_many_0 10 rfl rfl)
theorem dX3_many_11 : decode cX3_many 11 = .ok (.aload_n 0, 1) := dk_42 (dk_at dksX3_many_0 11 rfl rfl)
theorem dX3_many_12 : decode cX3_many 12 = .ok (.getfield 9, 3) := dk_180 0 9 (dk_at dksX3_many_0 12 rfl rfl)
theorem dX3_many_15 : decode cX3_many 15 = .ok (.iload_n 2, 1) := dk_28 (dk_at dksX3_many_0 15 rfl rfl)
theorem dX3_many_16 : decode cX3_many 16 = .ok (.iaload, 1) := dk_46 (dk_at dksX3_many_0 16 rfl rfl)
theorem dX3_many_17 : decode cX3_many 17 = .ok (.ifCond .ne 7, 3) := dk_154 0 7 (dk_at dksX3_many_0 17 rfl rfl)
theorem dX3_many_20 : decode cX3_many 20 = .ok (.iconst 0, 1) := dk_3 (dk_at dksX3_many_0 20 rfl rfl)
theorem dX3_many_21 : decode cX3_many 21 = .ok (.goto 4, 3) := dk_167 0 4 (dk_at dksX3_many_0 21 rfl rfl)
theorem dX3_many_24 : decode cX3_many 24 = .ok (.iconst 1, 1) := dk_4 (dk_at dksX3_many_1 0 rfl rfl)
theorem dX3_many_25 : decode cX3_many 25 = .ok (.iadd, 1) := dk_96 (dk_at dksX3_many_1 1 rfl rfl)
theorem dX3_many_26 : decode cX3_many 26 = .ok (.istore_n 1, 1) := dk_60 (dk_at dksX3_many_1 2 rfl rfl)
theorem dX3_many_27 : decode cX3_many 27 = .ok (.iinc 2 1, 3) := dk_132 2 1 (dk_at dksX3_many_1 3 rfl rfl)
theorem dX3_many_30 : decode cX3_many 30 = .ok (.goto (-26), 3) := dk_167 255 230 (dk_at dksX3_many_1 6 rfl rfl)
theorem dX3_many_33 : decode cX3_many 33 = .ok (.iload_n 1, 1) := dk_27 (dk_at dksX3_many_1 9 rfl rfl)
theorem dX3_many_34 : decode cX3_many 34 = .ok (.ireturn, 1) := dk_172 (dk_at dksX3_many_1 10 rfl rfl)
theorem q80 : (Jvm.Cond.initialized "DatedContacts$Walk") ∈ lw_all := lw_g (lw_at lw_m1 4 rfl) rfl
theorem q155 : (Jvm.Cond.fieldLink "DatedContacts$Walk" (30 : Nat) "DatedContacts$Net" "contacts" "I") ∈ lw_all := lw_g (lw_at lw_m1 79 rfl) rfl
theorem q171 : (Jvm.Cond.fieldLink "DatedContacts$Walk" (20 : Nat) "DatedContacts$Net" "a" "[I") ∈ lw_all := lw_g (lw_at lw_m1 95 rfl) rfl
theorem q176 : (Jvm.Cond.fieldLink "DatedContacts$Walk" (15 : Nat) "DatedContacts$Net" "b" "[I") ∈ lw_all := lw_g (lw_at lw_m1 100 rfl) rfl
theorem q180 : (Jvm.Cond.fieldLink "DatedContacts$Walk" (27 : Nat) "DatedContacts$Net" "day" "[I") ∈ lw_all := lw_g (lw_at lw_m1 104 rfl) rfl
theorem q209 : (Jvm.Cond.instantiable "DatedContacts$Walk" (1 : Nat)) ∈ lw_all := lw_g (lw_at lw_m1 133 rfl) rfl
theorem q211 : (Jvm.Cond.instanceMethod ({ cls := "DatedContacts$Walk", name := "<init>", desc := "()V" } : Jvm.MethodName)) ∈ lw_all := lw_g (lw_at lw_m1 135 rfl) rfl
theorem q212 : (Jvm.Cond.code ({ cls := "DatedContacts$Walk", name := "<init>", desc := "()V" } : Jvm.MethodName) prog_17_method_1_code (1 : Nat) (Option.none : Option Jvm.ClassFile.FieldType)) ∈ lw_all := lw_g (lw_at lw_m1 136 rfl) rfl
theorem q213 : (Jvm.Cond.methodLink "DatedContacts$Walk" (3 : Nat) ({ cls := "java/lang/Object", name := "<init>", desc := "()V" } : Jvm.MethodName)) ∈ lw_all := lw_g (lw_at lw_m1 137 rfl) rfl
theorem q214 : (Jvm.Cond.fieldLink "DatedContacts$Walk" (9 : Nat) "DatedContacts$Walk" "days" "[I") ∈ lw_all := lw_g (lw_at lw_m1 138 rfl) rfl
theorem q216 : (Jvm.Cond.laysFinal "DatedContacts$Walk" "DatedContacts$Walk" "days" "[I") ∈ lw_all := lw_g (lw_at lw_m1 140 rfl) rfl
theorem q217 : (Jvm.Cond.soleField "DatedContacts$Walk" "days") ∈ lw_all := lw_g (lw_at lw_m1 141 rfl) rfl
theorem q218 : (Jvm.Cond.superclass "DatedContacts$Walk" "java/lang/Object") ∈ lw_all := lw_g (lw_at lw_m1 142 rfl) rfl
theorem q1156 : (Jvm.Cond.instanceMethod ({ cls := "DatedContacts$Walk", name := "go", desc := "(LDatedContacts$Net;III)LDatedContacts$Walk;" } : Jvm.MethodName)) ∈ lw_all := lw_g (lw_at lw_m5 120 rfl) rfl
theorem q1157 : (Jvm.Cond.selects "DatedContacts$Walk" ({ cls := "DatedContacts$Walk", name := "go", desc := "(LDatedContacts$Net;III)LDatedContacts$Walk;" } : Jvm.MethodName) ({ cls := "DatedContacts$Walk", name := "go", desc := "(LDatedContacts$Net;III)LDatedContacts$Walk;" } : Jvm.MethodName)) ∈ lw_all := lw_g (lw_at lw_m5 121 rfl) rfl
theorem q1158 : (Jvm.Cond.code ({ cls := "DatedContacts$Walk", name := "go", desc := "(LDatedContacts$Net;III)LDatedContacts$Walk;" } : Jvm.MethodName) prog_17_method_3_code (7 : Nat) (Option.some (Jvm.ClassFile.FieldType.object "DatedContacts$Walk"))) ∈ lw_all := lw_g (lw_at lw_m5 122 rfl) rfl
theorem q1159 : (Jvm.Cond.methodLinkNest "DatedContacts$Walk" (34 : Nat) ({ cls := "DatedContacts", name := "has", desc := "(II)Z" } : Jvm.MethodName) "DatedContacts") ∈ lw_tbl := lw_at lw_m5 123 rfl
theorem q1162 : (Jvm.Cond.methodLink "DatedContacts$Walk" (38 : Nat) ({ cls := "DatedContacts$Walk", name := "meet", desc := "(LDatedContacts$Net;I)V" } : Jvm.MethodName)) ∈ lw_all := lw_g (lw_at lw_m5 126 rfl) rfl
theorem q1163 : (Jvm.Cond.privateMethod ({ cls := "DatedContacts$Walk", name := "meet", desc := "(LDatedContacts$Net;I)V" } : Jvm.MethodName)) ∈ lw_tbl := lw_at lw_m5 127 rfl
theorem q1164 : (Jvm.Cond.instanceMethod ({ cls := "DatedContacts$Walk", name := "meet", desc := "(LDatedContacts$Net;I)V" } : Jvm.MethodName)) ∈ lw_all := lw_g (lw_at lw_m5 128 rfl) rfl
theorem q1165 : (Jvm.Cond.code ({ cls := "DatedContacts$Walk", name := "meet", desc := "(LDatedContacts$Net;I)V" } : Jvm.MethodName) prog_17_method_2_code (7 : Nat) (Option.none : Option Jvm.ClassFile.FieldType)) ∈ lw_all := lw_g (lw_at lw_m5 129 rfl) rfl
theorem q1166 : (Jvm.Cond.methodLink "DatedContacts$Walk" (23 : Nat) ({ cls := "DatedContacts$Net", name := "gives", desc := "(III)Z" } : Jvm.MethodName)) ∈ lw_all := lw_g (lw_at lw_m5 130 rfl) rfl
theorem q1404 : (Jvm.Cond.instanceMethod ({ cls := "DatedContacts$Walk", name := "first", desc := "(I)I" } : Jvm.MethodName)) ∈ lw_all := lw_g (lw_at lw_m6 128 rfl) rfl
theorem q1405 : (Jvm.Cond.selects "DatedContacts$Walk" ({ cls := "DatedContacts$Walk", name := "first", desc := "(I)I" } : Jvm.MethodName) ({ cls := "DatedContacts$Walk", name := "first", desc := "(I)I" } : Jvm.MethodName)) ∈ lw_all := lw_g (lw_at lw_m6 129 rfl) rfl
theorem q1406 : (Jvm.Cond.code ({ cls := "DatedContacts$Walk", name := "first", desc := "(I)I" } : Jvm.MethodName) prog_17_method_4_code (2 : Nat) (Option.some Jvm.ClassFile.FieldType.int)) ∈ lw_all := lw_g (lw_at lw_m6 130 rfl) rfl
theorem q1407 : (Jvm.Cond.methodLink "DatedContacts$Walk" (42 : Nat) ({ cls := "java/lang/Integer", name := "numberOfTrailingZeros", desc := "(I)I" } : Jvm.MethodName)) ∈ lw_all := lw_g (lw_at lw_m6 131 rfl) rfl
theorem q1433 : (Jvm.Cond.instanceMethod ({ cls := "DatedContacts$Walk", name := "many", desc := "()I" } : Jvm.MethodName)) ∈ lw_all := lw_g (lw_at lw_m6 157 rfl) rfl
theorem q1434 : (Jvm.Cond.selects "DatedContacts$Walk" ({ cls := "DatedContacts$Walk", name := "many", desc := "()I" } : Jvm.MethodName) ({ cls := "DatedContacts$Walk", name := "many", desc := "()I" } : Jvm.MethodName)) ∈ lw_all := lw_g (lw_at lw_m6 158 rfl) rfl
theorem q1435 : (Jvm.Cond.code ({ cls := "DatedContacts$Walk", name := "many", desc := "()I" } : Jvm.MethodName) prog_17_method_5_code (3 : Nat) (Option.some Jvm.ClassFile.FieldType.int)) ∈ lw_all := lw_g (lw_at lw_m6 159 rfl) rfl
theorem in_X3 : ∀ w ∈ wsX30, w ∈ lw_all := lw_in wsX30 [216] (by decide +kernel) (by decide +kernel)
/-! DatedContacts$Chains -/
set_option maxRecDepth 100000
def RX4 : String := "DatedContacts$Chains"
def TX4 : u_T := fun k => match k with
  | 0 => ("DatedContacts$Chains", "person", "[I", true)
  | 1 => ("DatedContacts$Chains", "day", "[I", true)
  | 2 => ("DatedContacts$Chains", "by", "[I", true)
  | 3 => ("DatedContacts$Chains", "from", "[I", true)
  | 4 => ("DatedContacts$Chains", "seen", "[I", true)
  | 5 => ("DatedContacts$Chains", "many", "I", false)
  | 6 => ("DatedContacts$Chains", "contact", "[I", true)
  | _ => ("DatedContacts$Chains", "length", "I", false)
def tyX4 : Nat → FieldType := fun k => match k with
  | 0 => .array .int
  | 1 => .array .int
  | 2 => .array .int
  | 3 => .array .int
  | 4 => .array .int
  | 5 => .int
  | 6 => .array .int
  | _ => .int
abbrev wsX40 : List Cond := u_ws RX4 TX4 8
theorem nmX4 : ∀ a, a < 8 → ∀ b, b < 8 → a ≠ b → (TX4 a).2.1 ≠ (TX4 b).2.1 := by decide +kernel
theorem tyX4_ok : ∀ k, k < 8 → parseFieldDescriptor (TX4 k).2.2.1 = some (tyX4 k) := by decide +kernel
abbrev cX4_init : ByteArray := prog_3_method_1_code
def yX4_init : MethodName := ⟨RX4, "<init>", "()V"⟩
def dkwX4_init_2 : List UInt8 := [181, 0, 24, 42, 17, 1, 23, 188, 10, 181, 0, 27, 177]
abbrev dktX4_init_2 : List UInt8 := dkwX4_init_2 ++ []
def dkwX4_init_1 : List UInt8 := [17, 1, 24, 188, 10, 181, 0, 18, 42, 17, 1, 24, 188, 10, 181, 0, 21, 42, 16, 9, 188, 10]
abbrev dktX4_init_1 : List UInt8 := dkwX4_init_1 ++ dktX4_init_2
def dkwX4_init_0 : List UInt8 := [42, 183, 0, 3, 42, 17, 1, 24, 188, 10, 181, 0, 9, 42, 17, 1, 24, 188, 10, 181, 0, 15, 42]
abbrev dktX4_init_0 : List UInt8 := dkwX4_init_0 ++ dktX4_init_1
theorem dksX4_init_0 : cX4_init.data.toList.drop 0 = dktX4_init_0 := by decide +kernel
theorem dksX4_init_1 : cX4_init.data.toList.drop 23 = dktX4_init_1 := dk_seg dksX4_init_0 23 rfl rfl
theorem dksX4_init_2 : cX4_init.data.toList.drop 45 = dktX4_init_2 := dk_seg dksX4_init_1 22 rfl rfl
theorem dX4_init_0 : decode cX4_init 0 = .ok (.aload_n 0, 1) := dk_42 (dk_at dksX4_init_0 0 rfl rfl)
theorem dX4_init_1 : decode cX4_init 1 = .ok (.invokespecial 3, 3) := dk_183 0 3 (dk_at dksX4_init_0 1 rfl rfl)
theorem dX4_init_4 : decode cX4_init 4 = .ok (.aload_n 0, 1) := dk_42 (dk_at dksX4_init_0 4 rfl rfl)
theorem dX4_init_5 : decode cX4_init 5 = .ok (.sipush 280, 3) := dk_17 1 24 (dk_at dksX4_init_0 5 rfl rfl)
theorem dX4_init_8 : decode cX4_init 8 = .ok (.newarray .int, 2) := dk_188_10 (dk_at dksX4_init_0 8 rfl rfl)
theorem dX4_init_10 : decode cX4_init 10 = .ok (.putfield 9, 3) := dk_181 0 9 (dk_at dksX4_init_0 10 rfl rfl)
theorem dX4_init_13 : decode cX4_init 13 = .ok (.aload_n 0, 1) := dk_42 (dk_at dksX4_init_0 13 rfl rfl)
theorem dX4_init_14 : decode cX4_init 14 = .ok (.sipush 280, 3) := dk_17 1 24 (dk_at dksX4_init_0 14 rfl rfl)
theorem dX4_init_17 : decode cX4_init 17 = .ok (.newarray .int, 2) := dk_188_10 (dk_at dksX4_init_0 17 rfl rfl)
theorem dX4_init_19 : decode cX4_init 19 = .ok (.putfield 15, 3) := dk_181 0 15 (dk_at dksX4_init_0 19 rfl rfl)
theorem dX4_init_22 : decode cX4_init 22 = .ok (.aload_n 0, 1) := dk_42 (dk_at dksX4_init_0 22 rfl rfl)
theorem dX4_init_23 : decode cX4_init 23 = .ok (.sipush 280, 3) := dk_17 1 24 (dk_at dksX4_init_1 0 rfl rfl)
theorem dX4_init_26 : decode cX4_init 26 = .ok (.newarray .int, 2) := dk_188_10 (dk_at dksX4_init_1 3 rfl rfl)
theorem dX4_init_28 : decode cX4_init 28 = .ok (.putfield 18, 3) := dk_181 0 18 (dk_at dksX4_init_1 5 rfl rfl)
theorem dX4_init_31 : decode cX4_init 31 = .ok (.aload_n 0, 1) := dk_42 (dk_at dksX4_init_1 8 rfl rfl)
theorem dX4_init_32 : decode cX4_init 32 = .ok (.sipush 280, 3) := dk_17 1 24 (dk_at dksX4_init_1 9 rfl rfl)
theorem dX4_init_35 : decode cX4_init 35 = .ok (.newarray .int, 2) := dk_188_10 (dk_at dksX4_init_1 12 rfl rfl)
theorem dX4_init_37 : decode cX4_init 37 = .ok (.putfield 21, 3) := dk_181 0 21 (dk_at dksX4_init_1 14 rfl rfl)
theorem dX4_init_40 : decode cX4_init 40 = .ok (.aload_n 0, 1) := dk_42 (dk_at dksX4_init_1 17 rfl rfl)
theorem dX4_init_41 : decode cX4_init 41 = .ok (.bipush 9, 2) := dk_16 9 (dk_at dksX4_init_1 18 rfl rfl)
theorem dX4_init_43 : decode cX4_init 43 = .ok (.newarray .int, 2) := dk_188_10 (dk_at dksX4_init_1 20 rfl rfl)
theorem dX4_init_45 : decode cX4_init 45 = .ok (.putfield 24, 3) := dk_181 0 24 (dk_at dksX4_init_2 0 rfl rfl)
theorem dX4_init_48 : decode cX4_init 48 = .ok (.aload_n 0, 1) := dk_42 (dk_at dksX4_init_2 3 rfl rfl)
theorem dX4_init_49 : decode cX4_init 49 = .ok (.sipush 279, 3) := dk_17 1 23 (dk_at dksX4_init_2 4 rfl rfl)
theorem dX4_init_52 : decode cX4_init 52 = .ok (.newarray .int, 2) := dk_188_10 (dk_at dksX4_init_2 7 rfl rfl)
theorem dX4_init_54 : decode cX4_init 54 = .ok (.putfield 27, 3) := dk_181 0 27 (dk_at dksX4_init_2 9 rfl rfl)
theorem dX4_init_57 : decode cX4_init 57 = .ok (.return_, 1) := dk_177 (dk_at dksX4_init_2 12 rfl rfl)
abbrev cX4_find : ByteArray := prog_3_method_4_code
def yX4_find : MethodName := ⟨RX4, "find", "(LDatedContacts$Net;III)Z"⟩
def dkwX4_find_7 : List UInt8 := [21, 6, 42, 180, 0, 18, 21, 7, 46, 79, 42, 180, 0, 21, 21, 7, 46, 54, 7, 167, 255, 218, 4, 172]
abbrev dktX4_find_7 : List UInt8 := dkwX4_find_7 ++ []
def dkwX4_find_6 : List UInt8 := [21, 5, 54, 7, 42, 180, 0, 21, 21, 7, 46, 18, 47, 159, 0, 32, 132, 6, 255, 42, 180, 0, 27]
abbrev dktX4_find_6 : List UInt8 := dkwX4_find_6 ++ dktX4_find_7
def dkwX4_find_5 : List UInt8 := [4, 96, 181, 0, 61, 42, 180, 0, 21, 21, 6, 46, 54, 6, 167, 255, 225, 42, 180, 0, 61, 54, 6]
abbrev dktX4_find_5 : List UInt8 := dkwX4_find_5 ++ dktX4_find_6
def dkwX4_find_4 : List UInt8 := [181, 0, 61, 21, 5, 54, 6, 42, 180, 0, 21, 21, 6, 46, 18, 47, 159, 0, 25, 42, 89, 180, 0, 61]
abbrev dktX4_find_4 : List UInt8 := dkwX4_find_4 ++ dktX4_find_5
def dkwX4_find_3 : List UInt8 := [182, 0, 57, 132, 5, 1, 167, 255, 225, 21, 5, 42, 180, 0, 34, 160, 0, 5, 3, 172, 42, 3]
abbrev dktX4_find_3 : List UInt8 := dkwX4_find_3 ++ dktX4_find_4
def dkwX4_find_2 : List UInt8 := [180, 0, 34, 162, 0, 28, 42, 180, 0, 9, 21, 5, 46, 21, 4, 159, 0, 16, 42, 43, 21, 5]
abbrev dktX4_find_2 : List UInt8 := dkwX4_find_2 ++ dktX4_find_3
def dkwX4_find_1 : List UInt8 := [132, 5, 1, 167, 255, 238, 42, 28, 29, 18, 47, 18, 47, 182, 0, 53, 3, 54, 5, 21, 5, 42]
abbrev dktX4_find_1 : List UInt8 := dkwX4_find_1 ++ dktX4_find_2
def dkwX4_find_0 : List UInt8 := [42, 3, 181, 0, 34, 3, 54, 5, 21, 5, 16, 9, 162, 0, 17, 42, 180, 0, 24, 21, 5, 3, 79]
abbrev dktX4_find_0 : List UInt8 := dkwX4_find_0 ++ dktX4_find_1
theorem dksX4_find_0 : cX4_find.data.toList.drop 0 = dktX4_find_0 := by decide +kernel
theorem dksX4_find_1 : cX4_find.data.toList.drop 23 = dktX4_find_1 := dk_seg dksX4_find_0 23 rfl rfl
theorem dksX4_find_2 : cX4_find.data.toList.drop 45 = dktX4_find_2 := dk_seg dksX4_find_1 22 rfl rfl
theorem dksX4_find_3 : cX4_find.data.toList.drop 67 = dktX4_find_3 := dk_seg dksX4_find_2 22 rfl rfl
theorem dksX4_find_4 : cX4_find.data.toList.drop 89 = dktX4_find_4 := dk_seg dksX4_find_3 22 rfl rfl
theorem dksX4_find_5 : cX4_find.data.toList.drop 113 = dktX4_find_5 := dk_seg dksX4_find_4 24 rfl rfl
theorem dksX4_find_6 : cX4_find.data.toList.drop 136 = dktX4_find_6 := dk_seg dksX4_find_5 23 rfl rfl
theorem dksX4_find_7 : cX4_find.data.toList.drop 159 = dktX4_find_7 := dk_seg dksX4_find_6 23 rfl rfl
theorem dX4_find_0 : decode cX4_find 0 = .ok (.aload_n 0, 1) := dk_42 (dk_at dksX4_find_0 0 rfl rfl)
theorem dX4_find_1 : decode cX4_find 1 = .ok (.iconst 0, 1) := dk_3 (dk_at dksX4_find_0 1 rfl rfl)
theorem dX4_find_2 : decode cX4_find 2 = .ok (.putfield 34, 3) := dk_181 0 34 (dk_at dksX4_find_0 2 rfl rfl)
theorem dX4_find_5 : decode cX4_find 5 = .ok (.iconst 0, 1) := dk_3 (dk_at dksX4_find_0 5 rfl rfl)
theorem dX4_find_6 : decode cX4_find 6 = .ok (.istore 5, 2) := dk_54 5 (dk_at dksX4_find_0 6 rfl rfl)
theorem dX4_find_8 : decode cX4_find 8 = .ok (.iload 5, 2) := dk_21 5 (dk_at dksX4_find_0 8 rfl rfl)
theorem dX4_find_10 : decode cX4_find 10 = .ok (.bipush 9, 2) := dk_16 9 (dk_at dksX4_find_0 10 rfl rfl)
theorem dX4_find_12 : decode cX4_find 12 = .ok (.if_icmp .ge 17, 3) := dk_162 0 17 (dk_at dksX4_find_0 12 rfl rfl)
theorem dX4_find_15 : decode cX4_find 15 = .ok (.aload_n 0, 1) := dk_42 (dk_at dksX4_find_0 15 rfl rfl)
theorem dX4_find_16 : decode cX4_find 16 = .ok (.getfield 24, 3) := dk_180 0 24 (dk_at dksX4_find_0 16 rfl rfl)
theorem dX4_find_19 : decode cX4_find 19 = .ok (.iload 5, 2) := dk_21 5 (dk_at dksX4_find_0 19 rfl rfl)
theorem dX4_find_21 : decode cX4_find 21 = .ok (.iconst 0, 1) := dk_3 (dk_at dksX4_find_0 21 rfl rfl)
theorem dX4_find_22 : decode cX4_find 22 = .ok (.iastore, 1) := dk_79 (dk_at dksX4_find_0 22 rfl rfl)
theorem dX4_find_23 : decode cX4_find 23 = .ok (.iinc 5 1, 3) := dk_132 5 1 (dk_at dksX4_find_1 0 rfl rfl)
theorem dX4_find_26 : decode cX4_find 26 = .ok (.goto (-18), 3) := dk_167 255 238 (dk_at dksX4_find_1 3 rfl rfl)
theorem dX4_find_29 : decode cX4_find 29 = .ok (.aload_n 0, 1) := dk_42 (dk_at dksX4_find_1 6 rfl rfl)
theorem dX4_find_30 : decode cX4_find 30 = .ok (.iload_n 2, 1) := dk_28 (dk_at dksX4_find_1 7 rfl rfl)
theorem dX4_find_31 : decode cX4_find 31 = .ok (.iload_n 3, 1) := dk_29 (dk_at dksX4_find_1 8 rfl rfl)
theorem dX4_find_32 : decode cX4_find 32 = .ok (.ldc 47, 2) := dk_18 47 (dk_at dksX4_find_1 9 rfl rfl)
theorem dX4_find_34 : decode cX4_find 34 = .ok (.ldc 47, 2) := dk_18 47 (dk_at dksX4_find_1 11 rfl rfl)
theorem dX4_find_36 : decode cX4_find 36 = .ok (.invokevirtual 53, 3) := dk_182 0 53 (dk_at dksX4_find_1 13 rfl rfl)
theorem dX4_find_39 : decode cX4_find 39 = .ok (.iconst 0, 1) := dk_3 (dk_at dksX4_find_1 16 rfl rfl)
theorem dX4_find_40 : decode cX4_find 40 = .ok (.istore 5, 2) := dk_54 5 (dk_at dksX4_find_1 17 rfl rfl)
theorem dX4_find_42 : decode cX4_find 42 = .ok (.iload 5, 2) := dk_21 5 (dk_at dksX4_find_1 19 rfl rfl)
theorem dX4_find_44 : decode cX4_find 44 = .ok (.aload_n 0, 1) := dk_42 (dk_at dksX4_find_1 21 rfl rfl)
theorem dX4_find_45 : decode cX4_find 45 = .ok (.getfield 34, 3) := dk_180 0 34 (dk_at dksX4_find_2 0 rfl rfl)
theorem dX4_find_48 : decode cX4_find 48 = .ok (.if_icmp .ge 28, 3) := dk_162 0 28 (dk_at dksX4_find_2 3 rfl rfl)
theorem dX4_find_51 : decode cX4_find 51 = .ok (.aload_n 0, 1) := dk_42 (dk_at dksX4_find_2 6 rfl rfl)
theorem dX4_find_52 : decode cX4_find 52 = .ok (.getfield 9, 3) := dk_180 0 9 (dk_at dksX4_find_2 7 rfl rfl)
theorem dX4_find_55 : decode cX4_find 55 = .ok (.iload 5, 2) := dk_21 5 (dk_at dksX4_find_2 10 rfl rfl)
theorem dX4_find_57 : decode cX4_find 57 = .ok (.iaload, 1) := dk_46 (dk_at dksX4_find_2 12 rfl rfl)
theorem dX4_find_58 : decode cX4_find 58 = .ok (.iload 4, 2) := dk_21 4 (dk_at dksX4_find_2 13 rfl rfl)
theorem dX4_find_60 : decode cX4_find 60 = .ok (.if_icmp .eq 16, 3) := dk_159 0 16 (dk_at dksX4_find_2 15 rfl rfl)
theorem dX4_find_63 : decode cX4_find 63 = .ok (.aload_n 0, 1) := dk_42 (dk_at dksX4_find_2 18 rfl rfl)
theorem dX4_find_64 : decode cX4_find 64 = .ok (.aload_n 1, 1) := dk_43 (dk_at dksX4_find_2 19 rfl rfl)
theorem dX4_find_65 : decode cX4_find 65 = .ok (.iload 5, 2) := dk_21 5 (dk_at dksX4_find_2 20 rfl rfl)
theorem dX4_find_67 : decode cX4_find 67 = .ok (.invokevirtual 57, 3) := dk_182 0 57 (dk_at dksX4_find_3 0 rfl rfl)
theorem dX4_find_70 : decode cX4_find 70 = .ok (.iinc 5 1, 3) := dk_132 5 1 (dk_at dksX4_find_3 3 rfl rfl)
theorem dX4_find_73 : decode cX4_find 73 = .ok (.goto (-31), 3) := dk_167 255 225 (dk_at dksX4_find_3 6 rfl rfl)
theorem dX4_find_76 : decode cX4_find 76 = .ok (.iload 5, 2) := dk_21 5 (dk_at dksX4_find_3 9 rfl rfl)
theorem dX4_find_78 : decode cX4_find 78 = .ok (.aload_n 0, 1) := dk_42 (dk_at dksX4_find_3 11 rfl rfl)
theorem dX4_find_79 : decode cX4_find 79 = .ok (.getfield 34, 3) := dk_180 0 34 (dk_at dksX4_find_3 12 rfl rfl)
theorem dX4_find_82 : decode cX4_find 82 = .ok (.if_icmp .ne 5, 3) := dk_160 0 5 (dk_at dksX4_find_3 15 rfl rfl)
theorem dX4_find_85 : decode cX4_find 85 = .ok (.iconst 0, 1) := dk_3 (dk_at dksX4_find_3 18 rfl rfl)
theorem dX4_find_86 : decode cX4_find 86 = .ok (.ireturn, 1) := dk_172 (dk_at dksX4_find_3 19 rfl rfl)
theorem dX4_find_87 : decode cX4_find 87 = .ok (.aload_n 0, 1) := dk_42 (dk_at dksX4_find_3 20 rfl rfl)
theorem dX4_find_88 : decode cX4_find 88 = .ok (.iconst 0, 1) := dk_3 (dk_at dksX4_find_3 21 rfl rfl)
theorem dX4_find_89 : decode cX4_find 89 = .ok (.putfield 61, 3) := dk_181 0 61 (dk_at dksX4_find_4 0 rfl rfl)
theorem dX4_find_92 : decode cX4_find 92 = .ok (.iload 5, 2) := dk_21 5 (dk_at dksX4_find_4 3 rfl rfl)
theorem dX4_find_94 : decode cX4_find 94 = .ok (.istore 6, 2) := dk_54 6 (dk_at dksX4_find_4 5 rfl rfl)
theorem dX4_find_96 : decode cX4_find 96 = .ok (.aload_n 0, 1) := dk_42 (dk_at dksX4_find_4 7 rfl rfl)
theorem dX4_find_97 : decode cX4_find 97 = .ok (.getfield 21, 3) := dk_180 0 21 (dk_at dksX4_find_4 8 rfl rfl)
theorem dX4_find_100 : decode cX4_find 100 = .ok (.iload 6, 2) := dk_21 6 (dk_at dksX4_find_4 11 rfl rfl)
theorem dX4_find_102 : decode cX4_find 102 = .ok (.iaload, 1) := dk_46 (dk_at dksX4_find_4 13 rfl rfl)
theorem dX4_find_103 : decode cX4_find 103 = .ok (.ldc 47, 2) := dk_18 47 (dk_at dksX4_find_4 14 rfl rfl)
theorem dX4_find_105 : decode cX4_find 105 = .ok (.if_icmp .eq 25, 3) := dk_159 0 25 (dk_at dksX4_find_4 16 rfl rfl)
theorem dX4_find_108 : decode cX4_find 108 = .ok (.aload_n 0, 1) := dk_42 (dk_at dksX4_find_4 19 rfl rfl)
theorem dX4_find_109 : decode cX4_find 109 = .ok (.dup, 1) := dk_89 (dk_at dksX4_find_4 20 rfl rfl)
theorem dX4_find_110 : decode cX4_find 110 = .ok (.getfield 61, 3) := dk_180 0 61 (dk_at dksX4_find_4 21 rfl rfl)
theorem dX4_find_113 : decode cX4_find 113 = .ok (.iconst 1, 1) := dk_4 (dk_at dksX4_find_5 0 rfl rfl)
theorem dX4_find_114 : decode cX4_find 114 = .ok (.iadd, 1) := dk_96 (dk_at dksX4_find_5 1 rfl rfl)
theorem dX4_find_115 : decode cX4_find 115 = .ok (.putfield 61, 3) := dk_181 0 61 (dk_at dksX4_find_5 2 rfl rfl)
theorem dX4_find_118 : decode cX4_find 118 = .ok (.aload_n 0, 1) := dk_42 (dk_at dksX4_find_5 5 rfl rfl)
theorem dX4_find_119 : decode cX4_find 119 = .ok (.getfield 21, 3) := dk_180 0 21 (dk_at dksX4_find_5 6 rfl rfl)
theorem dX4_find_122 : decode cX4_find 122 = .ok (.iload 6, 2) := dk_21 6 (dk_at dksX4_find_5 9 rfl rfl)
theorem dX4_find_124 : decode cX4_find 124 = .ok (.iaload, 1) := dk_46 (dk_at dksX4_find_5 11 rfl rfl)
theorem dX4_find_125 : decode cX4_find 125 = .ok (.istore 6, 2) := dk_54 6 (dk_at dksX4_find_5 12 rfl rfl)
theorem dX4_find_127 : decode cX4_find 127 = .ok (.goto (-31), 3) := dk_167 255 225 (dk_at dksX4_find_5 14 rfl rfl)
theorem dX4_find_130 : decode cX4_find 130 = .ok (.aload_n 0, 1) := dk_42 (dk_at dksX4_find_5 17 rfl rfl)
theorem dX4_find_131 : decode cX4_find 131 = .ok (.getfield 61, 3) := dk_180 0 61 (dk_at dksX4_find_5 18 rfl rfl)
theorem dX4_find_134 : decode cX4_find 134 = .ok (.istore 6, 2) := dk_54 6 (dk_at dksX4_find_5 21 rfl rfl)
theorem dX4_find_136 : decode cX4_find 136 = .ok (.iload 5, 2) := dk_21 5 (dk_at dksX4_find_6 0 rfl rfl)
theorem dX4_find_138 : decode cX4_find 138 = .ok (.istore 7, 2) := dk_54 7 (dk_at dksX4_find_6 2 rfl rfl)
theorem dX4_find_140 : decode cX4_find 140 = .ok (.aload_n 0, 1) := dk_42 (dk_at dksX4_find_6 4 rfl rfl)
theorem dX4_find_141 : decode cX4_find 141 = .ok (.getfield 21, 3) := dk_180 0 21 (dk_at dksX4_find_6 5 rfl rfl)
theorem dX4_find_144 : decode cX4_find 144 = .ok (.iload 7, 2) := dk_21 7 (dk_at dksX4_find_6 8 rfl rfl)
theorem dX4_find_146 : decode cX4_find 146 = .ok (.iaload, 1) := dk_46 (dk_at dksX4_find_6 10 rfl rfl)
theorem dX4_find_147 : decode cX4_find 147 = .ok (.ldc 47, 2) := dk_18 47 (dk_at dksX4_find_6 11 rfl rfl)
theorem dX4_find_149 : decode cX4_find 149 = .ok (.if_icmp .eq 32, 3) := dk_159 0 32 (dk_at dksX4_find_6 13 rfl rfl)
theorem dX4_find_152 : decode cX4_find 152 = .ok (.iinc 6 (-1), 3) := dk_132 6 255 (dk_at dksX4_find_6 16 rfl rfl)
theorem dX4_find_155 : decode cX4_find 155 = .ok (.aload_n 0, 1) := dk_42 (dk_at dksX4_find_6 19 rfl rfl)
theorem dX4_find_156 : decode cX4_find 156 = .ok (.getfield 27, 3) := dk_180 0 27 (dk_at dksX4_find_6 20 rfl rfl)
theorem dX4_find_159 : decode cX4_find 159 = .ok (.iload 6, 2) := dk_21 6 (dk_at dksX4_find_7 0 rfl rfl)
theorem dX4_find_161 : decode cX4_find 161 = .ok (.aload_n 0, 1) := dk_42 (dk_at dksX4_find_7 2 rfl rfl)
theorem dX4_find_162 : decode cX4_find 162 = .ok (.getfield 18, 3) := dk_180 0 18 (dk_at dksX4_find_7 3 rfl rfl)
theorem dX4_find_165 : decode cX4_find 165 = .ok (.iload 7, 2) := dk_21 7 (dk_at dksX4_find_7 6 rfl rfl)
theorem dX4_find_167 : decode cX4_find 167 = .ok (.iaload, 1) := dk_46 (dk_at dksX4_find_7 8 rfl rfl)
theorem dX4_find_168 : decode cX4_find 168 = .ok (.iastore, 1) := dk_79 (dk_at dksX4_find_7 9 rfl rfl)
theorem dX4_find_169 : decode cX4_find 169 = .ok (.aload_n 0, 1) := dk_42 (dk_at dksX4_find_7 10 rfl rfl)
theorem dX4_find_170 : decode cX4_find 170 = .ok (.getfield 21, 3) := dk_180 0 21 (dk_at dksX4_find_7 11 rfl rfl)
theorem dX4_find_173 : decode cX4_find 173 = .ok (.iload 7, 2) := dk_21 7 (dk_at dksX4_find_7 14 rfl rfl)
theorem dX4_find_175 : decode cX4_find 175 = .ok (.iaload, 1) := dk_46 (dk_at dksX4_find_7 16 rfl rfl)
theorem dX4_find_176 : decode cX4_find 176 = .ok (.istore 7, 2) := dk_54 7 (dk_at dksX4_find_7 17 rfl rfl)
theorem dX4_find_178 : decode cX4_find 178 = .ok (.goto (-38), 3) := dk_167 255 218 (dk_at dksX4_find_7 19 rfl rfl)
theorem dX4_find_181 : decode cX4_find 181 = .ok (.iconst 1, 1) := dk_4 (dk_at dksX4_find_7 22 rfl rfl)
theorem dX4_find_182 : decode cX4_find 182 = .ok (.ireturn, 1) := dk_172 (dk_at dksX4_find_7 23 rfl rfl)
abbrev cX4_comes : ByteArray := prog_3_method_2_code
def yX4_comes : MethodName := ⟨RX4, "comes", "(IIII)V"⟩
def dkwX4_comes_3 : List UInt8 := [180, 0, 34, 4, 96, 181, 0, 34, 177]
abbrev dktX4_comes_3 : List UInt8 := dkwX4_comes_3 ++ []
def dkwX4_comes_2 : List UInt8 := [180, 0, 18, 42, 180, 0, 34, 29, 79, 42, 180, 0, 21, 42, 180, 0, 34, 21, 4, 79, 42, 89]
abbrev dktX4_comes_2 : List UInt8 := dkwX4_comes_2 ++ dktX4_comes_3
def dkwX4_comes_1 : List UInt8 := [128, 79, 42, 180, 0, 9, 42, 180, 0, 34, 27, 79, 42, 180, 0, 15, 42, 180, 0, 34, 28, 79, 42]
abbrev dktX4_comes_1 : List UInt8 := dkwX4_comes_1 ++ dktX4_comes_2
def dkwX4_comes_0 : List UInt8 := [42, 180, 0, 24, 27, 46, 28, 184, 0, 30, 153, 0, 4, 177, 42, 180, 0, 24, 27, 92, 46, 4, 28, 120]
abbrev dktX4_comes_0 : List UInt8 := dkwX4_comes_0 ++ dktX4_comes_1
theorem dksX4_comes_0 : cX4_comes.data.toList.drop 0 = dktX4_comes_0 := by decide +kernel
theorem dksX4_comes_1 : cX4_comes.data.toList.drop 24 = dktX4_comes_1 := dk_seg dksX4_comes_0 24 rfl rfl
theorem dksX4_comes_2 : cX4_comes.data.toList.drop 47 = dktX4_comes_2 := dk_seg dksX4_comes_1 23 rfl rfl
theorem dksX4_comes_3 : cX4_comes.data.toList.drop 69 = dktX4_comes_3 := dk_seg dksX4_comes_2 22 rfl rfl
theorem dX4_comes_0 : decode cX4_comes 0 = .ok (.aload_n 0, 1) := dk_42 (dk_at dksX4_comes_0 0 rfl rfl)
theorem dX4_comes_1 : decode cX4_comes 1 = .ok (.getfield 24, 3) := dk_180 0 24 (dk_at dksX4_comes_0 1 rfl rfl)
theorem dX4_comes_4 : decode cX4_comes 4 = .ok (.iload_n 1, 1) := dk_27 (dk_at dksX4_comes_0 4 rfl rfl)
theorem dX4_comes_5 : decode cX4_comes 5 = .ok (.iaload, 1) := dk_46 (dk_at dksX4_comes_0 5 rfl rfl)
theorem dX4_comes_6 : decode cX4_comes 6 = .ok (.iload_n 2, 1) := dk_28 (dk_at dksX4_comes_0 6 rfl rfl)
theorem dX4_comes_7 : decode cX4_comes 7 = .ok (.invokestatic 30, 3) := dk_184 0 30 (dk_at dksX4_comes_0 7 rfl rfl)
theorem dX4_comes_10 : decode cX4_comes 10 = .ok (.ifCond .eq 4, 3) := dk_153 0 4 (dk_at dksX4_comes_0 10 rfl rfl)
theorem dX4_comes_13 : decode cX4_comes 13 = .ok (.return_, 1) := dk_177 (dk_at dksX4_comes_0 13 rfl rfl)
theorem dX4_comes_14 : decode cX4_comes 14 = .ok (.aload_n 0, 1) := dk_42 (dk_at dksX4_comes_0 14 rfl rfl)
theorem dX4_comes_15 : decode cX4_comes 15 = .ok (.getfield 24, 3) := dk_180 0 24 (dk_at dksX4_comes_0 15 rfl rfl)
theorem dX4_comes_18 : decode cX4_comes 18 = .ok (.iload_n 1, 1) := dk_27 (dk_at dksX4_comes_0 18 rfl rfl)
theorem dX4_comes_19 : decode cX4_comes 19 = .ok (.dup2, 1) := dk_92 (dk_at dksX4_comes_0 19 rfl rfl)
theorem dX4_comes_20 : decode cX4_comes 20 = .ok (.iaload, 1) := dk_46 (dk_at dksX4_comes_0 20 rfl rfl)
theorem dX4_comes_21 : decode cX4_comes 21 = .ok (.iconst 1, 1) := dk_4 (dk_at dksX4_comes_0 21 rfl rfl)
theorem dX4_comes_22 : decode cX4_comes 22 = .ok (.iload_n 2, 1) := dk_28 (dk_at dksX4_comes_0 22 rfl rfl)
theorem dX4_comes_23 : decode cX4_comes 23 = .ok (.ishl, 1) := dk_120 (dk_at dksX4_comes_0 23 rfl rfl)
theorem dX4_comes_24 : decode cX4_comes 24 = .ok (.ior, 1) := dk_128 (dk_at dksX4_comes_1 0 rfl rfl)
theorem dX4_comes_25 : decode cX4_comes 25 = .ok (.iastore, 1) := dk_79 (dk_at dksX4_comes_1 1 rfl rfl)
theorem dX4_comes_26 : decode cX4_comes 26 = .ok (.aload_n 0, 1) := dk_42 (dk_at dksX4_comes_1 2 rfl rfl)
theorem dX4_comes_27 : decode cX4_comes 27 = .ok (.getfield 9, 3) := dk_180 0 9 (dk_at dksX4_comes_1 3 rfl rfl)
theorem dX4_comes_30 : decode cX4_comes 30 = .ok (.aload_n 0, 1) := dk_42 (dk_at dksX4_comes_1 6 rfl rfl)
theorem dX4_comes_31 : decode cX4_comes 31 = .ok (.getfield 34, 3) := dk_180 0 34 (dk_at dksX4_comes_1 7 rfl rfl)
theorem dX4_comes_34 : decode cX4_comes 34 = .ok (.iload_n 1, 1) := dk_27 (dk_at dksX4_comes_1 10 rfl rfl)
theorem dX4_comes_35 : decode cX4_comes 35 = .ok (.iastore, 1) := dk_79 (dk_at dksX4_comes_1 11 rfl rfl)
theorem dX4_comes_36 : decode cX4_comes 36 = .ok (.aload_n 0, 1) := dk_42 (dk_at dksX4_comes_1 12 rfl rfl)
theorem dX4_comes_37 : decode cX4_comes 37 = .ok (.getfield 15, 3) := dk_180 0 15 (dk_at dksX4_comes_1 13 rfl rfl)
theorem dX4_comes_40 : decode cX4_comes 40 = .ok (.aload_n 0, 1) := dk_42 (dk_at dksX4_comes_1 16 rfl rfl)
theorem dX4_comes_41 : decode cX4_comes 41 = .ok (.getfield 34, 3) := dk_180 0 34 (dk_at dksX4_comes_1 17 rfl rfl)
theorem dX4_comes_44 : decode cX4_comes 44 = .ok (.iload_n 2, 1) := dk_28 (dk_at dksX4_comes_1 20 rfl rfl)
theorem dX4_comes_45 : decode cX4_comes 45 = .ok (.iastore, 1) := dk_79 (dk_at dksX4_comes_1 21 rfl rfl)
theorem dX4_comes_46 : decode cX4_comes 46 = .ok (.aload_n 0, 1) := dk_42 (dk_at dksX4_comes_1 22 rfl rfl)
theorem dX4_comes_47 : decode cX4_comes 47 = .ok (.getfield 18, 3) := dk_180 0 18 (dk_at dksX4_comes_2 0 rfl rfl)
theorem dX4_comes_50 : decode cX4_comes 50 = .ok (.aload_n 0, 1) := dk_42 (dk_at dksX4_comes_2 3 rfl rfl)
theorem dX4_comes_51 : decode cX4_comes 51 = .ok (.getfield 34, 3) := dk_180 0 34 (dk_at dksX4_comes_2 4 rfl rfl)
theorem dX4_comes_54 : decode cX4_comes 54 = .ok (.iload_n 3, 1) := dk_29 (dk_at dksX4_comes_2 7 rfl rfl)
theorem dX4_comes_55 : decode cX4_comes 55 = .ok (.iastore, 1) := dk_79 (dk_at dksX4_comes_2 8 rfl rfl)
theorem dX4_comes_56 : decode cX4_comes 56 = .ok (.aload_n 0, 1) := dk_42 (dk_at dksX4_comes_2 9 rfl rfl)
theorem dX4_comes_57 : decode cX4_comes 57 = .ok (.getfield 21, 3) := dk_180 0 21 (dk_at dksX4_comes_2 10 rfl rfl)
theorem dX4_comes_60 : decode cX4_comes 60 = .ok (.aload_n 0, 1) := dk_42 (dk_at dksX4_comes_2 13 rfl rfl)
theorem dX4_comes_61 : decode cX4_comes 61 = .ok (.getfield 34, 3) := dk_180 0 34 (dk_at dksX4_comes_2 14 rfl rfl)
theorem dX4_comes_64 : decode cX4_comes 64 = .ok (.iload 4, 2) := dk_21 4 (dk_at dksX4_comes_2 17 rfl rfl)
theorem dX4_comes_66 : decode cX4_comes 66 = .ok (.iastore, 1) := dk_79 (dk_at dksX4_comes_2 19 rfl rfl)
theorem dX4_comes_67 : decode cX4_comes 67 = .ok (.aload_n 0, 1) := dk_42 (dk_at dksX4_comes_2 20 rfl rfl)
theorem dX4_comes_68 : decode cX4_comes 68 = .ok (.dup, 1) := dk_89 (dk_at dksX4_comes_2 21 rfl rfl)
theorem dX4_comes_69 : decode cX4_comes 69 = .ok (.getfield 34, 3) := dk_180 0 34 (dk_at dksX4_comes_3 0 rfl rfl)
theorem dX4_comes_72 : decode cX4_comes 72 = .ok (.iconst 1, 1) := dk_4 (dk_at dksX4_comes_3 3 rfl rfl)
theorem dX4_comes_73 : decode cX4_comes 73 = .ok (.iadd, 1) := dk_96 (dk_at dksX4_comes_3 4 rfl rfl)
theorem dX4_comes_74 : decode cX4_comes 74 = .ok (.putfield 34, 3) := dk_181 0 34 (dk_at dksX4_comes_3 5 rfl rfl)
theorem dX4_comes_77 : decode cX4_comes 77 = .ok (.return_, 1) := dk_177 (dk_at dksX4_comes_3 8 rfl rfl)
abbrev cX4_goOn : ByteArray := prog_3_method_3_code
def yX4_goOn : MethodName := ⟨RX4, "goOn", "(LDatedContacts$Net;I)V"⟩
def dkwX4_goOn_3 : List UInt8 := [167, 255, 189, 177]
abbrev dktX4_goOn_3 : List UInt8 := dkwX4_goOn_3 ++ []
def dkwX4_goOn_2 : List UInt8 := [182, 0, 48, 153, 0, 17, 42, 21, 4, 43, 180, 0, 52, 29, 46, 29, 28, 182, 0, 53, 132, 3, 1]
abbrev dktX4_goOn_2 : List UInt8 := dkwX4_goOn_2 ++ dktX4_goOn_3
def dkwX4_goOn_1 : List UInt8 := [21, 4, 18, 47, 159, 0, 39, 43, 29, 42, 180, 0, 9, 28, 46, 4, 42, 180, 0, 15, 28, 46, 120]
abbrev dktX4_goOn_1 : List UInt8 := dkwX4_goOn_1 ++ dktX4_goOn_2
def dkwX4_goOn_0 : List UInt8 := [3, 62, 29, 43, 180, 0, 38, 162, 0, 65, 43, 29, 42, 180, 0, 9, 28, 46, 182, 0, 43, 54, 4]
abbrev dktX4_goOn_0 : List UInt8 := dkwX4_goOn_0 ++ dktX4_goOn_1
theorem dksX4_goOn_0 : cX4_goOn.data.toList.drop 0 = dktX4_goOn_0 := by decide +kernel
theorem dksX4_goOn_1 : cX4_goOn.data.toList.drop 23 = dktX4_goOn_1 := dk_seg dksX4_goOn_0 23 rfl rfl
theorem dksX4_goOn_2 : cX4_goOn.data.toList.drop 46 = dktX4_goOn_2 := dk_seg dksX4_goOn_1 23 rfl rfl
theorem dksX4_goOn_3 : cX4_goOn.data.toList.drop 69 = dktX4_goOn_3 := dk_seg dksX4_goOn_2 23 rfl rfl
theorem dX4_goOn_0 : decode cX4_goOn 0 = .ok (.iconst 0, 1) := dk_3 (dk_at dksX4_goOn_0 0 rfl rfl)
theorem dX4_goOn_1 : decode cX4_goOn 1 = .ok (.istore_n 3, 1) := dk_62 (dk_at dksX4_goOn_0 1 rfl rfl)
theorem dX4_goOn_2 : decode cX4_goOn 2 = .ok (.iload_n 3, 1) := dk_29 (dk_at dksX4_goOn_0 2 rfl rfl)
theorem dX4_goOn_3 : decode cX4_goOn 3 = .ok (.aload_n 1, 1) := dk_43 (dk_at dksX4_goOn_0 3 rfl rfl)
theorem dX4_goOn_4 : decode cX4_goOn 4 = .ok (.getfield 38, 3) := dk_180 0 38 (dk_at dksX4_goOn_0 4 rfl rfl)
theorem dX4_goOn_7 : decode cX4_goOn 7 = .ok (.if_icmp .ge 65, 3) := dk_162 0 65 (dk_at dksX4_goOn_0 7 rfl rfl)
theorem dX4_goOn_10 : decode cX4_goOn 10 = .ok (.aload_n 1, 1) := dk_43 (dk_at dksX4_goOn_0 10 rfl rfl)
theorem dX4_goOn_11 : decode cX4_goOn 11 = .ok (.iload_n 3, 1) := dk_29 (dk_at dksX4_goOn_0 11 rfl rfl)
theorem dX4_goOn_12 : decode cX4_goOn 12 = .ok (.aload_n 0, 1) := dk_42 (dk_at dksX4_goOn_0 12 rfl rfl)
theorem dX4_goOn_13 : decode cX4_goOn 13 = .ok (.getfield 9, 3) := dk_180 0 9 (dk_at dksX4_goOn_0 13 rfl rfl)
theorem dX4_goOn_16 : decode cX4_goOn 16 = .ok (.iload_n 2, 1) := dk_28 (dk_at dksX4_goOn_0 16 rfl rfl)
theorem dX4_goOn_17 : decode cX4_goOn 17 = .ok (.iaload, 1) := dk_46 (dk_at dksX4_goOn_0 17 rfl rfl)
theorem dX4_goOn_18 : decode cX4_goOn 18 = .ok (.invokevirtual 43, 3) := dk_182 0 43 (dk_at dksX4_goOn_0 18 rfl rfl)
theorem dX4_goOn_21 : decode cX4_goOn 21 = .ok (.istore 4, 2) := dk_54 4 (dk_at dksX4_goOn_0 21 rfl rfl)
theorem dX4_goOn_23 : decode cX4_goOn 23 = .ok (.iload 4, 2) := dk_21 4 (dk_at dksX4_goOn_1 0 rfl rfl)
theorem dX4_goOn_25 : decode cX4_goOn 25 = .ok (.ldc 47, 2) := dk_18 47 (dk_at dksX4_goOn_1 2 rfl rfl)
theorem dX4_goOn_27 : decode cX4_goOn 27 = .ok (.if_icmp .eq 39, 3) := dk_159 0 39 (dk_at dksX4_goOn_1 4 rfl rfl)
theorem dX4_goOn_30 : decode cX4_goOn 30 = .ok (.aload_n 1, 1) := dk_43 (dk_at dksX4_goOn_1 7 rfl rfl)
theorem dX4_goOn_31 : decode cX4_goOn 31 = .ok (.iload_n 3, 1) := dk_29 (dk_at dksX4_goOn_1 8 rfl rfl)
theorem dX4_goOn_32 : decode cX4_goOn 32 = .ok (.aload_n 0, 1) := dk_42 (dk_at dksX4_goOn_1 9 rfl rfl)
theorem dX4_goOn_33 : decode cX4_goOn 33 = .ok (.getfield 9, 3) := dk_180 0 9 (dk_at dksX4_goOn_1 10 rfl rfl)
theorem dX4_goOn_36 : decode cX4_goOn 36 = .ok (.iload_n 2, 1) := dk_28 (dk_at dksX4_goOn_1 13 rfl rfl)
theorem dX4_goOn_37 : decode cX4_goOn 37 = .ok (.iaload, 1) := dk_46 (dk_at dksX4_goOn_1 14 rfl rfl)
theorem dX4_goOn_38 : decode cX4_goOn 38 = .ok (.iconst 1, 1) := dk_4 (dk_at dksX4_goOn_1 15 rfl rfl)
theorem dX4_goOn_39 : decode cX4_goOn 39 = .ok (.aload_n 0, 1) := dk_42 (dk_at dksX4_goOn_1 16 rfl rfl)
theorem dX4_goOn_40 : decode cX4_goOn 40 = .ok (.getfield 15, 3) := dk_180 0 15 (dk_at dksX4_goOn_1 17 rfl rfl)
theorem dX4_goOn_43 : decode cX4_goOn 43 = .ok (.iload_n 2, 1) := dk_28 (dk_at dksX4_goOn_1 20 rfl rfl)
theorem dX4_goOn_44 : decode cX4_goOn 44 = .ok (.iaload, 1) := dk_46 (dk_at dksX4_goOn_1 21 rfl rfl)
theorem dX4_goOn_45 : decode cX4_goOn 45 = .ok (.ishl, 1) := dk_120 (dk_at dksX4_goOn_1 22 rfl rfl)
theorem dX4_goOn_46 : decode cX4_goOn 46 = .ok (.invokevirtual 48, 3) := dk_182 0 48 (dk_at dksX4_goOn_2 0 rfl rfl)
theorem dX4_goOn_49 : decode cX4_goOn 49 = .ok (.ifCond .eq 17, 3) := dk_153 0 17 (dk_at dksX4_goOn_2 3 rfl rfl)
theorem dX4_goOn_52 : decode cX4_goOn 52 = .ok (.aload_n 0, 1) := dk_42 (dk_at dksX4_goOn_2 6 rfl rfl)
theorem dX4_goOn_53 : decode cX4_goOn 53 = .ok (.iload 4, 2) := dk_21 4 (dk_at dksX4_goOn_2 7 rfl rfl)
theorem dX4_goOn_55 : decode cX4_goOn 55 = .ok (.aload_n 1, 1) := dk_43 (dk_at dksX4_goOn_2 9 rfl rfl)
theorem dX4_goOn_56 : decode cX4_goOn 56 = .ok (.getfield 52, 3) := dk_180 0 52 (dk_at dksX4_goOn_2 10 rfl rfl)
theorem dX4_goOn_59 : decode cX4_goOn 59 = .ok (.iload_n 3, 1) := dk_29 (dk_at dksX4_goOn_2 13 rfl rfl)
theorem dX4_goOn_60 : decode cX4_goOn 60 = .ok (.iaload, 1) := dk_46 (dk_at dksX4_goOn_2 14 rfl rfl)
theorem dX4_goOn_61 : decode cX4_goOn 61 = .ok (.iload_n 3, 1) := dk_29 (dk_at dksX4_goOn_2 15 rfl rfl)
theorem dX4_goOn_62 : decode cX4_goOn 62 = .ok (.iload_n 2, 1) := dk_28 (dk_at dksX4_goOn_2 16 rfl rfl)
theorem dX4_goOn_63 : decode cX4_goOn 63 = .ok (.invokevirtual 53, 3) := dk_182 0 53 (dk_at dksX4_goOn_2 17 rfl rfl)
theorem dX4_goOn_66 : decode cX4_goOn 66 = .ok (.iinc 3 1, 3) := dk_132 3 1 (dk_at dksX4_goOn_2 20 rfl rfl)
theorem dX4_goOn_69 : decode cX4_goOn 69 = .ok (.goto (-67), 3) := dk_167 255 189 (dk_at dksX4_goOn_3 0 rfl rfl)
theorem dX4_goOn_72 : decode cX4_goOn 72 = .ok (.return_, 1) := dk_177 (dk_at dksX4_goOn_3 3 rfl rfl)
abbrev cX4_written : ByteArray := prog_3_method_5_code
def yX4_written : MethodName := ⟨RX4, "written", "(LDatedContacts$Net;I)Ljava/lang/CharSequence;"⟩
def dkwX4_written_5 : List UInt8 := [21, 7, 182, 0, 73, 182, 0, 76, 182, 0, 69, 87, 21, 7, 54, 4, 132, 5, 1, 167, 255, 154, 45, 176]
abbrev dktX4_written_5 : List UInt8 := dkwX4_written_5 ++ []
def dkwX4_written_4 : List UInt8 := [183, 0, 66, 18, 89, 182, 0, 69, 43, 180, 0, 52, 21, 6, 46, 182, 0, 73, 18, 91, 182, 0, 69]
abbrev dktX4_written_4 : List UInt8 := dkwX4_written_4 ++ dktX4_written_5
def dkwX4_written_3 : List UInt8 := [21, 4, 160, 0, 8, 16, 62, 167, 0, 5, 16, 60, 182, 0, 86, 21, 6, 182, 0, 73, 187, 0, 64, 89]
abbrev dktX4_written_3 : List UInt8 := dkwX4_written_3 ++ dktX4_written_4
def dkwX4_written_2 : List UInt8 := [21, 5, 46, 54, 6, 43, 21, 6, 21, 4, 182, 0, 43, 54, 7, 45, 43, 180, 0, 83, 21, 6, 46]
abbrev dktX4_written_2 : List UInt8 := dkwX4_written_2 ++ dktX4_written_3
def dkwX4_written_1 : List UInt8 := [183, 0, 80, 78, 28, 54, 4, 3, 54, 5, 21, 5, 42, 180, 0, 61, 162, 0, 99, 42, 180, 0, 27]
abbrev dktX4_written_1 : List UInt8 := dkwX4_written_1 ++ dktX4_written_2
def dkwX4_written_0 : List UInt8 := [187, 0, 64, 89, 187, 0, 64, 89, 183, 0, 66, 18, 67, 182, 0, 69, 28, 182, 0, 73, 182, 0, 76]
abbrev dktX4_written_0 : List UInt8 := dkwX4_written_0 ++ dktX4_written_1
theorem dksX4_written_0 : cX4_written.data.toList.drop 0 = dktX4_written_0 := by decide +kernel
theorem dksX4_written_1 : cX4_written.data.toList.drop 23 = dktX4_written_1 := dk_seg dksX4_written_0 23 rfl rfl
theorem dksX4_written_2 : cX4_written.data.toList.drop 46 = dktX4_written_2 := dk_seg dksX4_written_1 23 rfl rfl
theorem dksX4_written_3 : cX4_written.data.toList.drop 69 = dktX4_written_3 := dk_seg dksX4_written_2 23 rfl rfl
theorem dksX4_written_4 : cX4_written.data.toList.drop 93 = dktX4_written_4 := dk_seg dksX4_written_3 24 rfl rfl
theorem dksX4_written_5 : cX4_written.data.toList.drop 116 = dktX4_written_5 := dk_seg dksX4_written_4 23 rfl rfl
theorem dX4_written_0 : decode cX4_written 0 = .ok (.new 64, 3) := dk_187 0 64 (dk_at dksX4_written_0 0 rfl rfl)
theorem dX4_written_3 : decode cX4_written 3 = .ok (.dup, 1) := dk_89 (dk_at dksX4_written_0 3 rfl rfl)
theorem dX4_written_4 : decode cX4_written 4 = .ok (.new 64, 3) := dk_187 0 64 (dk_at dksX4_written_0 4 rfl rfl)
theorem dX4_written_7 : decode cX4_written 7 = .ok (.dup, 1) := dk_89 (dk_at dksX4_written_0 7 rfl rfl)
theorem dX4_written_8 : decode cX4_written 8 = .ok (.invokespecial 66, 3) := dk_183 0 66 (dk_at dksX4_written_0 8 rfl rfl)
theorem dX4_written_11 : decode cX4_written 11 = .ok (.ldc 67, 2) := dk_18 67 (dk_at dksX4_written_0 11 rfl rfl)
theorem dX4_written_13 : decode cX4_written 13 = .ok (.invokevirtual 69, 3) := dk_182 0 69 (dk_at dksX4_written_0 13 rfl rfl)
theorem dX4_written_16 : decode cX4_written 16 = .ok (.iload_n 2, 1) := dk_28 (dk_at dksX4_written_0 16 rfl rfl)
theorem dX4_written_17 : decode cX4_written 17 = .ok (.invokevirtual 73, 3) := dk_182 0 73 (dk_at dksX4_written_0 17 rfl rfl)
theorem dX4_written_20 : decode cX4_written 20 = .ok (.invokevirtual 76, 3) := dk_182 0 76 (dk_at dksX4_written_0 20 rfl rfl)
theorem dX4_written_23 : decode cX4_written 23 = .ok (.invokespecial 80, 3) := dk_183 0 80 (dk_at dksX4_written_1 0 rfl rfl)
theorem dX4_written_26 : decode cX4_written 26 = .ok (.astore_n 3, 1) := dk_78 (dk_at dksX4_written_1 3 rfl rfl)
theorem dX4_written_27 : decode cX4_written 27 = .ok (.iload_n 2, 1) := dk_28 (dk_at dksX4_written_1 4 rfl rfl)
theorem dX4_written_28 : decode cX4_written 28 = .ok (.istore 4, 2) := dk_54 4 (dk_at dksX4_written_1 5 rfl rfl)
theorem dX4_written_30 : decode cX4_written 30 = .ok (.iconst 0, 1) := dk_3 (dk_at dksX4_written_1 7 rfl rfl)
theorem dX4_written_31 : decode cX4_written 31 = .ok (.istore 5, 2) := dk_54 5 (dk_at dksX4_written_1 8 rfl rfl)
theorem dX4_written_33 : decode cX4_written 33 = .ok (.iload 5, 2) := dk_21 5 (dk_at dksX4_written_1 10 rfl rfl)
theorem dX4_written_35 : decode cX4_written 35 = .ok (.aload_n 0, 1) := dk_42 (dk_at dksX4_written_1 12 rfl rfl)
theorem dX4_written_36 : decode cX4_written 36 = .ok (.getfield 61, 3) := dk_180 0 61 (dk_at dksX4_written_1 13 rfl rfl)
theorem dX4_written_39 : decode cX4_written 39 = .ok (.if_icmp .ge 99, 3) := dk_162 0 99 (dk_at dksX4_written_1 16 rfl rfl)
theorem dX4_written_42 : decode cX4_written 42 = .ok (.aload_n 0, 1) := dk_42 (dk_at dksX4_written_1 19 rfl rfl)
theorem dX4_written_43 : decode cX4_written 43 = .ok (.getfield 27, 3) := dk_180 0 27 (dk_at dksX4_written_1 20 rfl rfl)
theorem dX4_written_46 : decode cX4_written 46 = .ok (.iload 5, 2) := dk_21 5 (dk_at dksX4_written_2 0 rfl rfl)
theorem dX4_written_48 : decode cX4_written 48 = .ok (.iaload, 1) := dk_46 (dk_at dksX4_written_2 2 rfl rfl)
theorem dX4_written_49 : decode cX4_written 49 = .ok (.istore 6, 2) := dk_54 6 (dk_at dksX4_written_2 3 rfl rfl)
theorem dX4_written_51 : decode cX4_written 51 = .ok (.aload_n 1, 1) := dk_43 (dk_at dksX4_written_2 5 rfl rfl)
theorem dX4_written_52 : decode cX4_written 52 = .ok (.iload 6, 2) := dk_21 6 (dk_at dksX4_written_2 6 rfl rfl)
theorem dX4_written_54 : decode cX4_written 54 = .ok (.iload 4, 2) := dk_21 4 (dk_at dksX4_written_2 8 rfl rfl)
theorem dX4_written_56 : decode cX4_written 56 = .ok (.invokevirtual 43, 3) := dk_182 0 43 (dk_at dksX4_written_2 10 rfl rfl)
theorem dX4_written_59 : decode cX4_written 59 = .ok (.istore 7, 2) := dk_54 7 (dk_at dksX4_written_2 13 rfl rfl)
theorem dX4_written_61 : decode cX4_written 61 = .ok (.aload_n 3, 1) := dk_45 (dk_at dksX4_written_2 15 rfl rfl)
theorem dX4_written_62 : decode cX4_written 62 = .ok (.aload_n 1, 1) := dk_43 (dk_at dksX4_written_2 16 rfl rfl)
theorem dX4_written_63 : decode cX4_written 63 = .ok (.getfield 83, 3) := dk_180 0 83 (dk_at dksX4_written_2 17 rfl rfl)
theorem dX4_written_66 : decode cX4_written 66 = .ok (.iload 6, 2) := dk_21 6 (dk_at dksX4_written_2 20 rfl rfl)
theorem dX4_written_68 : decode cX4_written 68 = .ok (.iaload, 1) := dk_46 (dk_at dksX4_written_2 22 rfl rfl)
theorem dX4_written_69 : decode cX4_written 69 = .ok (.iload 4, 2) := dk_21 4 (dk_at dksX4_written_3 0 rfl rfl)
theorem dX4_written_71 : decode cX4_written 71 = .ok (.if_icmp .ne 8, 3) := dk_160 0 8 (dk_at dksX4_written_3 2 rfl rfl)
theorem dX4_written_74 : decode cX4_written 74 = .ok (.bipush 62, 2) := dk_16 62 (dk_at dksX4_written_3 5 rfl rfl)
theorem dX4_written_76 : decode cX4_written 76 = .ok (.goto 5, 3) := dk_167 0 5 (dk_at dksX4_written_3 7 rfl rfl)
theorem dX4_written_79 : decode cX4_written 79 = .ok (.bipush 60, 2) := dk_16 60 (dk_at dksX4_written_3 10 rfl rfl)
theorem dX4_written_81 : decode cX4_written 81 = .ok (.invokevirtual 86, 3) := dk_182 0 86 (dk_at dksX4_written_3 12 rfl rfl)
theorem dX4_written_84 : decode cX4_written 84 = .ok (.iload 6, 2) := dk_21 6 (dk_at dksX4_written_3 15 rfl rfl)
theorem dX4_written_86 : decode cX4_written 86 = .ok (.invokevirtual 73, 3) := dk_182 0 73 (dk_at dksX4_written_3 17 rfl rfl)
theorem dX4_written_89 : decode cX4_written 89 = .ok (.new 64, 3) := dk_187 0 64 (dk_at dksX4_written_3 20 rfl rfl)
theorem dX4_written_92 : decode cX4_written 92 = .ok (.dup, 1) := dk_89 (dk_at dksX4_written_3 23 rfl rfl)
theorem dX4_written_93 : decode cX4_written 93 = .ok (.invokespecial 66, 3) := dk_183 0 66 (dk_at dksX4_written_4 0 rfl rfl)
theorem dX4_written_96 : decode cX4_written 96 = .ok (.ldc 89, 2) := dk_18 89 (dk_at dksX4_written_4 3 rfl rfl)
theorem dX4_written_98 : decode cX4_written 98 = .ok (.invokevirtual 69, 3) := dk_182 0 69 (dk_at dksX4_written_4 5 rfl rfl)
theorem dX4_written_101 : decode cX4_written 101 = .ok (.aload_n 1, 1) := dk_43 (dk_at dksX4_written_4 8 rfl rfl)
theorem dX4_written_102 : decode cX4_written 102 = .ok (.getfield 52, 3) := dk_180 0 52 (dk_at dksX4_written_4 9 rfl rfl)
theorem dX4_written_105 : decode cX4_written 105 = .ok (.iload 6, 2) := dk_21 6 (dk_at dksX4_written_4 12 rfl rfl)
theorem dX4_written_107 : decode cX4_written 107 = .ok (.iaload, 1) := dk_46 (dk_at dksX4_written_4 14 rfl rfl)
theorem dX4_written_108 : decode cX4_written 108 = .ok (.invokevirtual 73, 3) := dk_182 0 73 (dk_at dksX4_written_4 15 rfl rfl)
theorem dX4_written_111 : decode cX4_written 111 = .ok (.ldc 91, 2) := dk_18 91 (dk_at dksX4_written_4 18 rfl rfl)
theorem dX4_written_113 : decode cX4_written 113 = .ok (.invokevirtual 69, 3) := dk_182 0 69 (dk_at dksX4_written_4 20 rfl rfl)
theorem dX4_written_116 : decode cX4_written 116 = .ok (.iload 7, 2) := dk_21 7 (dk_at dksX4_written_5 0 rfl rfl)
theorem dX4_written_118 : decode cX4_written 118 = .ok (.invokevirtual 73, 3) := dk_182 0 73 (dk_at dksX4_written_5 2 rfl rfl)
theorem dX4_written_121 : decode cX4_written 121 = .ok (.invokevirtual 76, 3) := dk_182 0 76 (dk_at dksX4_written_5 5 rfl rfl)
theorem dX4_written_124 : decode cX4_written 124 = .ok (.invokevirtual 69, 3) := dk_182 0 69 (dk_at dksX4_written_5 8 rfl rfl)
theorem dX4_written_127 : decode cX4_written 127 = .ok (.pop, 1) := dk_87 (dk_at dksX4_written_5 11 rfl rfl)
theorem dX4_written_128 : decode cX4_written 128 = .ok (.iload 7, 2) := dk_21 7 (dk_at dksX4_written_5 12 rfl rfl)
theorem dX4_written_130 : decode cX4_written 130 = .ok (.istore 4, 2) := dk_54 4 (dk_at dksX4_written_5 14 rfl rfl)
theorem dX4_written_132 : decode cX4_written 132 = .ok (.iinc 5 1, 3) := dk_132 5 1 (dk_at dksX4_written_5 16 rfl rfl)
theorem dX4_written_135 : decode cX4_written 135 = .ok (.goto (-102), 3) := dk_167 255 154 (dk_at dksX4_written_5 19 rfl rfl)
theorem dX4_written_138 : decode cX4_written 138 = .ok (.aload_n 3, 1) := dk_45 (dk_at dksX4_written_5 22 rfl rfl)
theorem dX4_written_139 : decode cX4_written 139 = .ok (.areturn, 1) := dk_176 (dk_at dksX4_written_5 23 rfl rfl)
theorem q81 : (Jvm.Cond.initialized "DatedContacts$Chains") ∈ lw_all := lw_g (lw_at lw_m1 5 rfl) rfl
theorem q154 : (Jvm.Cond.fieldLink "DatedContacts$Chains" (38 : Nat) "DatedContacts$Net" "contacts" "I") ∈ lw_all := lw_g (lw_at lw_m1 78 rfl) rfl
theorem q172 : (Jvm.Cond.fieldLink "DatedContacts$Chains" (83 : Nat) "DatedContacts$Net" "a" "[I") ∈ lw_all := lw_g (lw_at lw_m1 96 rfl) rfl
theorem q181 : (Jvm.Cond.fieldLink "DatedContacts$Chains" (52 : Nat) "DatedContacts$Net" "day" "[I") ∈ lw_all := lw_g (lw_at lw_m1 105 rfl) rfl
theorem q220 : (Jvm.Cond.instantiable "DatedContacts$Chains" (8 : Nat)) ∈ lw_all := lw_g (lw_at lw_m1 144 rfl) rfl
theorem q222 : (Jvm.Cond.instanceMethod ({ cls := "DatedContacts$Chains", name := "<init>", desc := "()V" } : Jvm.MethodName)) ∈ lw_all := lw_g (lw_at lw_m1 146 rfl) rfl
theorem q223 : (Jvm.Cond.code ({ cls := "DatedContacts$Chains", name := "<init>", desc := "()V" } : Jvm.MethodName) prog_3_method_1_code (1 : Nat) (Option.none : Option Jvm.ClassFile.FieldType)) ∈ lw_all := lw_g (lw_at lw_m1 147 rfl) rfl
theorem q224 : (Jvm.Cond.methodLink "DatedContacts$Chains" (3 : Nat) ({ cls := "java/lang/Object", name := "<init>", desc := "()V" } : Jvm.MethodName)) ∈ lw_all := lw_g (lw_at lw_m1 148 rfl) rfl
theorem q225 : (Jvm.Cond.fieldLink "DatedContacts$Chains" (9 : Nat) "DatedContacts$Chains" "person" "[I") ∈ lw_all := lw_g (lw_at lw_m1 149 rfl) rfl
theorem q226 : (Jvm.Cond.fieldLink "DatedContacts$Chains" (15 : Nat) "DatedContacts$Chains" "day" "[I") ∈ lw_all := lw_g (lw_at lw_m1 150 rfl) rfl
theorem q227 : (Jvm.Cond.fieldLink "DatedContacts$Chains" (18 : Nat) "DatedContacts$Chains" "by" "[I") ∈ lw_all := lw_g (lw_at lw_m1 151 rfl) rfl
theorem q228 : (Jvm.Cond.fieldLink "DatedContacts$Chains" (21 : Nat) "DatedContacts$Chains" "from" "[I") ∈ lw_all := lw_g (lw_at lw_m1 152 rfl) rfl
theorem q229 : (Jvm.Cond.fieldLink "DatedContacts$Chains" (24 : Nat) "DatedContacts$Chains" "seen" "[I") ∈ lw_all := lw_g (lw_at lw_m1 153 rfl) rfl
theorem q230 : (Jvm.Cond.fieldLink "DatedContacts$Chains" (34 : Nat) "DatedContacts$Chains" "many" "I") ∈ lw_all := lw_g (lw_at lw_m1 154 rfl) rfl
theorem q231 : (Jvm.Cond.fieldLink "DatedContacts$Chains" (27 : Nat) "DatedContacts$Chains" "contact" "[I") ∈ lw_all := lw_g (lw_at lw_m1 155 rfl) rfl
theorem q233 : (Jvm.Cond.fieldLink "DatedContacts$Chains" (61 : Nat) "DatedContacts$Chains" "length" "I") ∈ lw_all := lw_g (lw_at lw_m1 157 rfl) rfl
theorem q235 : (Jvm.Cond.laysFinal "DatedContacts$Chains" "DatedContacts$Chains" "person" "[I") ∈ lw_all := lw_g (lw_at lw_m1 159 rfl) rfl
theorem q236 : (Jvm.Cond.soleField "DatedContacts$Chains" "person") ∈ lw_all := lw_g (lw_at lw_m1 160 rfl) rfl
theorem q237 : (Jvm.Cond.laysFinal "DatedContacts$Chains" "DatedContacts$Chains" "day" "[I") ∈ lw_all := lw_g (lw_at lw_m1 161 rfl) rfl
theorem q238 : (Jvm.Cond.soleField "DatedContacts$Chains" "day") ∈ lw_all := lw_g (lw_at lw_m1 162 rfl) rfl
theorem q239 : (Jvm.Cond.laysFinal "DatedContacts$Chains" "DatedContacts$Chains" "by" "[I") ∈ lw_all := lw_g (lw_at lw_m1 163 rfl) rfl
theorem q240 : (Jvm.Cond.soleField "DatedContacts$Chains" "by") ∈ lw_all := lw_g (lw_at lw_m1 164 rfl) rfl
theorem q241 : (Jvm.Cond.laysFinal "DatedContacts$Chains" "DatedContacts$Chains" "from" "[I") ∈ lw_all := lw_g (lw_at lw_m1 165 rfl) rfl
theorem q242 : (Jvm.Cond.soleField "DatedContacts$Chains" "from") ∈ lw_all := lw_g (lw_at lw_m1 166 rfl) rfl
theorem q243 : (Jvm.Cond.laysFinal "DatedContacts$Chains" "DatedContacts$Chains" "seen" "[I") ∈ lw_all := lw_g (lw_at lw_m1 167 rfl) rfl
theorem q244 : (Jvm.Cond.soleField "DatedContacts$Chains" "seen") ∈ lw_all := lw_g (lw_at lw_m1 168 rfl) rfl
theorem q245 : (Jvm.Cond.lays "DatedContacts$Chains" "DatedContacts$Chains" "many" "I") ∈ lw_all := lw_g (lw_at lw_m1 169 rfl) rfl
theorem q246 : (Jvm.Cond.soleField "DatedContacts$Chains" "many") ∈ lw_all := lw_g (lw_at lw_m1 170 rfl) rfl
theorem q247 : (Jvm.Cond.laysFinal "DatedContacts$Chains" "DatedContacts$Chains" "contact" "[I") ∈ lw_all := lw_g (lw_at lw_m1 171 rfl) rfl
theorem q248 : (Jvm.Cond.soleField "DatedContacts$Chains" "contact") ∈ lw_all := lw_g (lw_at lw_m1 172 rfl) rfl
theorem q249 : (Jvm.Cond.lays "DatedContacts$Chains" "DatedContacts$Chains" "length" "I") ∈ lw_all := lw_g (lw_at lw_m1 173 rfl) rfl
theorem q250 : (Jvm.Cond.soleField "DatedContacts$Chains" "length") ∈ lw_all := lw_g (lw_at lw_m1 174 rfl) rfl
theorem q251 : (Jvm.Cond.superclass "DatedContacts$Chains" "java/lang/Object") ∈ lw_all := lw_g (lw_at lw_m1 175 rfl) rfl
theorem q1216 : (Jvm.Cond.instanceMethod ({ cls := "DatedContacts$Chains", name := "find", desc := "(LDatedContacts$Net;III)Z" } : Jvm.MethodName)) ∈ lw_all := lw_g (lw_at lw_m5 180 rfl) rfl
theorem q1217 : (Jvm.Cond.selects "DatedContacts$Chains" ({ cls := "DatedContacts$Chains", name := "find", desc := "(LDatedContacts$Net;III)Z" } : Jvm.MethodName) ({ cls := "DatedContacts$Chains", name := "find", desc := "(LDatedContacts$Net;III)Z" } : Jvm.MethodName)) ∈ lw_all := lw_g (lw_at lw_m5 181 rfl) rfl
theorem q1218 : (Jvm.Cond.code ({ cls := "DatedContacts$Chains", name := "find", desc := "(LDatedContacts$Net;III)Z" } : Jvm.MethodName) prog_3_method_4_code (8 : Nat) (Option.some Jvm.ClassFile.FieldType.boolean)) ∈ lw_all := lw_g (lw_at lw_m5 182 rfl) rfl
theorem q1219 : (Jvm.Cond.constant "DatedContacts$Chains" (47 : Nat) (-1000000 : Int32)) ∈ lw_all := lw_g (lw_at lw_m5 183 rfl) rfl
theorem q1220 : (Jvm.Cond.methodLink "DatedContacts$Chains" (53 : Nat) ({ cls := "DatedContacts$Chains", name := "comes", desc := "(IIII)V" } : Jvm.MethodName)) ∈ lw_all := lw_g (lw_at lw_m5 184 rfl) rfl
theorem q1221 : (Jvm.Cond.privateMethod ({ cls := "DatedContacts$Chains", name := "comes", desc := "(IIII)V" } : Jvm.MethodName)) ∈ lw_tbl := lw_at lw_m5 185 rfl
theorem q1222 : (Jvm.Cond.instanceMethod ({ cls := "DatedContacts$Chains", name := "comes", desc := "(IIII)V" } : Jvm.MethodName)) ∈ lw_all := lw_g (lw_at lw_m5 186 rfl) rfl
theorem q1223 : (Jvm.Cond.code ({ cls := "DatedContacts$Chains", name := "comes", desc := "(IIII)V" } : Jvm.MethodName) prog_3_method_2_code (5 : Nat) (Option.none : Option Jvm.ClassFile.FieldType)) ∈ lw_all := lw_g (lw_at lw_m5 187 rfl) rfl
theorem q1224 : (Jvm.Cond.methodLinkNest "DatedContacts$Chains" (30 : Nat) ({ cls := "DatedContacts", name := "has", desc := "(II)Z" } : Jvm.MethodName) "DatedContacts") ∈ lw_tbl := lw_at lw_m5 188 rfl
theorem q1225 : (Jvm.Cond.methodLink "DatedContacts$Chains" (57 : Nat) ({ cls := "DatedContacts$Chains", name := "goOn", desc := "(LDatedContacts$Net;I)V" } : Jvm.MethodName)) ∈ lw_all := lw_g (lw_at lw_m5 189 rfl) rfl
theorem q1226 : (Jvm.Cond.privateMethod ({ cls := "DatedContacts$Chains", name := "goOn", desc := "(LDatedContacts$Net;I)V" } : Jvm.MethodName)) ∈ lw_tbl := lw_at lw_m5 190 rfl
theorem q1227 : (Jvm.Cond.instanceMethod ({ cls := "DatedContacts$Chains", name := "goOn", desc := "(LDatedContacts$Net;I)V" } : Jvm.MethodName)) ∈ lw_all := lw_g (lw_at lw_m5 191 rfl) rfl
theorem q1228 : (Jvm.Cond.code ({ cls := "DatedContacts$Chains", name := "goOn", desc := "(LDatedContacts$Net;I)V" } : Jvm.MethodName) prog_3_method_3_code (5 : Nat) (Option.none : Option Jvm.ClassFile.FieldType)) ∈ lw_all := lw_g (lw_at lw_m5 192 rfl) rfl
theorem q1229 : (Jvm.Cond.methodLink "DatedContacts$Chains" (43 : Nat) ({ cls := "DatedContacts$Net", name := "otherOf", desc := "(II)I" } : Jvm.MethodName)) ∈ lw_all := lw_g (lw_at lw_m5 193 rfl) rfl
theorem q1230 : (Jvm.Cond.methodLink "DatedContacts$Chains" (48 : Nat) ({ cls := "DatedContacts$Net", name := "gives", desc := "(III)Z" } : Jvm.MethodName)) ∈ lw_all := lw_g (lw_at lw_m5 194 rfl) rfl
theorem q1236 : (Jvm.Cond.instanceMethod ({ cls := "DatedContacts$Chains", name := "written", desc := "(LDatedContacts$Net;I)Ljava/lang/CharSequence;" } : Jvm.MethodName)) ∈ lw_all := lw_g (lw_at lw_m5 200 rfl) rfl
theorem q1237 : (Jvm.Cond.selects "DatedContacts$Chains" ({ cls := "DatedContacts$Chains", name := "written", desc := "(LDatedContacts$Net;I)Ljava/lang/CharSequence;" } : Jvm.MethodName) ({ cls := "DatedContacts$Chains", name := "written", desc := "(LDatedContacts$Net;I)Ljava/lang/CharSequence;" } : Jvm.MethodName)) ∈ lw_all := lw_g (lw_at lw_m5 201 rfl) rfl
theorem q1238 : (Jvm.Cond.code ({ cls := "DatedContacts$Chains", name := "written", desc := "(LDatedContacts$Net;I)Ljava/lang/CharSequence;" } : Jvm.MethodName) prog_3_method_5_code (8 : Nat) (Option.some (Jvm.ClassFile.FieldType.object "java/lang/CharSequence"))) ∈ lw_all := lw_g (lw_at lw_m5 202 rfl) rfl
theorem q1239 : (Jvm.Cond.classLink "DatedContacts$Chains" (64 : Nat) "java/lang/StringBuilder") ∈ lw_all := lw_g (lw_at lw_m5 203 rfl) rfl
theorem q1240 : (Jvm.Cond.methodLink "DatedContacts$Chains" (66 : Nat) ({ cls := "java/lang/StringBuilder", name := "<init>", desc := "()V" } : Jvm.MethodName)) ∈ lw_all := lw_g (lw_at lw_m5 204 rfl) rfl
theorem q1241 : (Jvm.Cond.stringRef "DatedContacts$Chains" (67 : Nat) "") ∈ lw_tbl := lw_at lw_m5 205 rfl
theorem q1242 : (Jvm.Cond.methodLink "DatedContacts$Chains" (69 : Nat) ({ cls := "java/lang/StringBuilder", name := "append", desc := "(Ljava/lang/String;)Ljava/lang/StringBuilder;" } : Jvm.MethodName)) ∈ lw_all := lw_g (lw_at lw_m5 206 rfl) rfl
theorem q1243 : (Jvm.Cond.methodLink "DatedContacts$Chains" (73 : Nat) ({ cls := "java/lang/StringBuilder", name := "append", desc := "(I)Ljava/lang/StringBuilder;" } : Jvm.MethodName)) ∈ lw_all := lw_g (lw_at lw_m5 207 rfl) rfl
theorem q1268 : (Jvm.Cond.methodLink "DatedContacts$Chains" (76 : Nat) ({ cls := "java/lang/StringBuilder", name := "toString", desc := "()Ljava/lang/String;" } : Jvm.MethodName)) ∈ lw_all := lw_g (lw_at lw_m5 232 rfl) rfl
theorem q1269 : (Jvm.Cond.methodLink "DatedContacts$Chains" (80 : Nat) ({ cls := "java/lang/StringBuilder", name := "<init>", desc := "(Ljava/lang/String;)V" } : Jvm.MethodName)) ∈ lw_all := lw_g (lw_at lw_m5 233 rfl) rfl
theorem q1280 : (Jvm.Cond.methodLink "DatedContacts$Chains" (86 : Nat) ({ cls := "java/lang/StringBuilder", name := "append", desc := "(C)Ljava/lang/StringBuilder;" } : Jvm.MethodName)) ∈ lw_all := lw_g (lw_at lw_m6 4 rfl) rfl
theorem q1281 : (Jvm.Cond.stringRef "DatedContacts$Chains" (89 : Nat) "@") ∈ lw_tbl := lw_at lw_m6 5 rfl
theorem q1282 : (Jvm.Cond.stringRef "DatedContacts$Chains" (91 : Nat) ":") ∈ lw_tbl := lw_at lw_m6 6 rfl
theorem in_X4 : ∀ w ∈ wsX40, w ∈ lw_all := lw_in wsX40 [235, 237, 239, 241, 243, 245, 247, 249] (by decide +kernel) (by decide +kernel)
/-! DatedContacts$Trail -/
set_option maxRecDepth 100000
def RX5 : String := "DatedContacts$Trail"
def TX5 : u_T := fun k => match k with
  | 0 => ("DatedContacts$Trail", "body", "[I", true)
  | _ => ("DatedContacts$Trail", "many", "I", false)
def tyX5 : Nat → FieldType := fun k => match k with
  | 0 => .array .int
  | _ => .int
abbrev wsX50 : List Cond := u_ws RX5 TX5 2
theorem nmX5 : ∀ a, a < 2 → ∀ b, b < 2 → a ≠ b → (TX5 a).2.1 ≠ (TX5 b).2.1 := by decide +kernel
theorem tyX5_ok : ∀ k, k < 2 → parseFieldDescriptor (TX5 k).2.2.1 = some (tyX5 k) := by decide +kernel
abbrev cX5_init : ByteArray := prog_16_method_1_code
def yX5_init : MethodName := ⟨RX5, "<init>", "()V"⟩
def dkwX5_init_0 : List UInt8 := [42, 183, 0, 3, 42, 16, 16, 188, 10, 181, 0, 9, 177]
abbrev dktX5_init_0 : List UInt8 := dkwX5_init_0 ++ []
theorem dksX5_init_0 : cX5_init.data.toList.drop 0 = dktX5_init_0 := by decide +kernel
theorem dX5_init_0 : decode cX5_init 0 = .ok (.aload_n 0, 1) := dk_42 (dk_at dksX5_init_0 0 rfl rfl)
theorem dX5_init_1 : decode cX5_init 1 = .ok (.invokespecial 3, 3) := dk_183 0 3 (dk_at dksX5_init_0 1 rfl rfl)
theorem dX5_init_4 : decode cX5_init 4 = .ok (.aload_n 0, 1) := dk_42 (dk_at dksX5_init_0 4 rfl rfl)
theorem dX5_init_5 : decode cX5_init 5 = .ok (.bipush 16, 2) := dk_16 16 (dk_at dksX5_init_0 5 rfl rfl)
theorem dX5_init_7 : decode cX5_init 7 = .ok (.newarray .int, 2) := dk_188_10 (dk_at dksX5_init_0 7 rfl rfl)
theorem dX5_init_9 : decode cX5_init 9 = .ok (.putfield 9, 3) := dk_181 0 9 (dk_at dksX5_init_0 9 rfl rfl)
theorem dX5_init_12 : decode cX5_init 12 = .ok (.return_, 1) := dk_177 (dk_at dksX5_init_0 12 rfl rfl)
abbrev cX5_begins : ByteArray := prog_16_method_2_code
def yX5_begins : MethodName := ⟨RX5, "begins", "(I)V"⟩
def dkwX5_begins_1 : List UInt8 := [27, 79, 177]
abbrev dktX5_begins_1 : List UInt8 := dkwX5_begins_1 ++ []
def dkwX5_begins_0 : List UInt8 := [42, 180, 0, 15, 16, 16, 162, 0, 20, 42, 180, 0, 9, 42, 89, 180, 0, 15, 90, 4, 96, 181, 0, 15]
abbrev dktX5_begins_0 : List UInt8 := dkwX5_begins_0 ++ dktX5_begins_1
theorem dksX5_begins_0 : cX5_begins.data.toList.drop 0 = dktX5_begins_0 := by decide +kernel
theorem dksX5_begins_1 : cX5_begins.data.toList.drop 24 = dktX5_begins_1 := dk_seg dksX5_begins_0 24 rfl rfl
theorem dX5_begins_0 : decode cX5_begins 0 = .ok (.aload_n 0, 1) := dk_42 (dk_at dksX5_begins_0 0 rfl rfl)
theorem dX5_begins_1 : decode cX5_begins 1 = .ok (.getfield 15, 3) := dk_180 0 15 (dk_at dksX5_begins_0 1 rfl rfl)
theorem dX5_begins_4 : decode cX5_begins 4 = .ok (.bipush 16, 2) := dk_16 16 (dk_at dksX5_begins_0 4 rfl rfl)
theorem dX5_begins_6 : decode cX5_begins 6 = .ok (.if_icmp .ge 20, 3) := dk_162 0 20 (dk_at dksX5_begins_0 6 rfl rfl)
theorem dX5_begins_9 : decode cX5_begins 9 = .ok (.aload_n 0, 1) := dk_42 (dk_at dksX5_begins_0 9 rfl rfl)
theorem dX5_begins_10 : decode cX5_begins 10 = .ok (.getfield 9, 3) := dk_180 0 9 (dk_at dksX5_begins_0 10 rfl rfl)
theorem dX5_begins_13 : decode cX5_begins 13 = .ok (.aload_n 0, 1) := dk_42 (dk_at dksX5_begins_0 13 rfl rfl)
theorem dX5_begins_14 : decode cX5_begins 14 = .ok (.dup, 1) := dk_89 (dk_at dksX5_begins_0 14 rfl rfl)
theorem dX5_begins_15 : decode cX5_begins 15 = .ok (.getfield 15, 3) := dk_180 0 15 (dk_at dksX5_begins_0 15 rfl rfl)
theorem dX5_begins_18 : decode cX5_begins 18 = .ok (.dup_x1, 1) := dk_90 (dk_at dksX5_begins_0 18 rfl rfl)
theorem dX5_begins_19 : decode cX5_begins 19 = .ok (.iconst 1, 1) := dk_4 (dk_at dksX5_begins_0 19 rfl rfl)
theorem dX5_begins_20 : decode cX5_begins 20 = .ok (.iadd, 1) := dk_96 (dk_at dksX5_begins_0 20 rfl rfl)
theorem dX5_begins_21 : decode cX5_begins 21 = .ok (.putfield 15, 3) := dk_181 0 15 (dk_at dksX5_begins_0 21 rfl rfl)
theorem dX5_begins_24 : decode cX5_begins 24 = .ok (.iload_n 1, 1) := dk_27 (dk_at dksX5_begins_1 0 rfl rfl)
theorem dX5_begins_25 : decode cX5_begins 25 = .ok (.iastore, 1) := dk_79 (dk_at dksX5_begins_1 1 rfl rfl)
theorem dX5_begins_26 : decode cX5_begins 26 = .ok (.return_, 1) := dk_177 (dk_at dksX5_begins_1 2 rfl rfl)
theorem q82 : (Jvm.Cond.initialized "DatedContacts$Trail") ∈ lw_all := lw_g (lw_at lw_m1 6 rfl) rfl
theorem q254 : (Jvm.Cond.instantiable "DatedContacts$Trail" (2 : Nat)) ∈ lw_all := lw_g (lw_at lw_m1 178 rfl) rfl
theorem q256 : (Jvm.Cond.instanceMethod ({ cls := "DatedContacts$Trail", name := "<init>", desc := "()V" } : Jvm.MethodName)) ∈ lw_all := lw_g (lw_at lw_m1 180 rfl) rfl
theorem q257 : (Jvm.Cond.code ({ cls := "DatedContacts$Trail", name := "<init>", desc := "()V" } : Jvm.MethodName) prog_16_method_1_code (1 : Nat) (Option.none : Option Jvm.ClassFile.FieldType)) ∈ lw_all := lw_g (lw_at lw_m1 181 rfl) rfl
theorem q258 : (Jvm.Cond.methodLink "DatedContacts$Trail" (3 : Nat) ({ cls := "java/lang/Object", name := "<init>", desc := "()V" } : Jvm.MethodName)) ∈ lw_all := lw_g (lw_at lw_m1 182 rfl) rfl
theorem q259 : (Jvm.Cond.fieldLink "DatedContacts$Trail" (9 : Nat) "DatedContacts$Trail" "body" "[I") ∈ lw_all := lw_g (lw_at lw_m1 183 rfl) rfl
theorem q261 : (Jvm.Cond.fieldLink "DatedContacts$Trail" (15 : Nat) "DatedContacts$Trail" "many" "I") ∈ lw_all := lw_g (lw_at lw_m1 185 rfl) rfl
theorem q263 : (Jvm.Cond.laysFinal "DatedContacts$Trail" "DatedContacts$Trail" "body" "[I") ∈ lw_all := lw_g (lw_at lw_m1 187 rfl) rfl
theorem q264 : (Jvm.Cond.soleField "DatedContacts$Trail" "body") ∈ lw_all := lw_g (lw_at lw_m1 188 rfl) rfl
theorem q265 : (Jvm.Cond.lays "DatedContacts$Trail" "DatedContacts$Trail" "many" "I") ∈ lw_all := lw_g (lw_at lw_m1 189 rfl) rfl
theorem q266 : (Jvm.Cond.soleField "DatedContacts$Trail" "many") ∈ lw_all := lw_g (lw_at lw_m1 190 rfl) rfl
theorem q267 : (Jvm.Cond.superclass "DatedContacts$Trail" "java/lang/Object") ∈ lw_all := lw_g (lw_at lw_m1 191 rfl) rfl
theorem q1503 : (Jvm.Cond.instanceMethod ({ cls := "DatedContacts$Trail", name := "begins", desc := "(I)V" } : Jvm.MethodName)) ∈ lw_all := lw_g (lw_at lw_m6 227 rfl) rfl
theorem q1504 : (Jvm.Cond.selects "DatedContacts$Trail" ({ cls := "DatedContacts$Trail", name := "begins", desc := "(I)V" } : Jvm.MethodName) ({ cls := "DatedContacts$Trail", name := "begins", desc := "(I)V" } : Jvm.MethodName)) ∈ lw_all := lw_g (lw_at lw_m6 228 rfl) rfl
theorem q1505 : (Jvm.Cond.code ({ cls := "DatedContacts$Trail", name := "begins", desc := "(I)V" } : Jvm.MethodName) prog_16_method_2_code (2 : Nat) (Option.none : Option Jvm.ClassFile.FieldType)) ∈ lw_all := lw_g (lw_at lw_m6 229 rfl) rfl
theorem in_X5 : ∀ w ∈ wsX50, w ∈ lw_all := lw_in wsX50 [263, 265] (by decide +kernel) (by decide +kernel)
/-! DatedContacts$Reader -/
set_option maxRecDepth 100000
def RX7 : String := "DatedContacts$Reader"
def TX7 : u_T := fun k => match k with
  | 0 => ("DatedContacts$Reader", "text", "[B", true)
  | 1 => ("DatedContacts$Reader", "size", "I", true)
  | 2 => ("DatedContacts$Reader", "at", "I", false)
  | 3 => ("DatedContacts$Reader", "token", "I", false)
  | 4 => ("DatedContacts$Reader", "from", "I", false)
  | 5 => ("DatedContacts$Reader", "value", "I", false)
  | _ => ("DatedContacts$Reader", "made", "LDatedContacts$Net;", true)
def tyX7 : Nat → FieldType := fun k => match k with
  | 0 => .array .byte
  | 1 => .int
  | 2 => .int
  | 3 => .int
  | 4 => .int
  | 5 => .int
  | _ => .object "DatedContacts$Net"
abbrev wsX70 : List Cond := u_ws RX7 TX7 7
theorem nmX7 : ∀ a, a < 7 → ∀ b, b < 7 → a ≠ b → (TX7 a).2.1 ≠ (TX7 b).2.1 := by decide +kernel
theorem tyX7_ok : ∀ k, k < 7 → parseFieldDescriptor (TX7 k).2.2.1 = some (tyX7 k) := by decide +kernel
abbrev cX7_init : ByteArray := prog_12_method_1_code
def yX7_init : MethodName := ⟨RX7, "<init>", "([BI)V"⟩
def dkwX7_init_1 : List UInt8 := [181, 0, 22, 177]
abbrev dktX7_init_1 : List UInt8 := dkwX7_init_1 ++ []
def dkwX7_init_0 : List UInt8 := [42, 183, 0, 3, 42, 187, 0, 9, 89, 183, 0, 11, 181, 0, 12, 42, 43, 181, 0, 18, 42, 28]
abbrev dktX7_init_0 : List UInt8 := dkwX7_init_0 ++ dktX7_init_1
theorem dksX7_init_0 : cX7_init.data.toList.drop 0 = dktX7_init_0 := by decide +kernel
theorem dksX7_init_1 : cX7_init.data.toList.drop 22 = dktX7_init_1 := dk_seg dksX7_init_0 22 rfl rfl
theorem dX7_init_0 : decode cX7_init 0 = .ok (.aload_n 0, 1) := dk_42 (dk_at dksX7_init_0 0 rfl rfl)
theorem dX7_init_1 : decode cX7_init 1 = .ok (.invokespecial 3, 3) := dk_183 0 3 (dk_at dksX7_init_0 1 rfl rfl)
theorem dX7_init_4 : decode cX7_init 4 = .ok (.aload_n 0, 1) := dk_42 (dk_at dksX7_init_0 4 rfl rfl)
theorem dX7_init_5 : decode cX7_init 5 = .ok (.new 9, 3) := dk_187 0 9 (dk_at dksX7_init_0 5 rfl rfl)
theorem dX7_init_8 : decode cX7_init 8 = .ok (.dup, 1) := dk_89 (dk_at dksX7_init_0 8 rfl rfl)
theorem dX7_init_9 : decode cX7_init 9 = .ok (.invokespecial 11, 3) := dk_183 0 11 (dk_at dksX7_init_0 9 rfl rfl)
theorem dX7_init_12 : decode cX7_init 12 = .ok (.putfield 12, 3) := dk_181 0 12 (dk_at dksX7_init_0 12 rfl rfl)
theorem dX7_init_15 : decode cX7_init 15 = .ok (.aload_n 0, 1) := dk_42 (dk_at dksX7_init_0 15 rfl rfl)
theorem dX7_init_16 : decode cX7_init 16 = .ok (.aload_n 1, 1) := dk_43 (dk_at dksX7_init_0 16 rfl rfl)
theorem dX7_init_17 : decode cX7_init 17 = .ok (.putfield 18, 3) := dk_181 0 18 (dk_at dksX7_init_0 17 rfl rfl)
theorem dX7_init_20 : decode cX7_init 20 = .ok (.aload_n 0, 1) := dk_42 (dk_at dksX7_init_0 20 rfl rfl)
theorem dX7_init_21 : decode cX7_init 21 = .ok (.iload_n 2, 1) := dk_28 (dk_at dksX7_init_0 21 rfl rfl)
theorem dX7_init_22 : decode cX7_init 22 = .ok (.putfield 22, 3) := dk_181 0 22 (dk_at dksX7_init_1 0 rfl rfl)
theorem dX7_init_25 : decode cX7_init 25 = .ok (.return_, 1) := dk_177 (dk_at dksX7_init_1 3 rfl rfl)
abbrev cX7_all : ByteArray := prog_12_method_8_code
def yX7_all : MethodName := ⟨RX7, "all", "()V"⟩
def dkwX7_all_6 : List UInt8 := [180, 0, 52, 154, 0, 7, 4, 167, 0, 4, 3, 4, 182, 0, 60, 177]
abbrev dktX7_all_6 : List UInt8 := dkwX7_all_6 ++ []
def dkwX7_all_5 : List UInt8 := [167, 255, 242, 42, 4, 16, 105, 182, 0, 67, 153, 0, 10, 42, 182, 0, 94, 167, 255, 242, 42, 42]
abbrev dktX7_all_5 : List UInt8 := dkwX7_all_5 ++ dktX7_all_6
def dkwX7_all_4 : List UInt8 := [159, 0, 10, 42, 182, 0, 88, 167, 255, 243, 42, 4, 16, 99, 182, 0, 67, 153, 0, 10, 42, 182, 0, 91]
abbrev dktX7_all_4 : List UInt8 := dkwX7_all_4 ++ dktX7_all_5
def dkwX7_all_3 : List UInt8 := [182, 0, 85, 18, 29, 159, 0, 7, 4, 167, 0, 4, 3, 4, 182, 0, 60, 42, 182, 0, 85, 18, 29]
abbrev dktX7_all_3 : List UInt8 := dkwX7_all_3 ++ dktX7_all_4
def dkwX7_all_2 : List UInt8 := [180, 0, 12, 180, 0, 75, 16, 20, 182, 0, 71, 181, 0, 82, 42, 16, 59, 182, 0, 78, 42, 42]
abbrev dktX7_all_2 : List UInt8 := dkwX7_all_2 ++ dktX7_all_3
def dkwX7_all_1 : List UInt8 := [42, 4, 16, 9, 182, 0, 71, 181, 0, 75, 42, 16, 44, 182, 0, 78, 42, 180, 0, 12, 42, 42]
abbrev dktX7_all_1 : List UInt8 := dkwX7_all_1 ++ dktX7_all_2
def dkwX7_all_0 : List UInt8 := [42, 182, 0, 64, 42, 42, 4, 16, 119, 182, 0, 67, 4, 182, 0, 60, 42, 182, 0, 64, 42, 180, 0, 12]
abbrev dktX7_all_0 : List UInt8 := dkwX7_all_0 ++ dktX7_all_1
theorem dksX7_all_0 : cX7_all.data.toList.drop 0 = dktX7_all_0 := by decide +kernel
theorem dksX7_all_1 : cX7_all.data.toList.drop 24 = dktX7_all_1 := dk_seg dksX7_all_0 24 rfl rfl
theorem dksX7_all_2 : cX7_all.data.toList.drop 46 = dktX7_all_2 := dk_seg dksX7_all_1 22 rfl rfl
theorem dksX7_all_3 : cX7_all.data.toList.drop 68 = dktX7_all_3 := dk_seg dksX7_all_2 22 rfl rfl
theorem dksX7_all_4 : cX7_all.data.toList.drop 91 = dktX7_all_4 := dk_seg dksX7_all_3 23 rfl rfl
theorem dksX7_all_5 : cX7_all.data.toList.drop 115 = dktX7_all_5 := dk_seg dksX7_all_4 24 rfl rfl
theorem dksX7_all_6 : cX7_all.data.toList.drop 137 = dktX7_all_6 := dk_seg dksX7_all_5 22 rfl rfl
theorem dX7_all_0 : decode cX7_all 0 = .ok (.aload_n 0, 1) := dk_42 (dk_at dksX7_all_0 0 rfl rfl)
theorem dX7_all_1 : decode cX7_all 1 = .ok (.invokevirtual 64, 3) := dk_182 0 64 (dk_at dksX7_all_0 1 rfl rfl)
theorem dX7_all_4 : decode cX7_all 4 = .ok (.aload_n 0, 1) := dk_42 (dk_at dksX7_all_0 4 rfl rfl)
theorem dX7_all_5 : decode cX7_all 5 = .ok (.aload_n 0, 1) := dk_42 (dk_at dksX7_all_0 5 rfl rfl)
theorem dX7_all_6 : decode cX7_all 6 = .ok (.iconst 1, 1) := dk_4 (dk_at dksX7_all_0 6 rfl rfl)
theorem dX7_all_7 : decode cX7_all 7 = .ok (.bipush 119, 2) := dk_16 119 (dk_at dksX7_all_0 7 rfl rfl)
theorem dX7_all_9 : decode cX7_all 9 = .ok (.invokevirtual 67, 3) := dk_182 0 67 (dk_at dksX7_all_0 9 rfl rfl)
theorem dX7_all_12 : decode cX7_all 12 = .ok (.iconst 1, 1) := dk_4 (dk_at dksX7_all_0 12 rfl rfl)
theorem dX7_all_13 : decode cX7_all 13 = .ok (.invokevirtual 60, 3) := dk_182 0 60 (dk_at dksX7_all_0 13 rfl rfl)
theorem dX7_all_16 : decode cX7_all 16 = .ok (.aload_n 0, 1) := dk_42 (dk_at dksX7_all_0 16 rfl rfl)
theorem dX7_all_17 : decode cX7_all 17 = .ok (.invokevirtual 64, 3) := dk_182 0 64 (dk_at dksX7_all_0 17 rfl rfl)
theorem dX7_all_20 : decode cX7_all 20 = .ok (.aload_n 0, 1) := dk_42 (dk_at dksX7_all_0 20 rfl rfl)
theorem dX7_all_21 : decode cX7_all 21 = .ok (.getfield 12, 3) := dk_180 0 12 (dk_at dksX7_all_0 21 rfl rfl)
theorem dX7_all_24 : decode cX7_all 24 = .ok (.aload_n 0, 1) := dk_42 (dk_at dksX7_all_1 0 rfl rfl)
theorem dX7_all_25 : decode cX7_all 25 = .ok (.iconst 1, 1) := dk_4 (dk_at dksX7_all_1 1 rfl rfl)
theorem dX7_all_26 : decode cX7_all 26 = .ok (.bipush 9, 2) := dk_16 9 (dk_at dksX7_all_1 2 rfl rfl)
theorem dX7_all_28 : decode cX7_all 28 = .ok (.invokevirtual 71, 3) := dk_182 0 71 (dk_at dksX7_all_1 4 rfl rfl)
theorem dX7_all_31 : decode cX7_all 31 = .ok (.putfield 75, 3) := dk_181 0 75 (dk_at dksX7_all_1 7 rfl rfl)
theorem dX7_all_34 : decode cX7_all 34 = .ok (.aload_n 0, 1) := dk_42 (dk_at dksX7_all_1 10 rfl rfl)
theorem dX7_all_35 : decode cX7_all 35 = .ok (.bipush 44, 2) := dk_16 44 (dk_at dksX7_all_1 11 rfl rfl)
theorem dX7_all_37 : decode cX7_all 37 = .ok (.invokevirtual 78, 3) := dk_182 0 78 (dk_at dksX7_all_1 13 rfl rfl)
theorem dX7_all_40 : decode cX7_all 40 = .ok (.aload_n 0, 1) := dk_42 (dk_at dksX7_all_1 16 rfl rfl)
theorem dX7_all_41 : decode cX7_all 41 = .ok (.getfield 12, 3) := dk_180 0 12 (dk_at dksX7_all_1 17 rfl rfl)
theorem dX7_all_44 : decode cX7_all 44 = .ok (.aload_n 0, 1) := dk_42 (dk_at dksX7_all_1 20 rfl rfl)
theorem dX7_all_45 : decode cX7_all 45 = .ok (.aload_n 0, 1) := dk_42 (dk_at dksX7_all_1 21 rfl rfl)
theorem dX7_all_46 : decode cX7_all 46 = .ok (.getfield 12, 3) := dk_180 0 12 (dk_at dksX7_all_2 0 rfl rfl)
theorem dX7_all_49 : decode cX7_all 49 = .ok (.getfield 75, 3) := dk_180 0 75 (dk_at dksX7_all_2 3 rfl rfl)
theorem dX7_all_52 : decode cX7_all 52 = .ok (.bipush 20, 2) := dk_16 20 (dk_at dksX7_all_2 6 rfl rfl)
theorem dX7_all_54 : decode cX7_all 54 = .ok (.invokevirtual 71, 3) := dk_182 0 71 (dk_at dksX7_all_2 8 rfl rfl)
theorem dX7_all_57 : decode cX7_all 57 = .ok (.putfield 82, 3) := dk_181 0 82 (dk_at dksX7_all_2 11 rfl rfl)
theorem dX7_all_60 : decode cX7_all 60 = .ok (.aload_n 0, 1) := dk_42 (dk_at dksX7_all_2 14 rfl rfl)
theorem dX7_all_61 : decode cX7_all 61 = .ok (.bipush 59, 2) := dk_16 59 (dk_at dksX7_all_2 15 rfl rfl)
theorem dX7_all_63 : decode cX7_all 63 = .ok (.invokevirtual 78, 3) := dk_182 0 78 (dk_at dksX7_all_2 17 rfl rfl)
theorem dX7_all_66 : decode cX7_all 66 = .ok (.aload_n 0, 1) := dk_42 (dk_at dksX7_all_2 20 rfl rfl)
theorem dX7_all_67 : decode cX7_all 67 = .ok (.aload_n 0, 1) := dk_42 (dk_at dksX7_all_2 21 rfl rfl)
theorem dX7_all_68 : decode cX7_all 68 = .ok (.invokevirtual 85, 3) := dk_182 0 85 (dk_at dksX7_all_3 0 rfl rfl)
theorem dX7_all_71 : decode cX7_all 71 = .ok (.ldc 29, 2) := dk_18 29 (dk_at dksX7_all_3 3 rfl rfl)
theorem dX7_all_73 : decode cX7_all 73 = .ok (.if_icmp .eq 7, 3) := dk_159 0 7 (dk_at dksX7_all_3 5 rfl rfl)
theorem dX7_all_76 : decode cX7_all 76 = .ok (.iconst 1, 1) := dk_4 (dk_at dksX7_all_3 8 rfl rfl)
theorem dX7_all_77 : decode cX7_all 77 = .ok (.goto 4, 3) := dk_167 0 4 (dk_at dksX7_all_3 9 rfl rfl)
theorem dX7_all_80 : decode cX7_all 80 = .ok (.iconst 0, 1) := dk_3 (dk_at dksX7_all_3 12 rfl rfl)
theorem dX7_all_81 : decode cX7_all 81 = .ok (.iconst 1, 1) := dk_4 (dk_at dksX7_all_3 13 rfl rfl)
theorem dX7_all_82 : decode cX7_all 82 = .ok (.invokevirtual 60, 3) := dk_182 0 60 (dk_at dksX7_all_3 14 rfl rfl)
theorem dX7_all_85 : decode cX7_all 85 = .ok (.aload_n 0, 1) := dk_42 (dk_at dksX7_all_3 17 rfl rfl)
theorem dX7_all_86 : decode cX7_all 86 = .ok (.invokevirtual 85, 3) := dk_182 0 85 (dk_at dksX7_all_3 18 rfl rfl)
theorem dX7_all_89 : decode cX7_all 89 = .ok (.ldc 29, 2) := dk_18 29 (dk_at dksX7_all_3 21 rfl rfl)
theorem dX7_all_91 : decode cX7_all 91 = .ok (.if_icmp .eq 10, 3) := dk_159 0 10 (dk_at dksX7_all_4 0 rfl rfl)
theorem dX7_all_94 : decode cX7_all 94 = .ok (.aload_n 0, 1) := dk_42 (dk_at dksX7_all_4 3 rfl rfl)
theorem dX7_all_95 : decode cX7_all 95 = .ok (.invokevirtual 88, 3) := dk_182 0 88 (dk_at dksX7_all_4 4 rfl rfl)
theorem dX7_all_98 : decode cX7_all 98 = .ok (.goto (-13), 3) := dk_167 255 243 (dk_at dksX7_all_4 7 rfl rfl)
theorem dX7_all_101 : decode cX7_all 101 = .ok (.aload_n 0, 1) := dk_42 (dk_at dksX7_all_4 10 rfl rfl)
theorem dX7_all_102 : decode cX7_all 102 = .ok (.iconst 1, 1) := dk_4 (dk_at dksX7_all_4 11 rfl rfl)
theorem dX7_all_103 : decode cX7_all 103 = .ok (.bipush 99, 2) := dk_16 99 (dk_at dksX7_all_4 12 rfl rfl)
theorem dX7_all_105 : decode cX7_all 105 = .ok (.invokevirtual 67, 3) := dk_182 0 67 (dk_at dksX7_all_4 14 rfl rfl)
theorem dX7_all_108 : decode cX7_all 108 = .ok (.ifCond .eq 10, 3) := dk_153 0 10 (dk_at dksX7_all_4 17 rfl rfl)
theorem dX7_all_111 : decode cX7_all 111 = .ok (.aload_n 0, 1) := dk_42 (dk_at dksX7_all_4 20 rfl rfl)
theorem dX7_all_112 : decode cX7_all 112 = .ok (.invokevirtual 91, 3) := dk_182 0 91 (dk_at dksX7_all_4 21 rfl rfl)
theorem dX7_all_115 : decode cX7_all 115 = .ok (.goto (-14), 3) := dk_167 255 242 (dk_at dksX7_all_5 0 rfl rfl)
theorem dX7_all_118 : decode cX7_all 118 = .ok (.aload_n 0, 1) := dk_42 (dk_at dksX7_all_5 3 rfl rfl)
theorem dX7_all_119 : decode cX7_all 119 = .ok (.iconst 1, 1) := dk_4 (dk_at dksX7_all_5 4 rfl rfl)
theorem dX7_all_120 : decode cX7_all 120 = .ok (.bipush 105, 2) := dk_16 105 (dk_at dksX7_all_5 5 rfl rfl)
theorem dX7_all_122 : decode cX7_all 122 = .ok (.invokevirtual 67, 3) := dk_182 0 67 (dk_at dksX7_all_5 7 rfl rfl)
theorem dX7_all_125 : decode cX7_all 125 = .ok (.ifCond .eq 10, 3) := dk_153 0 10 (dk_at dksX7_all_5 10 rfl rfl)
theorem dX7_all_128 : decode cX7_all 128 = .ok (.aload_n 0, 1) := dk_42 (dk_at dksX7_all_5 13 rfl rfl)
theorem dX7_all_129 : decode cX7_all 129 = .ok (.invokevirtual 94, 3) := dk_182 0 94 (dk_at dksX7_all_5 14 rfl rfl)
theorem dX7_all_132 : decode cX7_all 132 = .ok (.goto (-14), 3) := dk_167 255 242 (dk_at dksX7_all_5 17 rfl rfl)
theorem dX7_all_135 : decode cX7_all 135 = .ok (.aload_n 0, 1) := dk_42 (dk_at dksX7_all_5 20 rfl rfl)
theorem dX7_all_136 : decode cX7_all 136 = .ok (.aload_n 0, 1) := dk_42 (dk_at dksX7_all_5 21 rfl rfl)
theorem dX7_all_137 : decode cX7_all 137 = .ok (.getfield 52, 3) := dk_180 0 52 (dk_at dksX7_all_6 0 rfl rfl)
theorem dX7_all_140 : decode cX7_all 140 = .ok (.ifCond .ne 7, 3) := dk_154 0 7 (dk_at dksX7_all_6 3 rfl rfl)
theorem dX7_all_143 : decode cX7_all 143 = .ok (.iconst 1, 1) := dk_4 (dk_at dksX7_all_6 6 rfl rfl)
theorem dX7_all_144 : decode cX7_all 144 = .ok (.goto 4, 3) := dk_167 0 4 (dk_at dksX7_all_6 7 rfl rfl)
theorem dX7_all_147 : decode cX7_all 147 = .ok (.iconst 0, 1) := dk_3 (dk_at dksX7_all_6 10 rfl rfl)
theorem dX7_all_148 : decode cX7_all 148 = .ok (.iconst 1, 1) := dk_4 (dk_at dksX7_all_6 11 rfl rfl)
theorem dX7_all_149 : decode cX7_all 149 = .ok (.invokevirtual 60, 3) := dk_182 0 60 (dk_at dksX7_all_6 12 rfl rfl)
theorem dX7_all_152 : decode cX7_all 152 = .ok (.return_, 1) := dk_177 (dk_at dksX7_all_6 15 rfl rfl)
abbrev cX7_next : ByteArray := prog_12_method_3_code
def yX7_next : MethodName := ⟨RX7, "next", "()V"⟩
def dkwX7_next_9 : List UInt8 := [181, 0, 52, 177]
abbrev dktX7_next_9 : List UInt8 := dkwX7_next_9 ++ []
def dkwX7_next_8 : List UInt8 := [167, 255, 190, 42, 42, 180, 0, 26, 42, 180, 0, 30, 100, 5, 164, 0, 7, 7, 167, 0, 4, 5]
abbrev dktX7_next_8 : List UInt8 := dkwX7_next_8 ++ dktX7_next_9
def dkwX7_next_7 : List UInt8 := [96, 16, 48, 100, 167, 0, 7, 42, 180, 0, 37, 181, 0, 37, 42, 89, 180, 0, 26, 4, 96, 181, 0, 26]
abbrev dktX7_next_7 : List UInt8 := dkwX7_next_7 ++ dktX7_next_8
def dkwX7_next_6 : List UInt8 := [42, 180, 0, 26, 42, 180, 0, 30, 4, 96, 160, 0, 21, 16, 10, 42, 180, 0, 37, 104, 42, 182, 0, 33]
abbrev dktX7_next_6 : List UInt8 := dkwX7_next_6 ++ dktX7_next_7
def dkwX7_next_5 : List UInt8 := [16, 48, 100, 181, 0, 37, 42, 182, 0, 33, 133, 20, 0, 48, 20, 0, 50, 184, 0, 44, 153, 0, 55, 42]
abbrev dktX7_next_5 : List UInt8 := dkwX7_next_5 ++ dktX7_next_6
def dkwX7_next_4 : List UInt8 := [16, 59, 160, 0, 7, 6, 167, 0, 4, 7, 181, 0, 52, 42, 180, 0, 52, 5, 159, 0, 4, 177, 42, 27]
abbrev dktX7_next_4 : List UInt8 := dkwX7_next_4 ++ dktX7_next_5
def dkwX7_next_3 : List UInt8 := [20, 0, 48, 20, 0, 50, 184, 0, 44, 153, 0, 7, 5, 167, 0, 20, 27, 16, 44, 159, 0, 9, 27]
abbrev dktX7_next_3 : List UInt8 := dkwX7_next_3 ++ dktX7_next_4
def dkwX7_next_2 : List UInt8 := [167, 0, 56, 27, 133, 20, 0, 40, 20, 0, 42, 184, 0, 44, 153, 0, 7, 4, 167, 0, 38, 27, 133]
abbrev dktX7_next_2 : List UInt8 := dkwX7_next_2 ++ dktX7_next_3
def dkwX7_next_1 : List UInt8 := [18, 29, 160, 0, 7, 3, 167, 0, 4, 4, 96, 181, 0, 26, 42, 27, 18, 29, 160, 0, 7, 3]
abbrev dktX7_next_1 : List UInt8 := dkwX7_next_1 ++ dktX7_next_2
def dkwX7_next_0 : List UInt8 := [42, 42, 180, 0, 26, 181, 0, 30, 42, 182, 0, 33, 60, 42, 27, 181, 0, 37, 42, 89, 180, 0, 26, 27]
abbrev dktX7_next_0 : List UInt8 := dkwX7_next_0 ++ dktX7_next_1
theorem dksX7_next_0 : cX7_next.data.toList.drop 0 = dktX7_next_0 := by decide +kernel
theorem dksX7_next_1 : cX7_next.data.toList.drop 24 = dktX7_next_1 := dk_seg dksX7_next_0 24 rfl rfl
theorem dksX7_next_2 : cX7_next.data.toList.drop 46 = dktX7_next_2 := dk_seg dksX7_next_1 22 rfl rfl
theorem dksX7_next_3 : cX7_next.data.toList.drop 69 = dktX7_next_3 := dk_seg dksX7_next_2 23 rfl rfl
theorem dksX7_next_4 : cX7_next.data.toList.drop 92 = dktX7_next_4 := dk_seg dksX7_next_3 23 rfl rfl
theorem dksX7_next_5 : cX7_next.data.toList.drop 116 = dktX7_next_5 := dk_seg dksX7_next_4 24 rfl rfl
theorem dksX7_next_6 : cX7_next.data.toList.drop 140 = dktX7_next_6 := dk_seg dksX7_next_5 24 rfl rfl
theorem dksX7_next_7 : cX7_next.data.toList.drop 164 = dktX7_next_7 := dk_seg dksX7_next_6 24 rfl rfl
theorem dksX7_next_8 : cX7_next.data.toList.drop 188 = dktX7_next_8 := dk_seg dksX7_next_7 24 rfl rfl
theorem dksX7_next_9 : cX7_next.data.toList.drop 210 = dktX7_next_9 := dk_seg dksX7_next_8 22 rfl rfl
theorem dX7_next_0 : decode cX7_next 0 = .ok (.aload_n 0, 1) := dk_42 (dk_at dksX7_next_0 0 rfl rfl)
theorem dX7_next_1 : decode cX7_next 1 = .ok (.aload_n 0, 1) := dk_42 (dk_at dksX7_next_0 1 rfl rfl)
theorem dX7_next_2 : decode cX7_next 2 = .ok (.getfield 26, 3) := dk_180 0 26 (dk_at dksX7_next_0 2 rfl rfl)
theorem dX7_next_5 : decode cX7_next 5 = .ok (.putfield 30, 3) := dk_181 0 30 (dk_at dksX7_next_0 5 rfl rfl)
theorem dX7_next_8 : decode cX7_next 8 = .ok (.aload_n 0, 1) := dk_42 (dk_at dksX7_next_0 8 rfl rfl)
theorem dX7_next_9 : decode cX7_next 9 = .ok (.invokevirtual 33, 3) := dk_182 0 33 (dk_at dksX7_next_0 9 rfl rfl)
theorem dX7_next_12 : decode cX7_next 12 = .ok (.istore_n 1, 1) := dk_60 (dk_at dksX7_next_0 12 rfl rfl)
theorem dX7_next_13 : decode cX7_next 13 = .ok (.aload_n 0, 1) := dk_42 (dk_at dksX7_next_0 13 rfl rfl)
theorem dX7_next_14 : decode cX7_next 14 = .ok (.iload_n 1, 1) := dk_27 (dk_at dksX7_next_0 14 rfl rfl)
theorem dX7_next_15 : decode cX7_next 15 = .ok (.putfield 37, 3) := dk_181 0 37 (dk_at dksX7_next_0 15 rfl rfl)
theorem dX7_next_18 : decode cX7_next 18 = .ok (.aload_n 0, 1) := dk_42 (dk_at dksX7_next_0 18 rfl rfl)
theorem dX7_next_19 : decode cX7_next 19 = .ok (.dup, 1) := dk_89 (dk_at dksX7_next_0 19 rfl rfl)
theorem dX7_next_20 : decode cX7_next 20 = .ok (.getfield 26, 3) := dk_180 0 26 (dk_at dksX7_next_0 20 rfl rfl)
theorem dX7_next_23 : decode cX7_next 23 = .ok (.iload_n 1, 1) := dk_27 (dk_at dksX7_next_0 23 rfl rfl)
theorem dX7_next_24 : decode cX7_next 24 = .ok (.ldc 29, 2) := dk_18 29 (dk_at dksX7_next_1 0 rfl rfl)
theorem dX7_next_26 : decode cX7_next 26 = .ok (.if_icmp .ne 7, 3) := dk_160 0 7 (dk_at dksX7_next_1 2 rfl rfl)
theorem dX7_next_29 : decode cX7_next 29 = .ok (.iconst 0, 1) := dk_3 (dk_at dksX7_next_1 5 rfl rfl)
theorem dX7_next_30 : decode cX7_next 30 = .ok (.goto 4, 3) := dk_167 0 4 (dk_at dksX7_next_1 6 rfl rfl)
theorem dX7_next_33 : decode cX7_next 33 = .ok (.iconst 1, 1) := dk_4 (dk_at dksX7_next_1 9 rfl rfl)
theorem dX7_next_34 : decode cX7_next 34 = .ok (.iadd, 1) := dk_96 (dk_at dksX7_next_1 10 rfl rfl)
theorem dX7_next_35 : decode cX7_next 35 = .ok (.putfield 26, 3) := dk_181 0 26 (dk_at dksX7_next_1 11 rfl rfl)
theorem dX7_next_38 : decode cX7_next 38 = .ok (.aload_n 0, 1) := dk_42 (dk_at dksX7_next_1 14 rfl rfl)
theorem dX7_next_39 : decode cX7_next 39 = .ok (.iload_n 1, 1) := dk_27 (dk_at dksX7_next_1 15 rfl rfl)
theorem dX7_next_40 : decode cX7_next 40 = .ok (.ldc 29, 2) := dk_18 29 (dk_at dksX7_next_1 16 rfl rfl)
theorem dX7_next_42 : decode cX7_next 42 = .ok (.if_icmp .ne 7, 3) := dk_160 0 7 (dk_at dksX7_next_1 18 rfl rfl)
theorem dX7_next_45 : decode cX7_next 45 = .ok (.iconst 0, 1) := dk_3 (dk_at dksX7_next_1 21 rfl rfl)
theorem dX7_next_46 : decode cX7_next 46 = .ok (.goto 56, 3) := dk_167 0 56 (dk_at dksX7_next_2 0 rfl rfl)
theorem dX7_next_49 : decode cX7_next 49 = .ok (.iload_n 1, 1) := dk_27 (dk_at dksX7_next_2 3 rfl rfl)
theorem dX7_next_50 : decode cX7_next 50 = .ok (.i2l, 1) := dk_133 (dk_at dksX7_next_2 4 rfl rfl)
theorem dX7_next_51 : decode cX7_next 51 = .ok (.ldc2_w 40, 3) := dk_20 0 40 (dk_at dksX7_next_2 5 rfl rfl)
theorem dX7_next_54 : decode cX7_next 54 = .ok (.ldc2_w 42, 3) := dk_20 0 42 (dk_at dksX7_next_2 8 rfl rfl)
theorem dX7_next_57 : decode cX7_next 57 = .ok (.invokestatic 44, 3) := dk_184 0 44 (dk_at dksX7_next_2 11 rfl rfl)
theorem dX7_next_60 : decode cX7_next 60 = .ok (.ifCond .eq 7, 3) := dk_153 0 7 (dk_at dksX7_next_2 14 rfl rfl)
theorem dX7_next_63 : decode cX7_next 63 = .ok (.iconst 1, 1) := dk_4 (dk_at dksX7_next_2 17 rfl rfl)
theorem dX7_next_64 : decode cX7_next 64 = .ok (.goto 38, 3) := dk_167 0 38 (dk_at dksX7_next_2 18 rfl rfl)
theorem dX7_next_67 : decode cX7_next 67 = .ok (.iload_n 1, 1) := dk_27 (dk_at dksX7_next_2 21 rfl rfl)
theorem dX7_next_68 : decode cX7_next 68 = .ok (.i2l, 1) := dk_133 (dk_at dksX7_next_2 22 rfl rfl)
theorem dX7_next_69 : decode cX7_next 69 = .ok (.ldc2_w 48, 3) := dk_20 0 48 (dk_at dksX7_next_3 0 rfl rfl)
theorem dX7_next_72 : decode cX7_next 72 = .ok (.ldc2_w 50, 3) := dk_20 0 50 (dk_at dksX7_next_3 3 rfl rfl)
theorem dX7_next_75 : decode cX7_next 75 = .ok (.invokestatic 44, 3) := dk_184 0 44 (dk_at dksX7_next_3 6 rfl rfl)
theorem dX7_next_78 : decode cX7_next 78 = .ok (.ifCond .eq 7, 3) := dk_153 0 7 (dk_at dksX7_next_3 9 rfl rfl)
theorem dX7_next_81 : decode cX7_next 81 = .ok (.iconst 2, 1) := dk_5 (dk_at dksX7_next_3 12 rfl rfl)
theorem dX7_next_82 : decode cX7_next 82 = .ok (.goto 20, 3) := dk_167 0 20 (dk_at dksX7_next_3 13 rfl rfl)
theorem dX7_next_85 : decode cX7_next 85 = .ok (.iload_n 1, 1) := dk_27 (dk_at dksX7_next_3 16 rfl rfl)
theorem dX7_next_86 : decode cX7_next 86 = .ok (.bipush 44, 2) := dk_16 44 (dk_at dksX7_next_3 17 rfl rfl)
theorem dX7_next_88 : decode cX7_next 88 = .ok (.if_icmp .eq 9, 3) := dk_159 0 9 (dk_at dksX7_next_3 19 rfl rfl)
theorem dX7_next_91 : decode cX7_next 91 = .ok (.iload_n 1, 1) := dk_27 (dk_at dksX7_next_3 22 rfl rfl)
theorem dX7_next_92 : decode cX7_next 92 = .ok (.bipush 59, 2) := dk_16 59 (dk_at dksX7_next_4 0 rfl rfl)
theorem dX7_next_94 : decode cX7_next 94 = .ok (.if_icmp .ne 7, 3) := dk_160 0 7 (dk_at dksX7_next_4 2 rfl rfl)
theorem dX7_next_97 : decode cX7_next 97 = .ok (.iconst 3, 1) := dk_6 (dk_at dksX7_next_4 5 rfl rfl)
theorem dX7_next_98 : decode cX7_next 98 = .ok (.goto 4, 3) := dk_167 0 4 (dk_at dksX7_next_4 6 rfl rfl)
theorem dX7_next_101 : decode cX7_next 101 = .ok (.iconst 4, 1) := dk_7 (dk_at dksX7_next_4 9 rfl rfl)
theorem dX7_next_102 : decode cX7_next 102 = .ok (.putfield 52, 3) := dk_181 0 52 (dk_at dksX7_next_4 10 rfl rfl)
theorem dX7_next_105 : decode cX7_next 105 = .ok (.aload_n 0, 1) := dk_42 (dk_at dksX7_next_4 13 rfl rfl)
theorem dX7_next_106 : decode cX7_next 106 = .ok (.getfield 52, 3) := dk_180 0 52 (dk_at dksX7_next_4 14 rfl rfl)
theorem dX7_next_109 : decode cX7_next 109 = .ok (.iconst 2, 1) := dk_5 (dk_at dksX7_next_4 17 rfl rfl)
theorem dX7_next_110 : decode cX7_next 110 = .ok (.if_icmp .eq 4, 3) := dk_159 0 4 (dk_at dksX7_next_4 18 rfl rfl)
theorem dX7_next_113 : decode cX7_next 113 = .ok (.return_, 1) := dk_177 (dk_at dksX7_next_4 21 rfl rfl)
theorem dX7_next_114 : decode cX7_next 114 = .ok (.aload_n 0, 1) := dk_42 (dk_at dksX7_next_4 22 rfl rfl)
theorem dX7_next_115 : decode cX7_next 115 = .ok (.iload_n 1, 1) := dk_27 (dk_at dksX7_next_4 23 rfl rfl)
theorem dX7_next_116 : decode cX7_next 116 = .ok (.bipush 48, 2) := dk_16 48 (dk_at dksX7_next_5 0 rfl rfl)
theorem dX7_next_118 : decode cX7_next 118 = .ok (.isub, 1) := dk_100 (dk_at dksX7_next_5 2 rfl rfl)
theorem dX7_next_119 : decode cX7_next 119 = .ok (.putfield 37, 3) := dk_181 0 37 (dk_at dksX7_next_5 3 rfl rfl)
theorem dX7_next_122 : decode cX7_next 122 = .ok (.aload_n 0, 1) := dk_42 (dk_at dksX7_next_5 6 rfl rfl)
theorem dX7_next_123 : decode cX7_next 123 = .ok (.invokevirtual 33, 3) := dk_182 0 33 (dk_at dksX7_next_5 7 rfl rfl)
theorem dX7_next_126 : decode cX7_next 126 = .ok (.i2l, 1) := dk_133 (dk_at dksX7_next_5 10 rfl rfl)
theorem dX7_next_127 : decode cX7_next 127 = .ok (.ldc2_w 48, 3) := dk_20 0 48 (dk_at dksX7_next_5 11 rfl rfl)
theorem dX7_next_130 : decode cX7_next 130 = .ok (.ldc2_w 50, 3) := dk_20 0 50 (dk_at dksX7_next_5 14 rfl rfl)
theorem dX7_next_133 : decode cX7_next 133 = .ok (.invokestatic 44, 3) := dk_184 0 44 (dk_at dksX7_next_5 17 rfl rfl)
theorem dX7_next_136 : decode cX7_next 136 = .ok (.ifCond .eq 55, 3) := dk_153 0 55 (dk_at dksX7_next_5 20 rfl rfl)
theorem dX7_next_139 : decode cX7_next 139 = .ok (.aload_n 0, 1) := dk_42 (dk_at dksX7_next_5 23 rfl rfl)
theorem dX7_next_140 : decode cX7_next 140 = .ok (.aload_n 0, 1) := dk_42 (dk_at dksX7_next_6 0 rfl rfl)
theorem dX7_next_141 : decode cX7_next 141 = .ok (.getfield 26, 3) := dk_180 0 26 (dk_at dksX7_next_6 1 rfl rfl)
theorem dX7_next_144 : decode cX7_next 144 = .ok (.aload_n 0, 1) := dk_42 (dk_at dksX7_next_6 4 rfl rfl)
theorem dX7_next_145 : decode cX7_next 145 = .ok (.getfield 30, 3) := dk_180 0 30 (dk_at dksX7_next_6 5 rfl rfl)
theorem dX7_next_148 : decode cX7_next 148 = .ok (.iconst 1, 1) := dk_4 (dk_at dksX7_next_6 8 rfl rfl)
theorem dX7_next_149 : decode cX7_next 149 = .ok (.iadd, 1) := dk_96 (dk_at dksX7_next_6 9 rfl rfl)
theorem dX7_next_150 : decode cX7_next 150 = .ok (.if_icmp .ne 21, 3) := dk_160 0 21 (dk_at dksX7_next_6 10 rfl rfl)
theorem dX7_next_153 : decode cX7_next 153 = .ok (.bipush 10, 2) := dk_16 10 (dk_at dksX7_next_6 13 rfl rfl)
theorem dX7_next_155 : decode cX7_next 155 = .ok (.aload_n 0, 1) := dk_42 (dk_at dksX7_next_6 15 rfl rfl)
theorem dX7_next_156 : decode cX7_next 156 = .ok (.getfield 37, 3) := dk_180 0 37 (dk_at dksX7_next_6 16 rfl rfl)
theorem dX7_next_159 : decode cX7_next 159 = .ok (.imul, 1) := dk_104 (dk_at dksX7_next_6 19 rfl rfl)
theorem dX7_next_160 : decode cX7_next 160 = .ok (.aload_n 0, 1) := dk_42 (dk_at dksX7_next_6 20 rfl rfl)
theorem dX7_next_161 : decode cX7_next 161 = .ok (.invokevirtual 33, 3) := dk_182 0 33 (dk_at dksX7_next_6 21 rfl rfl)
theorem dX7_next_164 : decode cX7_next 164 = .ok (.iadd, 1) := dk_96 (dk_at dksX7_next_7 0 rfl rfl)
theorem dX7_next_165 : decode cX7_next 165 = .ok (.bipush 48, 2) := dk_16 48 (dk_at dksX7_next_7 1 rfl rfl)
theorem dX7_next_167 : decode cX7_next 167 = .ok (.isub, 1) := dk_100 (dk_at dksX7_next_7 3 rfl rfl)
theorem dX7_next_168 : decode cX7_next 168 = .ok (.goto 7, 3) := dk_167 0 7 (dk_at dksX7_next_7 4 rfl rfl)
theorem dX7_next_171 : decode cX7_next 171 = .ok (.aload_n 0, 1) := dk_42 (dk_at dksX7_next_7 7 rfl rfl)
theorem dX7_next_172 : decode cX7_next 172 = .ok (.getfield 37, 3) := dk_180 0 37 (dk_at dksX7_next_7 8 rfl rfl)
theorem dX7_next_175 : decode cX7_next 175 = .ok (.putfield 37, 3) := dk_181 0 37 (dk_at dksX7_next_7 11 rfl rfl)
theorem dX7_next_178 : decode cX7_next 178 = .ok (.aload_n 0, 1) := dk_42 (dk_at dksX7_next_7 14 rfl rfl)
theorem dX7_next_179 : decode cX7_next 179 = .ok (.dup, 1) := dk_89 (dk_at dksX7_next_7 15 rfl rfl)
theorem dX7_next_180 : decode cX7_next 180 = .ok (.getfield 26, 3) := dk_180 0 26 (dk_at dksX7_next_7 16 rfl rfl)
theorem dX7_next_183 : decode cX7_next 183 = .ok (.iconst 1, 1) := dk_4 (dk_at dksX7_next_7 19 rfl rfl)
theorem dX7_next_184 : decode cX7_next 184 = .ok (.iadd, 1) := dk_96 (dk_at dksX7_next_7 20 rfl rfl)
theorem dX7_next_185 : decode cX7_next 185 = .ok (.putfield 26, 3) := dk_181 0 26 (dk_at dksX7_next_7 21 rfl rfl)
theorem dX7_next_188 : decode cX7_next 188 = .ok (.goto (-66), 3) := dk_167 255 190 (dk_at dksX7_next_8 0 rfl rfl)
theorem dX7_next_191 : decode cX7_next 191 = .ok (.aload_n 0, 1) := dk_42 (dk_at dksX7_next_8 3 rfl rfl)
theorem dX7_next_192 : decode cX7_next 192 = .ok (.aload_n 0, 1) := dk_42 (dk_at dksX7_next_8 4 rfl rfl)
theorem dX7_next_193 : decode cX7_next 193 = .ok (.getfield 26, 3) := dk_180 0 26 (dk_at dksX7_next_8 5 rfl rfl)
theorem dX7_next_196 : decode cX7_next 196 = .ok (.aload_n 0, 1) := dk_42 (dk_at dksX7_next_8 8 rfl rfl)
theorem dX7_next_197 : decode cX7_next 197 = .ok (.getfield 30, 3) := dk_180 0 30 (dk_at dksX7_next_8 9 rfl rfl)
theorem dX7_next_200 : decode cX7_next 200 = .ok (.isub, 1) := dk_100 (dk_at dksX7_next_8 12 rfl rfl)
theorem dX7_next_201 : decode cX7_next 201 = .ok (.iconst 2, 1) := dk_5 (dk_at dksX7_next_8 13 rfl rfl)
theorem dX7_next_202 : decode cX7_next 202 = .ok (.if_icmp .le 7, 3) := dk_164 0 7 (dk_at dksX7_next_8 14 rfl rfl)
theorem dX7_next_205 : decode cX7_next 205 = .ok (.iconst 4, 1) := dk_7 (dk_at dksX7_next_8 17 rfl rfl)
theorem dX7_next_206 : decode cX7_next 206 = .ok (.goto 4, 3) := dk_167 0 4 (dk_at dksX7_next_8 18 rfl rfl)
theorem dX7_next_209 : decode cX7_next 209 = .ok (.iconst 2, 1) := dk_5 (dk_at dksX7_next_8 21 rfl rfl)
theorem dX7_next_210 : decode cX7_next 210 = .ok (.putfield 52, 3) := dk_181 0 52 (dk_at dksX7_next_9 0 rfl rfl)
theorem dX7_next_213 : decode cX7_next 213 = .ok (.return_, 1) := dk_177 (dk_at dksX7_next_9 3 rfl rfl)
abbrev cX7_look : ByteArray := prog_12_method_2_code
def yX7_look : MethodName := ⟨RX7, "look", "()I"⟩
def dkwX7_look_1 : List UInt8 := [167, 0, 5, 18, 29, 172]
abbrev dktX7_look_1 : List UInt8 := dkwX7_look_1 ++ []
def dkwX7_look_0 : List UInt8 := [42, 180, 0, 26, 42, 180, 0, 22, 162, 0, 19, 42, 180, 0, 18, 42, 180, 0, 26, 51, 17, 0, 255, 126]
abbrev dktX7_look_0 : List UInt8 := dkwX7_look_0 ++ dktX7_look_1
theorem dksX7_look_0 : cX7_look.data.toList.drop 0 = dktX7_look_0 := by decide +kernel
theorem dksX7_look_1 : cX7_look.data.toList.drop 24 = dktX7_look_1 := dk_seg dksX7_look_0 24 rfl rfl
theorem dX7_look_0 : decode cX7_look 0 = .ok (.aload_n 0, 1) := dk_42 (dk_at dksX7_look_0 0 rfl rfl)
theorem dX7_look_1 : decode cX7_look 1 = .ok (.getfield 26, 3) := dk_180 0 26 (dk_at dksX7_look_0 1 rfl rfl)
theorem dX7_look_4 : decode cX7_look 4 = .ok (.aload_n 0, 1) := dk_42 (dk_at dksX7_look_0 4 rfl rfl)
theorem dX7_look_5 : decode cX7_look 5 = .ok (.getfield 22, 3) := dk_180 0 22 (dk_at dksX7_look_0 5 rfl rfl)
theorem dX7_look_8 : decode cX7_look 8 = .ok (.if_icmp .ge 19, 3) := dk_162 0 19 (dk_at dksX7_look_0 8 rfl rfl)
theorem dX7_look_11 : decode cX7_look 11 = .ok (.aload_n 0, 1) := dk_42 (dk_at dksX7_look_0 11 rfl rfl)
theorem dX7_look_12 : decode cX7_look 12 = .ok (.getfield 18, 3) := dk_180 0 18 (dk_at dksX7_look_0 12 rfl rfl)
theorem dX7_look_15 : decode cX7_look 15 = .ok (.aload_n 0, 1) := dk_42 (dk_at dksX7_look_0 15 rfl rfl)
theorem dX7_look_16 : decode cX7_look 16 = .ok (.getfield 26, 3) := dk_180 0 26 (dk_at dksX7_look_0 16 rfl rfl)
theorem dX7_look_19 : decode cX7_look 19 = .ok (.baload, 1) := dk_51 (dk_at dksX7_look_0 19 rfl rfl)
theorem dX7_look_20 : decode cX7_look 20 = .ok (.sipush 255, 3) := dk_17 0 255 (dk_at dksX7_look_0 20 rfl rfl)
theorem dX7_look_23 : decode cX7_look 23 = .ok (.iand, 1) := dk_126 (dk_at dksX7_look_0 23 rfl rfl)
theorem dX7_look_24 : decode cX7_look 24 = .ok (.goto 5, 3) := dk_167 0 5 (dk_at dksX7_look_1 0 rfl rfl)
theorem dX7_look_27 : decode cX7_look 27 = .ok (.ldc 29, 2) := dk_18 29 (dk_at dksX7_look_1 3 rfl rfl)
theorem dX7_look_29 : decode cX7_look 29 = .ok (.ireturn, 1) := dk_172 (dk_at dksX7_look_1 5 rfl rfl)
abbrev cX7_is : ByteArray := prog_12_method_5_code
def yX7_is : MethodName := ⟨RX7, "is", "(II)Z"⟩
def dkwX7_is_0 : List UInt8 := [42, 180, 0, 52, 27, 160, 0, 15, 42, 180, 0, 37, 28, 160, 0, 7, 4, 167, 0, 4, 3, 172]
abbrev dktX7_is_0 : List UInt8 := dkwX7_is_0 ++ []
theorem dksX7_is_0 : cX7_is.data.toList.drop 0 = dktX7_is_0 := by decide +kernel
theorem dX7_is_0 : decode cX7_is 0 = .ok (.aload_n 0, 1) := dk_42 (dk_at dksX7_is_0 0 rfl rfl)
theorem dX7_is_1 : decode cX7_is 1 = .ok (.getfield 52, 3) := dk_180 0 52 (dk_at dksX7_is_0 1 rfl rfl)
theorem dX7_is_4 : decode cX7_is 4 = .ok (.iload_n 1, 1) := dk_27 (dk_at dksX7_is_0 4 rfl rfl)
theorem dX7_is_5 : decode cX7_is 5 = .ok (.if_icmp .ne 15, 3) := dk_160 0 15 (dk_at dksX7_is_0 5 rfl rfl)
theorem dX7_is_8 : decode cX7_is 8 = .ok (.aload_n 0, 1) := dk_42 (dk_at dksX7_is_0 8 rfl rfl)
theorem dX7_is_9 : decode cX7_is 9 = .ok (.getfield 37, 3) := dk_180 0 37 (dk_at dksX7_is_0 9 rfl rfl)
theorem dX7_is_12 : decode cX7_is 12 = .ok (.iload_n 2, 1) := dk_28 (dk_at dksX7_is_0 12 rfl rfl)
theorem dX7_is_13 : decode cX7_is 13 = .ok (.if_icmp .ne 7, 3) := dk_160 0 7 (dk_at dksX7_is_0 13 rfl rfl)
theorem dX7_is_16 : decode cX7_is 16 = .ok (.iconst 1, 1) := dk_4 (dk_at dksX7_is_0 16 rfl rfl)
theorem dX7_is_17 : decode cX7_is 17 = .ok (.goto 4, 3) := dk_167 0 4 (dk_at dksX7_is_0 17 rfl rfl)
theorem dX7_is_20 : decode cX7_is 20 = .ok (.iconst 0, 1) := dk_3 (dk_at dksX7_is_0 20 rfl rfl)
theorem dX7_is_21 : decode cX7_is 21 = .ok (.ireturn, 1) := dk_172 (dk_at dksX7_is_0 21 rfl rfl)
abbrev cX7_must : ByteArray := prog_12_method_4_code
def yX7_must : MethodName := ⟨RX7, "must", "(ZI)V"⟩
def dkwX7_must_0 : List UInt8 := [27, 154, 0, 16, 187, 0, 55, 89, 28, 42, 180, 0, 30, 183, 0, 57, 191, 177]
abbrev dktX7_must_0 : List UInt8 := dkwX7_must_0 ++ []
theorem dksX7_must_0 : cX7_must.data.toList.drop 0 = dktX7_must_0 := by decide +kernel
theorem dX7_must_0 : decode cX7_must 0 = .ok (.iload_n 1, 1) := dk_27 (dk_at dksX7_must_0 0 rfl rfl)
theorem dX7_must_1 : decode cX7_must 1 = .ok (.ifCond .ne 16, 3) := dk_154 0 16 (dk_at dksX7_must_0 1 rfl rfl)
theorem dX7_must_4 : decode cX7_must 4 = .ok (.new 55, 3) := dk_187 0 55 (dk_at dksX7_must_0 4 rfl rfl)
theorem dX7_must_7 : decode cX7_must 7 = .ok (.dup, 1) := dk_89 (dk_at dksX7_must_0 7 rfl rfl)
theorem dX7_must_8 : decode cX7_must 8 = .ok (.iload_n 2, 1) := dk_28 (dk_at dksX7_must_0 8 rfl rfl)
theorem dX7_must_9 : decode cX7_must 9 = .ok (.aload_n 0, 1) := dk_42 (dk_at dksX7_must_0 9 rfl rfl)
theorem dX7_must_10 : decode cX7_must 10 = .ok (.getfield 30, 3) := dk_180 0 30 (dk_at dksX7_must_0 10 rfl rfl)
theorem dX7_must_13 : decode cX7_must 13 = .ok (.invokespecial 57, 3) := dk_183 0 57 (dk_at dksX7_must_0 13 rfl rfl)
theorem dX7_must_16 : decode cX7_must 16 = .ok (.athrow, 1) := dk_191 (dk_at dksX7_must_0 16 rfl rfl)
theorem dX7_must_17 : decode cX7_must 17 = .ok (.return_, 1) := dk_177 (dk_at dksX7_must_0 17 rfl rfl)
abbrev cX7_figure : ByteArray := prog_12_method_6_code
def yX7_figure : MethodName := ⟨RX7, "figure", "(II)I"⟩
def dkwX7_figure_1 : List UInt8 := [27, 133, 28, 133, 184, 0, 44, 5, 182, 0, 60, 42, 180, 0, 37, 62, 42, 182, 0, 64, 29, 172]
abbrev dktX7_figure_1 : List UInt8 := dkwX7_figure_1 ++ []
def dkwX7_figure_0 : List UInt8 := [42, 42, 180, 0, 52, 5, 160, 0, 7, 4, 167, 0, 4, 3, 4, 182, 0, 60, 42, 42, 180, 0, 37, 133]
abbrev dktX7_figure_0 : List UInt8 := dkwX7_figure_0 ++ dktX7_figure_1
theorem dksX7_figure_0 : cX7_figure.data.toList.drop 0 = dktX7_figure_0 := by decide +kernel
theorem dksX7_figure_1 : cX7_figure.data.toList.drop 24 = dktX7_figure_1 := dk_seg dksX7_figure_0 24 rfl rfl
theorem dX7_figure_0 : decode cX7_figure 0 = .ok (.aload_n 0, 1) := dk_42 (dk_at dksX7_figure_0 0 rfl rfl)
theorem dX7_figure_1 : decode cX7_figure 1 = .ok (.aload_n 0, 1) := dk_42 (dk_at dksX7_figure_0 1 rfl rfl)
theorem dX7_figure_2 : decode cX7_figure 2 = .ok (.getfield 52, 3) := dk_180 0 52 (dk_at dksX7_figure_0 2 rfl rfl)
theorem dX7_figure_5 : decode cX7_figure 5 = .ok (.iconst 2, 1) := dk_5 (dk_at dksX7_figure_0 5 rfl rfl)
theorem dX7_figure_6 : decode cX7_figure 6 = .ok (.if_icmp .ne 7, 3) := dk_160 0 7 (dk_at dksX7_figure_0 6 rfl rfl)
theorem dX7_figure_9 : decode cX7_figure 9 = .ok (.iconst 1, 1) := dk_4 (dk_at dksX7_figure_0 9 rfl rfl)
theorem dX7_figure_10 : decode cX7_figure 10 = .ok (.goto 4, 3) := dk_167 0 4 (dk_at dksX7_figure_0 10 rfl rfl)
theorem dX7_figure_13 : decode cX7_figure 13 = .ok (.iconst 0, 1) := dk_3 (dk_at dksX7_figure_0 13 rfl rfl)
theorem dX7_figure_14 : decode cX7_figure 14 = .ok (.iconst 1, 1) := dk_4 (dk_at dksX7_figure_0 14 rfl rfl)
theorem dX7_figure_15 : decode cX7_figure 15 = .ok (.invokevirtual 60, 3) := dk_182 0 60 (dk_at dksX7_figure_0 15 rfl rfl)
theorem dX7_figure_18 : decode cX7_figure 18 = .ok (.aload_n 0, 1) := dk_42 (dk_at dksX7_figure_0 18 rfl rfl)
theorem dX7_figure_19 : decode cX7_figure 19 = .ok (.aload_n 0, 1) := dk_42 (dk_at dksX7_figure_0 19 rfl rfl)
theorem dX7_figure_20 : decode cX7_figure 20 = .ok (.getfield 37, 3) := dk_180 0 37 (dk_at dksX7_figure_0 20 rfl rfl)
theorem dX7_figure_23 : decode cX7_figure 23 = .ok (.i2l, 1) := dk_133 (dk_at dksX7_figure_0 23 rfl rfl)
theorem dX7_figure_24 : decode cX7_figure 24 = .ok (.iload_n 1, 1) := dk_27 (dk_at dksX7_figure_1 0 rfl rfl)
theorem dX7_figure_25 : decode cX7_figure 25 = .ok (.i2l, 1) := dk_133 (dk_at dksX7_figure_1 1 rfl rfl)
theorem dX7_figure_26 : decode cX7_figure 26 = .ok (.iload_n 2, 1) := dk_28 (dk_at dksX7_figure_1 2 rfl rfl)
theorem dX7_figure_27 : decode cX7_figure 27 = .ok (.i2l, 1) := dk_133 (dk_at dksX7_figure_1 3 rfl rfl)
theorem dX7_figure_28 : decode cX7_figure 28 = .ok (.invokestatic 44, 3) := dk_184 0 44 (dk_at dksX7_figure_1 4 rfl rfl)
theorem dX7_figure_31 : decode cX7_figure 31 = .ok (.iconst 2, 1) := dk_5 (dk_at dksX7_figure_1 7 rfl rfl)
theorem dX7_figure_32 : decode cX7_figure 32 = .ok (.invokevirtual 60, 3) := dk_182 0 60 (dk_at dksX7_figure_1 8 rfl rfl)
theorem dX7_figure_35 : decode cX7_figure 35 = .ok (.aload_n 0, 1) := dk_42 (dk_at dksX7_figure_1 11 rfl rfl)
theorem dX7_figure_36 : decode cX7_figure 36 = .ok (.getfield 37, 3) := dk_180 0 37 (dk_at dksX7_figure_1 12 rfl rfl)
theorem dX7_figure_39 : decode cX7_figure 39 = .ok (.istore_n 3, 1) := dk_62 (dk_at dksX7_figure_1 15 rfl rfl)
theorem dX7_figure_40 : decode cX7_figure 40 = .ok (.aload_n 0, 1) := dk_42 (dk_at dksX7_figure_1 16 rfl rfl)
theorem dX7_figure_41 : decode cX7_figure 41 = .ok (.invokevirtual 64, 3) := dk_182 0 64 (dk_at dksX7_figure_1 17 rfl rfl)
theorem dX7_figure_44 : decode cX7_figure 44 = .ok (.iload_n 3, 1) := dk_29 (dk_at dksX7_figure_1 20 rfl rfl)
theorem dX7_figure_45 : decode cX7_figure 45 = .ok (.ireturn, 1) := dk_172 (dk_at dksX7_figure_1 21 rfl rfl)
abbrev cX7_sign : ByteArray := prog_12_method_7_code
def yX7_sign : MethodName := ⟨RX7, "sign", "(I)V"⟩
def dkwX7_sign_0 : List UInt8 := [42, 42, 6, 27, 182, 0, 67, 4, 182, 0, 60, 42, 182, 0, 64, 177]
abbrev dktX7_sign_0 : List UInt8 := dkwX7_sign_0 ++ []
theorem dksX7_sign_0 : cX7_sign.data.toList.drop 0 = dktX7_sign_0 := by decide +kernel
theorem dX7_sign_0 : decode cX7_sign 0 = .ok (.aload_n 0, 1) := dk_42 (dk_at dksX7_sign_0 0 rfl rfl)
theorem dX7_sign_1 : decode cX7_sign 1 = .ok (.aload_n 0, 1) := dk_42 (dk_at dksX7_sign_0 1 rfl rfl)
theorem dX7_sign_2 : decode cX7_sign 2 = .ok (.iconst 3, 1) := dk_6 (dk_at dksX7_sign_0 2 rfl rfl)
theorem dX7_sign_3 : decode cX7_sign 3 = .ok (.iload_n 1, 1) := dk_27 (dk_at dksX7_sign_0 3 rfl rfl)
theorem dX7_sign_4 : decode cX7_sign 4 = .ok (.invokevirtual 67, 3) := dk_182 0 67 (dk_at dksX7_sign_0 4 rfl rfl)
theorem dX7_sign_7 : decode cX7_sign 7 = .ok (.iconst 1, 1) := dk_4 (dk_at dksX7_sign_0 7 rfl rfl)
theorem dX7_sign_8 : decode cX7_sign 8 = .ok (.invokevirtual 60, 3) := dk_182 0 60 (dk_at dksX7_sign_0 8 rfl rfl)
theorem dX7_sign_11 : decode cX7_sign 11 = .ok (.aload_n 0, 1) := dk_42 (dk_at dksX7_sign_0 11 rfl rfl)
theorem dX7_sign_12 : decode cX7_sign 12 = .ok (.invokevirtual 64, 3) := dk_182 0 64 (dk_at dksX7_sign_0 12 rfl rfl)
theorem dX7_sign_15 : decode cX7_sign 15 = .ok (.return_, 1) := dk_177 (dk_at dksX7_sign_0 15 rfl rfl)
abbrev cX7_sort : ByteArray := prog_12_method_9_code
def yX7_sort : MethodName := ⟨RX7, "sort", "()I"⟩
def dkwX7_sort_1 : List UInt8 := [146, 182, 0, 106, 182, 0, 109, 184, 0, 113, 167, 0, 5, 18, 29, 172]
abbrev dktX7_sort_1 : List UInt8 := dkwX7_sort_1 ++ []
def dkwX7_sort_0 : List UInt8 := [42, 180, 0, 52, 4, 160, 0, 32, 187, 0, 97, 89, 183, 0, 99, 18, 100, 182, 0, 102, 42, 180, 0, 37]
abbrev dktX7_sort_0 : List UInt8 := dkwX7_sort_0 ++ dktX7_sort_1
theorem dksX7_sort_0 : cX7_sort.data.toList.drop 0 = dktX7_sort_0 := by decide +kernel
theorem dksX7_sort_1 : cX7_sort.data.toList.drop 24 = dktX7_sort_1 := dk_seg dksX7_sort_0 24 rfl rfl
theorem dX7_sort_0 : decode cX7_sort 0 = .ok (.aload_n 0, 1) := dk_42 (dk_at dksX7_sort_0 0 rfl rfl)
theorem dX7_sort_1 : decode cX7_sort 1 = .ok (.getfield 52, 3) := dk_180 0 52 (dk_at dksX7_sort_0 1 rfl rfl)
theorem dX7_sort_4 : decode cX7_sort 4 = .ok (.iconst 1, 1) := dk_4 (dk_at dksX7_sort_0 4 rfl rfl)
theorem dX7_sort_5 : decode cX7_sort 5 = .ok (.if_icmp .ne 32, 3) := dk_160 0 32 (dk_at dksX7_sort_0 5 rfl rfl)
theorem dX7_sort_8 : decode cX7_sort 8 = .ok (.new 97, 3) := dk_187 0 97 (dk_at dksX7_sort_0 8 rfl rfl)
theorem dX7_sort_11 : decode cX7_sort 11 = .ok (.dup, 1) := dk_89 (dk_at dksX7_sort_0 11 rfl rfl)
theorem dX7_sort_12 : decode cX7_sort 12 = .ok (.invokespecial 99, 3) := dk_183 0 99 (dk_at dksX7_sort_0 12 rfl rfl)
theorem dX7_sort_15 : decode cX7_sort 15 = .ok (.ldc 100, 2) := dk_18 100 (dk_at dksX7_sort_0 15 rfl rfl)
theorem dX7_sort_17 : decode cX7_sort 17 = .ok (.invokevirtual 102, 3) := dk_182 0 102 (dk_at dksX7_sort_0 17 rfl rfl)
theorem dX7_sort_20 : decode cX7_sort 20 = .ok (.aload_n 0, 1) := dk_42 (dk_at dksX7_sort_0 20 rfl rfl)
theorem dX7_sort_21 : decode cX7_sort 21 = .ok (.getfield 37, 3) := dk_180 0 37 (dk_at dksX7_sort_0 21 rfl rfl)
theorem dX7_sort_24 : decode cX7_sort 24 = .ok (.i2c, 1) := dk_146 (dk_at dksX7_sort_1 0 rfl rfl)
theorem dX7_sort_25 : decode cX7_sort 25 = .ok (.invokevirtual 106, 3) := dk_182 0 106 (dk_at dksX7_sort_1 1 rfl rfl)
theorem dX7_sort_28 : decode cX7_sort 28 = .ok (.invokevirtual 109, 3) := dk_182 0 109 (dk_at dksX7_sort_1 4 rfl rfl)
theorem dX7_sort_31 : decode cX7_sort 31 = .ok (.invokestatic 113, 3) := dk_184 0 113 (dk_at dksX7_sort_1 7 rfl rfl)
theorem dX7_sort_34 : decode cX7_sort 34 = .ok (.goto 5, 3) := dk_167 0 5 (dk_at dksX7_sort_1 10 rfl rfl)
theorem dX7_sort_37 : decode cX7_sort 37 = .ok (.ldc 29, 2) := dk_18 29 (dk_at dksX7_sort_1 13 rfl rfl)
theorem dX7_sort_39 : decode cX7_sort 39 = .ok (.ireturn, 1) := dk_172 (dk_at dksX7_sort_1 15 rfl rfl)
abbrev cX7_person : ByteArray := prog_12_method_10_code
def yX7_person : MethodName := ⟨RX7, "person", "()V"⟩
def dkwX7_person_2 : List UInt8 := [182, 0, 78, 42, 180, 0, 12, 89, 180, 0, 119, 4, 96, 181, 0, 119, 177]
abbrev dktX7_person_2 : List UInt8 := dkwX7_person_2 ++ []
def dkwX7_person_1 : List UInt8 := [42, 180, 0, 12, 180, 0, 122, 27, 42, 182, 0, 85, 27, 184, 0, 125, 83, 42, 182, 0, 64, 42, 16, 59]
abbrev dktX7_person_1 : List UInt8 := dkwX7_person_1 ++ dktX7_person_2
def dkwX7_person_0 : List UInt8 := [42, 180, 0, 12, 180, 0, 119, 60, 42, 27, 16, 9, 162, 0, 7, 4, 167, 0, 4, 3, 6, 182, 0, 60]
abbrev dktX7_person_0 : List UInt8 := dkwX7_person_0 ++ dktX7_person_1
theorem dksX7_person_0 : cX7_person.data.toList.drop 0 = dktX7_person_0 := by decide +kernel
theorem dksX7_person_1 : cX7_person.data.toList.drop 24 = dktX7_person_1 := dk_seg dksX7_person_0 24 rfl rfl
theorem dksX7_person_2 : cX7_person.data.toList.drop 48 = dktX7_person_2 := dk_seg dksX7_person_1 24 rfl rfl
theorem dX7_person_0 : decode cX7_person 0 = .ok (.aload_n 0, 1) := dk_42 (dk_at dksX7_person_0 0 rfl rfl)
theorem dX7_person_1 : decode cX7_person 1 = .ok (.getfield 12, 3) := dk_180 0 12 (dk_at dksX7_person_0 1 rfl rfl)
theorem dX7_person_4 : decode cX7_person 4 = .ok (.getfield 119, 3) := dk_180 0 119 (dk_at dksX7_person_0 4 rfl rfl)
theorem dX7_person_7 : decode cX7_person 7 = .ok (.istore_n 1, 1) := dk_60 (dk_at dksX7_person_0 7 rfl rfl)
theorem dX7_person_8 : decode cX7_person 8 = .ok (.aload_n 0, 1) := dk_42 (dk_at dksX7_person_0 8 rfl rfl)
theorem dX7_person_9 : decode cX7_person 9 = .ok (.iload_n 1, 1) := dk_27 (dk_at dksX7_person_0 9 rfl rfl)
theorem dX7_person_10 : decode cX7_person 10 = .ok (.bipush 9, 2) := dk_16 9 (dk_at dksX7_person_0 10 rfl rfl)
theorem dX7_person_12 : decode cX7_person 12 = .ok (.if_icmp .ge 7, 3) := dk_162 0 7 (dk_at dksX7_person_0 12 rfl rfl)
theorem dX7_person_15 : decode cX7_person 15 = .ok (.iconst 1, 1) := dk_4 (dk_at dksX7_person_0 15 rfl rfl)
theorem dX7_person_16 : decode cX7_person 16 = .ok (.goto 4, 3) := dk_167 0 4 (dk_at dksX7_person_0 16 rfl rfl)
theorem dX7_person_19 : decode cX7_person 19 = .ok (.iconst 0, 1) := dk_3 (dk_at dksX7_person_0 19 rfl rfl)
theorem dX7_person_20 : decode cX7_person 20 = .ok (.iconst 3, 1) := dk_6 (dk_at dksX7_person_0 20 rfl rfl)
theorem dX7_person_21 : decode cX7_person 21 = .ok (.invokevirtual 60, 3) := dk_182 0 60 (dk_at dksX7_person_0 21 rfl rfl)
theorem dX7_person_24 : decode cX7_person 24 = .ok (.aload_n 0, 1) := dk_42 (dk_at dksX7_person_1 0 rfl rfl)
theorem dX7_person_25 : decode cX7_person 25 = .ok (.getfield 12, 3) := dk_180 0 12 (dk_at dksX7_person_1 1 rfl rfl)
theorem dX7_person_28 : decode cX7_person 28 = .ok (.getfield 122, 3) := dk_180 0 122 (dk_at dksX7_person_1 4 rfl rfl)
theorem dX7_person_31 : decode cX7_person 31 = .ok (.iload_n 1, 1) := dk_27 (dk_at dksX7_person_1 7 rfl rfl)
theorem dX7_person_32 : decode cX7_person 32 = .ok (.aload_n 0, 1) := dk_42 (dk_at dksX7_person_1 8 rfl rfl)
theorem dX7_person_33 : decode cX7_person 33 = .ok (.invokevirtual 85, 3) := dk_182 0 85 (dk_at dksX7_person_1 9 rfl rfl)
theorem dX7_person_36 : decode cX7_person 36 = .ok (.iload_n 1, 1) := dk_27 (dk_at dksX7_person_1 12 rfl rfl)
theorem dX7_person_37 : decode cX7_person 37 = .ok (.invokestatic 125, 3) := dk_184 0 125 (dk_at dksX7_person_1 13 rfl rfl)
theorem dX7_person_40 : decode cX7_person 40 = .ok (.aastore, 1) := dk_83 (dk_at dksX7_person_1 16 rfl rfl)
theorem dX7_person_41 : decode cX7_person 41 = .ok (.aload_n 0, 1) := dk_42 (dk_at dksX7_person_1 17 rfl rfl)
theorem dX7_person_42 : decode cX7_person 42 = .ok (.invokevirtual 64, 3) := dk_182 0 64 (dk_at dksX7_person_1 18 rfl rfl)
theorem dX7_person_45 : decode cX7_person 45 = .ok (.aload_n 0, 1) := dk_42 (dk_at dksX7_person_1 21 rfl rfl)
theorem dX7_person_46 : decode cX7_person 46 = .ok (.bipush 59, 2) := dk_16 59 (dk_at dksX7_person_1 22 rfl rfl)
theorem dX7_person_48 : decode cX7_person 48 = .ok (.invokevirtual 78, 3) := dk_182 0 78 (dk_at dksX7_person_2 0 rfl rfl)
theorem dX7_person_51 : decode cX7_person 51 = .ok (.aload_n 0, 1) := dk_42 (dk_at dksX7_person_2 3 rfl rfl)
theorem dX7_person_52 : decode cX7_person 52 = .ok (.getfield 12, 3) := dk_180 0 12 (dk_at dksX7_person_2 4 rfl rfl)
theorem dX7_person_55 : decode cX7_person 55 = .ok (.dup, 1) := dk_89 (dk_at dksX7_person_2 7 rfl rfl)
theorem dX7_person_56 : decode cX7_person 56 = .ok (.getfield 119, 3) := dk_180 0 119 (dk_at dksX7_person_2 8 rfl rfl)
theorem dX7_person_59 : decode cX7_person 59 = .ok (.iconst 1, 1) := dk_4 (dk_at dksX7_person_2 11 rfl rfl)
theorem dX7_person_60 : decode cX7_person 60 = .ok (.iadd, 1) := dk_96 (dk_at dksX7_person_2 12 rfl rfl)
theorem dX7_person_61 : decode cX7_person 61 = .ok (.putfield 119, 3) := dk_181 0 119 (dk_at dksX7_person_2 13 rfl rfl)
theorem dX7_person_64 : decode cX7_person 64 = .ok (.return_, 1) := dk_177 (dk_at dksX7_person_2 16 rfl rfl)
abbrev cX7_contact : ByteArray := prog_12_method_11_code
def yX7_contact : MethodName := ⟨RX7, "contact", "()V"⟩
def dkwX7_contact_6 : List UInt8 := [182, 0, 78, 42, 180, 0, 12, 89, 180, 0, 129, 4, 96, 181, 0, 129, 177]
abbrev dktX7_contact_6 : List UInt8 := dkwX7_contact_6 ++ []
def dkwX7_contact_5 : List UInt8 := [182, 0, 78, 42, 180, 0, 12, 180, 0, 139, 27, 42, 3, 16, 30, 182, 0, 71, 79, 42, 16, 59]
abbrev dktX7_contact_5 : List UInt8 := dkwX7_contact_5 ++ dktX7_contact_6
def dkwX7_contact_4 : List UInt8 := [180, 0, 136, 27, 42, 3, 42, 180, 0, 12, 180, 0, 119, 4, 100, 182, 0, 71, 79, 42, 16, 44]
abbrev dktX7_contact_4 : List UInt8 := dkwX7_contact_4 ++ dktX7_contact_5
def dkwX7_contact_3 : List UInt8 := [180, 0, 12, 180, 0, 132, 27, 46, 159, 0, 7, 4, 167, 0, 4, 3, 5, 182, 0, 60, 42, 180, 0, 12]
abbrev dktX7_contact_3 : List UInt8 := dkwX7_contact_3 ++ dktX7_contact_4
def dkwX7_contact_2 : List UInt8 := [182, 0, 71, 79, 42, 16, 44, 182, 0, 78, 42, 42, 180, 0, 52, 5, 160, 0, 19, 42, 180, 0, 37, 42]
abbrev dktX7_contact_2 : List UInt8 := dkwX7_contact_2 ++ dktX7_contact_3
def dkwX7_contact_1 : List UInt8 := [42, 182, 0, 64, 42, 180, 0, 12, 180, 0, 132, 27, 42, 3, 42, 180, 0, 12, 180, 0, 119, 4, 100]
abbrev dktX7_contact_1 : List UInt8 := dkwX7_contact_1 ++ dktX7_contact_2
def dkwX7_contact_0 : List UInt8 := [42, 180, 0, 12, 180, 0, 129, 60, 42, 27, 16, 10, 162, 0, 7, 4, 167, 0, 4, 3, 6, 182, 0, 60]
abbrev dktX7_contact_0 : List UInt8 := dkwX7_contact_0 ++ dktX7_contact_1
theorem dksX7_contact_0 : cX7_contact.data.toList.drop 0 = dktX7_contact_0 := by decide +kernel
theorem dksX7_contact_1 : cX7_contact.data.toList.drop 24 = dktX7_contact_1 := dk_seg dksX7_contact_0 24 rfl rfl
theorem dksX7_contact_2 : cX7_contact.data.toList.drop 47 = dktX7_contact_2 := dk_seg dksX7_contact_1 23 rfl rfl
theorem dksX7_contact_3 : cX7_contact.data.toList.drop 71 = dktX7_contact_3 := dk_seg dksX7_contact_2 24 rfl rfl
theorem dksX7_contact_4 : cX7_contact.data.toList.drop 95 = dktX7_contact_4 := dk_seg dksX7_contact_3 24 rfl rfl
theorem dksX7_contact_5 : cX7_contact.data.toList.drop 117 = dktX7_contact_5 := dk_seg dksX7_contact_4 22 rfl rfl
theorem dksX7_contact_6 : cX7_contact.data.toList.drop 139 = dktX7_contact_6 := dk_seg dksX7_contact_5 22 rfl rfl
theorem dX7_contact_0 : decode cX7_contact 0 = .ok (.aload_n 0, 1) := dk_42 (dk_at dksX7_contact_0 0 rfl rfl)
theorem dX7_contact_1 : decode cX7_contact 1 = .ok (.getfield 12, 3) := dk_180 0 12 (dk_at dksX7_contact_0 1 rfl rfl)
theorem dX7_contact_4 : decode cX7_contact 4 = .ok (.getfield 129, 3) := dk_180 0 129 (dk_at dksX7_contact_0 4 rfl rfl)
theorem dX7_contact_7 : decode cX7_contact 7 = .ok (.istore_n 1, 1) := dk_60 (dk_at dksX7_contact_0 7 rfl rfl)
theorem dX7_contact_8 : decode cX7_contact 8 = .ok (.aload_n 0, 1) := dk_42 (dk_at dksX7_contact_0 8 rfl rfl)
theorem dX7_contact_9 : decode cX7_contact 9 = .ok (.iload_n 1, 1) := dk_27 (dk_at dksX7_contact_0 9 rfl rfl)
theorem dX7_contact_10 : decode cX7_contact 10 = .ok (.bipush 10, 2) := dk_16 10 (dk_at dksX7_contact_0 10 rfl rfl)
theorem dX7_contact_12 : decode cX7_contact 12 = .ok (.if_icmp .ge 7, 3) := dk_162 0 7 (dk_at dksX7_contact_0 12 rfl rfl)
theorem dX7_contact_15 : decode cX7_contact 15 = .ok (.iconst 1, 1) := dk_4 (dk_at dksX7_contact_0 15 rfl rfl)
theorem dX7_contact_16 : decode cX7_contact 16 = .ok (.goto 4, 3) := dk_167 0 4 (dk_at dksX7_contact_0 16 rfl rfl)
theorem dX7_contact_19 : decode cX7_contact 19 = .ok (.iconst 0, 1) := dk_3 (dk_at dksX7_contact_0 19 rfl rfl)
theorem dX7_contact_20 : decode cX7_contact 20 = .ok (.iconst 3, 1) := dk_6 (dk_at dksX7_contact_0 20 rfl rfl)
theorem dX7_contact_21 : decode cX7_contact 21 = .ok (.invokevirtual 60, 3) := dk_182 0 60 (dk_at dksX7_contact_0 21 rfl rfl)
theorem dX7_contact_24 : decode cX7_contact 24 = .ok (.aload_n 0, 1) := dk_42 (dk_at dksX7_contact_1 0 rfl rfl)
theorem dX7_contact_25 : decode cX7_contact 25 = .ok (.invokevirtual 64, 3) := dk_182 0 64 (dk_at dksX7_contact_1 1 rfl rfl)
theorem dX7_contact_28 : decode cX7_contact 28 = .ok (.aload_n 0, 1) := dk_42 (dk_at dksX7_contact_1 4 rfl rfl)
theorem dX7_contact_29 : decode cX7_contact 29 = .ok (.getfield 12, 3) := dk_180 0 12 (dk_at dksX7_contact_1 5 rfl rfl)
theorem dX7_contact_32 : decode cX7_contact 32 = .ok (.getfield 132, 3) := dk_180 0 132 (dk_at dksX7_contact_1 8 rfl rfl)
theorem dX7_contact_35 : decode cX7_contact 35 = .ok (.iload_n 1, 1) := dk_27 (dk_at dksX7_contact_1 11 rfl rfl)
theorem dX7_contact_36 : decode cX7_contact 36 = .ok (.aload_n 0, 1) := dk_42 (dk_at dksX7_contact_1 12 rfl rfl)
theorem dX7_contact_37 : decode cX7_contact 37 = .ok (.iconst 0, 1) := dk_3 (dk_at dksX7_contact_1 13 rfl rfl)
theorem dX7_contact_38 : decode cX7_contact 38 = .ok (.aload_n 0, 1) := dk_42 (dk_at dksX7_contact_1 14 rfl rfl)
theorem dX7_contact_39 : decode cX7_contact 39 = .ok (.getfield 12, 3) := dk_180 0 12 (dk_at dksX7_contact_1 15 rfl rfl)
theorem dX7_contact_42 : decode cX7_contact 42 = .ok (.getfield 119, 3) := dk_180 0 119 (dk_at dksX7_contact_1 18 rfl rfl)
theorem dX7_contact_45 : decode cX7_contact 45 = .ok (.iconst 1, 1) := dk_4 (dk_at dksX7_contact_1 21 rfl rfl)
theorem dX7_contact_46 : decode cX7_contact 46 = .ok (.isub, 1) := dk_100 (dk_at dksX7_contact_1 22 rfl rfl)
theorem dX7_contact_47 : decode cX7_contact 47 = .ok (.invokevirtual 71, 3) := dk_182 0 71 (dk_at dksX7_contact_2 0 rfl rfl)
theorem dX7_contact_50 : decode cX7_contact 50 = .ok (.iastore, 1) := dk_79 (dk_at dksX7_contact_2 3 rfl rfl)
theorem dX7_contact_51 : decode cX7_contact 51 = .ok (.aload_n 0, 1) := dk_42 (dk_at dksX7_contact_2 4 rfl rfl)
theorem dX7_contact_52 : decode cX7_contact 52 = .ok (.bipush 44, 2) := dk_16 44 (dk_at dksX7_contact_2 5 rfl rfl)
theorem dX7_contact_54 : decode cX7_contact 54 = .ok (.invokevirtual 78, 3) := dk_182 0 78 (dk_at dksX7_contact_2 7 rfl rfl)
theorem dX7_contact_57 : decode cX7_contact 57 = .ok (.aload_n 0, 1) := dk_42 (dk_at dksX7_contact_2 10 rfl rfl)
theorem dX7_contact_58 : decode cX7_contact 58 = .ok (.aload_n 0, 1) := dk_42 (dk_at dksX7_contact_2 11 rfl rfl)
theorem dX7_contact_59 : decode cX7_contact 59 = .ok (.getfield 52, 3) := dk_180 0 52 (dk_at dksX7_contact_2 12 rfl rfl)
theorem dX7_contact_62 : decode cX7_contact 62 = .ok (.iconst 2, 1) := dk_5 (dk_at dksX7_contact_2 15 rfl rfl)
theorem dX7_contact_63 : decode cX7_contact 63 = .ok (.if_icmp .ne 19, 3) := dk_160 0 19 (dk_at dksX7_contact_2 16 rfl rfl)
theorem dX7_contact_66 : decode cX7_contact 66 = .ok (.aload_n 0, 1) := dk_42 (dk_at dksX7_contact_2 19 rfl rfl)
theorem dX7_contact_67 : decode cX7_contact 67 = .ok (.getfield 37, 3) := dk_180 0 37 (dk_at dksX7_contact_2 20 rfl rfl)
theorem dX7_contact_70 : decode cX7_contact 70 = .ok (.aload_n 0, 1) := dk_42 (dk_at dksX7_contact_2 23 rfl rfl)
theorem dX7_contact_71 : decode cX7_contact 71 = .ok (.getfield 12, 3) := dk_180 0 12 (dk_at dksX7_contact_3 0 rfl rfl)
theorem dX7_contact_74 : decode cX7_contact 74 = .ok (.getfield 132, 3) := dk_180 0 132 (dk_at dksX7_contact_3 3 rfl rfl)
theorem dX7_contact_77 : decode cX7_contact 77 = .ok (.iload_n 1, 1) := dk_27 (dk_at dksX7_contact_3 6 rfl rfl)
theorem dX7_contact_78 : decode cX7_contact 78 = .ok (.iaload, 1) := dk_46 (dk_at dksX7_contact_3 7 rfl rfl)
theorem dX7_contact_79 : decode cX7_contact 79 = .ok (.if_icmp .eq 7, 3) := dk_159 0 7 (dk_at dksX7_contact_3 8 rfl rfl)
theorem dX7_contact_82 : decode cX7_contact 82 = .ok (.iconst 1, 1) := dk_4 (dk_at dksX7_contact_3 11 rfl rfl)
theorem dX7_contact_83 : decode cX7_contact 83 = .ok (.goto 4, 3) := dk_167 0 4 (dk_at dksX7_contact_3 12 rfl rfl)
theorem dX7_contact_86 : decode cX7_contact 86 = .ok (.iconst 0, 1) := dk_3 (dk_at dksX7_contact_3 15 rfl rfl)
theorem dX7_contact_87 : decode cX7_contact 87 = .ok (.iconst 2, 1) := dk_5 (dk_at dksX7_contact_3 16 rfl rfl)
theorem dX7_contact_88 : decode cX7_contact 88 = .ok (.invokevirtual 60, 3) := dk_182 0 60 (dk_at dksX7_contact_3 17 rfl rfl)
theorem dX7_contact_91 : decode cX7_contact 91 = .ok (.aload_n 0, 1) := dk_42 (dk_at dksX7_contact_3 20 rfl rfl)
theorem dX7_contact_92 : decode cX7_contact 92 = .ok (.getfield 12, 3) := dk_180 0 12 (dk_at dksX7_contact_3 21 rfl rfl)
theorem dX7_contact_95 : decode cX7_contact 95 = .ok (.getfield 136, 3) := dk_180 0 136 (dk_at dksX7_contact_4 0 rfl rfl)
theorem dX7_contact_98 : decode cX7_contact 98 = .ok (.iload_n 1, 1) := dk_27 (dk_at dksX7_contact_4 3 rfl rfl)
theorem dX7_contact_99 : decode cX7_contact 99 = .ok (.aload_n 0, 1) := dk_42 (dk_at dksX7_contact_4 4 rfl rfl)
theorem dX7_contact_100 : decode cX7_contact 100 = .ok (.iconst 0, 1) := dk_3 (dk_at dksX7_contact_4 5 rfl rfl)
theorem dX7_contact_101 : decode cX7_contact 101 = .ok (.aload_n 0, 1) := dk_42 (dk_at dksX7_contact_4 6 rfl rfl)
theorem dX7_contact_102 : decode cX7_contact 102 = .ok (.getfield 12, 3) := dk_180 0 12 (dk_at dksX7_contact_4 7 rfl rfl)
theorem dX7_contact_105 : decode cX7_contact 105 = .ok (.getfield 119, 3) := dk_180 0 119 (dk_at dksX7_contact_4 10 rfl rfl)
theorem dX7_contact_108 : decode cX7_contact 108 = .ok (.iconst 1, 1) := dk_4 (dk_at dksX7_contact_4 13 rfl rfl)
theorem dX7_contact_109 : decode cX7_contact 109 = .ok (.isub, 1) := dk_100 (dk_at dksX7_contact_4 14 rfl rfl)
theorem dX7_contact_110 : decode cX7_contact 110 = .ok (.invokevirtual 71, 3) := dk_182 0 71 (dk_at dksX7_contact_4 15 rfl rfl)
theorem dX7_contact_113 : decode cX7_contact 113 = .ok (.iastore, 1) := dk_79 (dk_at dksX7_contact_4 18 rfl rfl)
theorem dX7_contact_114 : decode cX7_contact 114 = .ok (.aload_n 0, 1) := dk_42 (dk_at dksX7_contact_4 19 rfl rfl)
theorem dX7_contact_115 : decode cX7_contact 115 = .ok (.bipush 44, 2) := dk_16 44 (dk_at dksX7_contact_4 20 rfl rfl)
theorem dX7_contact_117 : decode cX7_contact 117 = .ok (.invokevirtual 78, 3) := dk_182 0 78 (dk_at dksX7_contact_5 0 rfl rfl)
theorem dX7_contact_120 : decode cX7_contact 120 = .ok (.aload_n 0, 1) := dk_42 (dk_at dksX7_contact_5 3 rfl rfl)
theorem dX7_contact_121 : decode cX7_contact 121 = .ok (.getfield 12, 3) := dk_180 0 12 (dk_at dksX7_contact_5 4 rfl rfl)
theorem dX7_contact_124 : decode cX7_contact 124 = .ok (.getfield 139, 3) := dk_180 0 139 (dk_at dksX7_contact_5 7 rfl rfl)
theorem dX7_contact_127 : decode cX7_contact 127 = .ok (.iload_n 1, 1) := dk_27 (dk_at dksX7_contact_5 10 rfl rfl)
theorem dX7_contact_128 : decode cX7_contact 128 = .ok (.aload_n 0, 1) := dk_42 (dk_at dksX7_contact_5 11 rfl rfl)
theorem dX7_contact_129 : decode cX7_contact 129 = .ok (.iconst 0, 1) := dk_3 (dk_at dksX7_contact_5 12 rfl rfl)
theorem dX7_contact_130 : decode cX7_contact 130 = .ok (.bipush 30, 2) := dk_16 30 (dk_at dksX7_contact_5 13 rfl rfl)
theorem dX7_contact_132 : decode cX7_contact 132 = .ok (.invokevirtual 71, 3) := dk_182 0 71 (dk_at dksX7_contact_5 15 rfl rfl)
theorem dX7_contact_135 : decode cX7_contact 135 = .ok (.iastore, 1) := dk_79 (dk_at dksX7_contact_5 18 rfl rfl)
theorem dX7_contact_136 : decode cX7_contact 136 = .ok (.aload_n 0, 1) := dk_42 (dk_at dksX7_contact_5 19 rfl rfl)
theorem dX7_contact_137 : decode cX7_contact 137 = .ok (.bipush 59, 2) := dk_16 59 (dk_at dksX7_contact_5 20 rfl rfl)
theorem dX7_contact_139 : decode cX7_contact 139 = .ok (.invokevirtual 78, 3) := dk_182 0 78 (dk_at dksX7_contact_6 0 rfl rfl)
theorem dX7_contact_142 : decode cX7_contact 142 = .ok (.aload_n 0, 1) := dk_42 (dk_at dksX7_contact_6 3 rfl rfl)
theorem dX7_contact_143 : decode cX7_contact 143 = .ok (.getfield 12, 3) := dk_180 0 12 (dk_at dksX7_contact_6 4 rfl rfl)
theorem dX7_contact_146 : decode cX7_contact 146 = .ok (.dup, 1) := dk_89 (dk_at dksX7_contact_6 7 rfl rfl)
theorem dX7_contact_147 : decode cX7_contact 147 = .ok (.getfield 129, 3) := dk_180 0 129 (dk_at dksX7_contact_6 8 rfl rfl)
theorem dX7_contact_150 : decode cX7_contact 150 = .ok (.iconst 1, 1) := dk_4 (dk_at dksX7_contact_6 11 rfl rfl)
theorem dX7_contact_151 : decode cX7_contact 151 = .ok (.iadd, 1) := dk_96 (dk_at dksX7_contact_6 12 rfl rfl)
theorem dX7_contact_152 : decode cX7_contact 152 = .ok (.putfield 129, 3) := dk_181 0 129 (dk_at dksX7_contact_6 13 rfl rfl)
theorem dX7_contact_155 : decode cX7_contact 155 = .ok (.return_, 1) := dk_177 (dk_at dksX7_contact_6 16 rfl rfl)
abbrev cX7_ill : ByteArray := prog_12_method_12_code
def yX7_ill : MethodName := ⟨RX7, "ill", "()V"⟩
def dkwX7_ill_4 : List UInt8 := [177]
abbrev dktX7_ill_4 : List UInt8 := dkwX7_ill_4 ++ []
def dkwX7_ill_3 : List UInt8 := [42, 3, 16, 30, 182, 0, 71, 61, 42, 16, 59, 182, 0, 78, 42, 180, 0, 12, 180, 0, 142, 27, 28, 79]
abbrev dktX7_ill_3 : List UInt8 := dkwX7_ill_3 ++ dktX7_ill_4
def dkwX7_ill_2 : List UInt8 := [182, 0, 60, 42, 3, 42, 180, 0, 12, 180, 0, 119, 4, 100, 182, 0, 71, 60, 42, 16, 44, 182, 0, 78]
abbrev dktX7_ill_2 : List UInt8 := dkwX7_ill_2 ++ dktX7_ill_3
def dkwX7_ill_1 : List UInt8 := [162, 0, 18, 42, 180, 0, 12, 180, 0, 142, 42, 180, 0, 37, 46, 156, 0, 7, 4, 167, 0, 4, 3, 5]
abbrev dktX7_ill_1 : List UInt8 := dkwX7_ill_1 ++ dktX7_ill_2
def dkwX7_ill_0 : List UInt8 := [42, 182, 0, 64, 42, 42, 180, 0, 52, 5, 160, 0, 32, 42, 180, 0, 37, 42, 180, 0, 12, 180, 0, 119]
abbrev dktX7_ill_0 : List UInt8 := dkwX7_ill_0 ++ dktX7_ill_1
theorem dksX7_ill_0 : cX7_ill.data.toList.drop 0 = dktX7_ill_0 := by decide +kernel
theorem dksX7_ill_1 : cX7_ill.data.toList.drop 24 = dktX7_ill_1 := dk_seg dksX7_ill_0 24 rfl rfl
theorem dksX7_ill_2 : cX7_ill.data.toList.drop 48 = dktX7_ill_2 := dk_seg dksX7_ill_1 24 rfl rfl
theorem dksX7_ill_3 : cX7_ill.data.toList.drop 72 = dktX7_ill_3 := dk_seg dksX7_ill_2 24 rfl rfl
theorem dksX7_ill_4 : cX7_ill.data.toList.drop 96 = dktX7_ill_4 := dk_seg dksX7_ill_3 24 rfl rfl
theorem dX7_ill_0 : decode cX7_ill 0 = .ok (.aload_n 0, 1) := dk_42 (dk_at dksX7_ill_0 0 rfl rfl)
theorem dX7_ill_1 : decode cX7_ill 1 = .ok (.invokevirtual 64, 3) := dk_182 0 64 (dk_at dksX7_ill_0 1 rfl rfl)
theorem dX7_ill_4 : decode cX7_ill 4 = .ok (.aload_n 0, 1) := dk_42 (dk_at dksX7_ill_0 4 rfl rfl)
theorem dX7_ill_5 : decode cX7_ill 5 = .ok (.aload_n 0, 1) := dk_42 (dk_at dksX7_ill_0 5 rfl rfl)
theorem dX7_ill_6 : decode cX7_ill 6 = .ok (.getfield 52, 3) := dk_180 0 52 (dk_at dksX7_ill_0 6 rfl rfl)
theorem dX7_ill_9 : decode cX7_ill 9 = .ok (.iconst 2, 1) := dk_5 (dk_at dksX7_ill_0 9 rfl rfl)
theorem dX7_ill_10 : decode cX7_ill 10 = .ok (.if_icmp .ne 32, 3) := dk_160 0 32 (dk_at dksX7_ill_0 10 rfl rfl)
theorem dX7_ill_13 : decode cX7_ill 13 = .ok (.aload_n 0, 1) := dk_42 (dk_at dksX7_ill_0 13 rfl rfl)
theorem dX7_ill_14 : decode cX7_ill 14 = .ok (.getfield 37, 3) := dk_180 0 37 (dk_at dksX7_ill_0 14 rfl rfl)
theorem dX7_ill_17 : decode cX7_ill 17 = .ok (.aload_n 0, 1) := dk_42 (dk_at dksX7_ill_0 17 rfl rfl)
theorem dX7_ill_18 : decode cX7_ill 18 = .ok (.getfield 12, 3) := dk_180 0 12 (dk_at dksX7_ill_0 18 rfl rfl)
theorem dX7_ill_21 : decode cX7_ill 21 = .ok (.getfield 119, 3) := dk_180 0 119 (dk_at dksX7_ill_0 21 rfl rfl)
theorem dX7_ill_24 : decode cX7_ill 24 = .ok (.if_icmp .ge 18, 3) := dk_162 0 18 (dk_at dksX7_ill_1 0 rfl rfl)
theorem dX7_ill_27 : decode cX7_ill 27 = .ok (.aload_n 0, 1) := dk_42 (dk_at dksX7_ill_1 3 rfl rfl)
theorem dX7_ill_28 : decode cX7_ill 28 = .ok (.getfield 12, 3) := dk_180 0 12 (dk_at dksX7_ill_1 4 rfl rfl)
theorem dX7_ill_31 : decode cX7_ill 31 = .ok (.getfield 142, 3) := dk_180 0 142 (dk_at dksX7_ill_1 7 rfl rfl)
theorem dX7_ill_34 : decode cX7_ill 34 = .ok (.aload_n 0, 1) := dk_42 (dk_at dksX7_ill_1 10 rfl rfl)
theorem dX7_ill_35 : decode cX7_ill 35 = .ok (.getfield 37, 3) := dk_180 0 37 (dk_at dksX7_ill_1 11 rfl rfl)
theorem dX7_ill_38 : decode cX7_ill 38 = .ok (.iaload, 1) := dk_46 (dk_at dksX7_ill_1 14 rfl rfl)
theorem dX7_ill_39 : decode cX7_ill 39 = .ok (.ifCond .ge 7, 3) := dk_156 0 7 (dk_at dksX7_ill_1 15 rfl rfl)
theorem dX7_ill_42 : decode cX7_ill 42 = .ok (.iconst 1, 1) := dk_4 (dk_at dksX7_ill_1 18 rfl rfl)
theorem dX7_ill_43 : decode cX7_ill 43 = .ok (.goto 4, 3) := dk_167 0 4 (dk_at dksX7_ill_1 19 rfl rfl)
theorem dX7_ill_46 : decode cX7_ill 46 = .ok (.iconst 0, 1) := dk_3 (dk_at dksX7_ill_1 22 rfl rfl)
theorem dX7_ill_47 : decode cX7_ill 47 = .ok (.iconst 2, 1) := dk_5 (dk_at dksX7_ill_1 23 rfl rfl)
theorem dX7_ill_48 : decode cX7_ill 48 = .ok (.invokevirtual 60, 3) := dk_182 0 60 (dk_at dksX7_ill_2 0 rfl rfl)
theorem dX7_ill_51 : decode cX7_ill 51 = .ok (.aload_n 0, 1) := dk_42 (dk_at dksX7_ill_2 3 rfl rfl)
theorem dX7_ill_52 : decode cX7_ill 52 = .ok (.iconst 0, 1) := dk_3 (dk_at dksX7_ill_2 4 rfl rfl)
theorem dX7_ill_53 : decode cX7_ill 53 = .ok (.aload_n 0, 1) := dk_42 (dk_at dksX7_ill_2 5 rfl rfl)
theorem dX7_ill_54 : decode cX7_ill 54 = .ok (.getfield 12, 3) := dk_180 0 12 (dk_at dksX7_ill_2 6 rfl rfl)
theorem dX7_ill_57 : decode cX7_ill 57 = .ok (.getfield 119, 3) := dk_180 0 119 (dk_at dksX7_ill_2 9 rfl rfl)
theorem dX7_ill_60 : decode cX7_ill 60 = .ok (.iconst 1, 1) := dk_4 (dk_at dksX7_ill_2 12 rfl rfl)
theorem dX7_ill_61 : decode cX7_ill 61 = .ok (.isub, 1) := dk_100 (dk_at dksX7_ill_2 13 rfl rfl)
theorem dX7_ill_62 : decode cX7_ill 62 = .ok (.invokevirtual 71, 3) := dk_182 0 71 (dk_at dksX7_ill_2 14 rfl rfl)
theorem dX7_ill_65 : decode cX7_ill 65 = .ok (.istore_n 1, 1) := dk_60 (dk_at dksX7_ill_2 17 rfl rfl)
theorem dX7_ill_66 : decode cX7_ill 66 = .ok (.aload_n 0, 1) := dk_42 (dk_at dksX7_ill_2 18 rfl rfl)
theorem dX7_ill_67 : decode cX7_ill 67 = .ok (.bipush 44, 2) := dk_16 44 (dk_at dksX7_ill_2 19 rfl rfl)
theorem dX7_ill_69 : decode cX7_ill 69 = .ok (.invokevirtual 78, 3) := dk_182 0 78 (dk_at dksX7_ill_2 21 rfl rfl)
theorem dX7_ill_72 : decode cX7_ill 72 = .ok (.aload_n 0, 1) := dk_42 (dk_at dksX7_ill_3 0 rfl rfl)
theorem dX7_ill_73 : decode cX7_ill 73 = .ok (.iconst 0, 1) := dk_3 (dk_at dksX7_ill_3 1 rfl rfl)
theorem dX7_ill_74 : decode cX7_ill 74 = .ok (.bipush 30, 2) := dk_16 30 (dk_at dksX7_ill_3 2 rfl rfl)
theorem dX7_ill_76 : decode cX7_ill 76 = .ok (.invokevirtual 71, 3) := dk_182 0 71 (dk_at dksX7_ill_3 4 rfl rfl)
theorem dX7_ill_79 : decode cX7_ill 79 = .ok (.istore_n 2, 1) := dk_61 (dk_at dksX7_ill_3 7 rfl rfl)
theorem dX7_ill_80 : decode cX7_ill 80 = .ok (.aload_n 0, 1) := dk_42 (dk_at dksX7_ill_3 8 rfl rfl)
theorem dX7_ill_81 : decode cX7_ill 81 = .ok (.bipush 59, 2) := dk_16 59 (dk_at dksX7_ill_3 9 rfl rfl)
theorem dX7_ill_83 : decode cX7_ill 83 = .ok (.invokevirtual 78, 3) := dk_182 0 78 (dk_at dksX7_ill_3 11 rfl rfl)
theorem dX7_ill_86 : decode cX7_ill 86 = .ok (.aload_n 0, 1) := dk_42 (dk_at dksX7_ill_3 14 rfl rfl)
theorem dX7_ill_87 : decode cX7_ill 87 = .ok (.getfield 12, 3) := dk_180 0 12 (dk_at dksX7_ill_3 15 rfl rfl)
theorem dX7_ill_90 : decode cX7_ill 90 = .ok (.getfield 142, 3) := dk_180 0 142 (dk_at dksX7_ill_3 18 rfl rfl)
theorem dX7_ill_93 : decode cX7_ill 93 = .ok (.iload_n 1, 1) := dk_27 (dk_at dksX7_ill_3 21 rfl rfl)
theorem dX7_ill_94 : decode cX7_ill 94 = .ok (.iload_n 2, 1) := dk_28 (dk_at dksX7_ill_3 22 rfl rfl)
theorem dX7_ill_95 : decode cX7_ill 95 = .ok (.iastore, 1) := dk_79 (dk_at dksX7_ill_3 23 rfl rfl)
theorem dX7_ill_96 : decode cX7_ill 96 = .ok (.return_, 1) := dk_177 (dk_at dksX7_ill_4 0 rfl rfl)
theorem q94 : (Jvm.Cond.initialized "DatedContacts$Reader") ∈ lw_all := lw_g (lw_at lw_m1 18 rfl) rfl
theorem q151 : (Jvm.Cond.fieldLink "DatedContacts$Reader" (119 : Nat) "DatedContacts$Net" "persons" "I") ∈ lw_all := lw_g (lw_at lw_m1 75 rfl) rfl
theorem q156 : (Jvm.Cond.fieldLink "DatedContacts$Reader" (129 : Nat) "DatedContacts$Net" "contacts" "I") ∈ lw_all := lw_g (lw_at lw_m1 80 rfl) rfl
theorem q159 : (Jvm.Cond.fieldLink "DatedContacts$Reader" (75 : Nat) "DatedContacts$Net" "low" "I") ∈ lw_all := lw_g (lw_at lw_m1 83 rfl) rfl
theorem q162 : (Jvm.Cond.fieldLink "DatedContacts$Reader" (82 : Nat) "DatedContacts$Net" "high" "I") ∈ lw_all := lw_g (lw_at lw_m1 86 rfl) rfl
theorem q165 : (Jvm.Cond.fieldLink "DatedContacts$Reader" (122 : Nat) "DatedContacts$Net" "person" "[LDatedContacts$Person;") ∈ lw_all := lw_g (lw_at lw_m1 89 rfl) rfl
theorem q168 : (Jvm.Cond.fieldLink "DatedContacts$Reader" (142 : Nat) "DatedContacts$Net" "ill" "[I") ∈ lw_all := lw_g (lw_at lw_m1 92 rfl) rfl
theorem q173 : (Jvm.Cond.fieldLink "DatedContacts$Reader" (132 : Nat) "DatedContacts$Net" "a" "[I") ∈ lw_all := lw_g (lw_at lw_m1 97 rfl) rfl
theorem q177 : (Jvm.Cond.fieldLink "DatedContacts$Reader" (136 : Nat) "DatedContacts$Net" "b" "[I") ∈ lw_all := lw_g (lw_at lw_m1 101 rfl) rfl
theorem q182 : (Jvm.Cond.fieldLink "DatedContacts$Reader" (139 : Nat) "DatedContacts$Net" "day" "[I") ∈ lw_all := lw_g (lw_at lw_m1 106 rfl) rfl
theorem q521 : (Jvm.Cond.instantiable "DatedContacts$Reader" (7 : Nat)) ∈ lw_all := lw_g (lw_at lw_m2 205 rfl) rfl
theorem q523 : (Jvm.Cond.instanceMethod ({ cls := "DatedContacts$Reader", name := "<init>", desc := "([BI)V" } : Jvm.MethodName)) ∈ lw_all := lw_g (lw_at lw_m2 207 rfl) rfl
theorem q524 : (Jvm.Cond.code ({ cls := "DatedContacts$Reader", name := "<init>", desc := "([BI)V" } : Jvm.MethodName) prog_12_method_1_code (3 : Nat) (Option.none : Option Jvm.ClassFile.FieldType)) ∈ lw_all := lw_g (lw_at lw_m2 208 rfl) rfl
theorem q525 : (Jvm.Cond.methodLink "DatedContacts$Reader" (3 : Nat) ({ cls := "java/lang/Object", name := "<init>", desc := "()V" } : Jvm.MethodName)) ∈ lw_all := lw_g (lw_at lw_m2 209 rfl) rfl
theorem q526 : (Jvm.Cond.classLink "DatedContacts$Reader" (9 : Nat) "DatedContacts$Net") ∈ lw_all := lw_g (lw_at lw_m2 210 rfl) rfl
theorem q527 : (Jvm.Cond.methodLink "DatedContacts$Reader" (11 : Nat) ({ cls := "DatedContacts$Net", name := "<init>", desc := "()V" } : Jvm.MethodName)) ∈ lw_all := lw_g (lw_at lw_m2 211 rfl) rfl
theorem q528 : (Jvm.Cond.fieldLink "DatedContacts$Reader" (18 : Nat) "DatedContacts$Reader" "text" "[B") ∈ lw_all := lw_g (lw_at lw_m2 212 rfl) rfl
theorem q529 : (Jvm.Cond.fieldLink "DatedContacts$Reader" (22 : Nat) "DatedContacts$Reader" "size" "I") ∈ lw_all := lw_g (lw_at lw_m2 213 rfl) rfl
theorem q530 : (Jvm.Cond.fieldLink "DatedContacts$Reader" (26 : Nat) "DatedContacts$Reader" "at" "I") ∈ lw_all := lw_g (lw_at lw_m2 214 rfl) rfl
theorem q531 : (Jvm.Cond.fieldLink "DatedContacts$Reader" (52 : Nat) "DatedContacts$Reader" "token" "I") ∈ lw_all := lw_g (lw_at lw_m2 215 rfl) rfl
theorem q532 : (Jvm.Cond.fieldLink "DatedContacts$Reader" (30 : Nat) "DatedContacts$Reader" "from" "I") ∈ lw_all := lw_g (lw_at lw_m2 216 rfl) rfl
theorem q533 : (Jvm.Cond.fieldLink "DatedContacts$Reader" (37 : Nat) "DatedContacts$Reader" "value" "I") ∈ lw_all := lw_g (lw_at lw_m2 217 rfl) rfl
theorem q534 : (Jvm.Cond.fieldLink "DatedContacts$Reader" (12 : Nat) "DatedContacts$Reader" "made" "LDatedContacts$Net;") ∈ lw_all := lw_g (lw_at lw_m2 218 rfl) rfl
theorem q536 : (Jvm.Cond.laysFinal "DatedContacts$Reader" "DatedContacts$Reader" "text" "[B") ∈ lw_all := lw_g (lw_at lw_m2 220 rfl) rfl
theorem q537 : (Jvm.Cond.soleField "DatedContacts$Reader" "text") ∈ lw_all := lw_g (lw_at lw_m2 221 rfl) rfl
theorem q538 : (Jvm.Cond.laysFinal "DatedContacts$Reader" "DatedContacts$Reader" "size" "I") ∈ lw_all := lw_g (lw_at lw_m2 222 rfl) rfl
theorem q539 : (Jvm.Cond.soleField "DatedContacts$Reader" "size") ∈ lw_all := lw_g (lw_at lw_m2 223 rfl) rfl
theorem q540 : (Jvm.Cond.lays "DatedContacts$Reader" "DatedContacts$Reader" "at" "I") ∈ lw_all := lw_g (lw_at lw_m2 224 rfl) rfl
theorem q541 : (Jvm.Cond.soleField "DatedContacts$Reader" "at") ∈ lw_all := lw_g (lw_at lw_m2 225 rfl) rfl
theorem q542 : (Jvm.Cond.lays "DatedContacts$Reader" "DatedContacts$Reader" "token" "I") ∈ lw_all := lw_g (lw_at lw_m2 226 rfl) rfl
theorem q543 : (Jvm.Cond.soleField "DatedContacts$Reader" "token") ∈ lw_all := lw_g (lw_at lw_m2 227 rfl) rfl
theorem q544 : (Jvm.Cond.lays "DatedContacts$Reader" "DatedContacts$Reader" "from" "I") ∈ lw_all := lw_g (lw_at lw_m2 228 rfl) rfl
theorem q545 : (Jvm.Cond.soleField "DatedContacts$Reader" "from") ∈ lw_all := lw_g (lw_at lw_m2 229 rfl) rfl
theorem q546 : (Jvm.Cond.lays "DatedContacts$Reader" "DatedContacts$Reader" "value" "I") ∈ lw_all := lw_g (lw_at lw_m2 230 rfl) rfl
theorem q547 : (Jvm.Cond.soleField "DatedContacts$Reader" "value") ∈ lw_all := lw_g (lw_at lw_m2 231 rfl) rfl
theorem q548 : (Jvm.Cond.laysFinal "DatedContacts$Reader" "DatedContacts$Reader" "made" "LDatedContacts$Net;") ∈ lw_all := lw_g (lw_at lw_m2 232 rfl) rfl
theorem q549 : (Jvm.Cond.soleField "DatedContacts$Reader" "made") ∈ lw_all := lw_g (lw_at lw_m2 233 rfl) rfl
theorem q550 : (Jvm.Cond.superclass "DatedContacts$Reader" "java/lang/Object") ∈ lw_all := lw_g (lw_at lw_m2 234 rfl) rfl
theorem q552 : (Jvm.Cond.instanceMethod ({ cls := "DatedContacts$Reader", name := "all", desc := "()V" } : Jvm.MethodName)) ∈ lw_all := lw_g (lw_at lw_m2 236 rfl) rfl
theorem q553 : (Jvm.Cond.selects "DatedContacts$Reader" ({ cls := "DatedContacts$Reader", name := "all", desc := "()V" } : Jvm.MethodName) ({ cls := "DatedContacts$Reader", name := "all", desc := "()V" } : Jvm.MethodName)) ∈ lw_all := lw_g (lw_at lw_m2 237 rfl) rfl
theorem q554 : (Jvm.Cond.code ({ cls := "DatedContacts$Reader", name := "all", desc := "()V" } : Jvm.MethodName) prog_12_method_8_code (1 : Nat) (Option.none : Option Jvm.ClassFile.FieldType)) ∈ lw_all := lw_g (lw_at lw_m2 238 rfl) rfl
theorem q555 : (Jvm.Cond.methodLink "DatedContacts$Reader" (64 : Nat) ({ cls := "DatedContacts$Reader", name := "next", desc := "()V" } : Jvm.MethodName)) ∈ lw_all := lw_g (lw_at lw_m2 239 rfl) rfl
theorem q556 : (Jvm.Cond.privateMethod ({ cls := "DatedContacts$Reader", name := "next", desc := "()V" } : Jvm.MethodName)) ∈ lw_tbl := lw_at lw_m3 0 rfl
theorem q557 : (Jvm.Cond.instanceMethod ({ cls := "DatedContacts$Reader", name := "next", desc := "()V" } : Jvm.MethodName)) ∈ lw_all := lw_g (lw_at lw_m3 1 rfl) rfl
theorem q558 : (Jvm.Cond.code ({ cls := "DatedContacts$Reader", name := "next", desc := "()V" } : Jvm.MethodName) prog_12_method_3_code (2 : Nat) (Option.none : Option Jvm.ClassFile.FieldType)) ∈ lw_all := lw_g (lw_at lw_m3 2 rfl) rfl
theorem q559 : (Jvm.Cond.methodLink "DatedContacts$Reader" (33 : Nat) ({ cls := "DatedContacts$Reader", name := "look", desc := "()I" } : Jvm.MethodName)) ∈ lw_all := lw_g (lw_at lw_m3 3 rfl) rfl
theorem q560 : (Jvm.Cond.privateMethod ({ cls := "DatedContacts$Reader", name := "look", desc := "()I" } : Jvm.MethodName)) ∈ lw_tbl := lw_at lw_m3 4 rfl
theorem q561 : (Jvm.Cond.instanceMethod ({ cls := "DatedContacts$Reader", name := "look", desc := "()I" } : Jvm.MethodName)) ∈ lw_all := lw_g (lw_at lw_m3 5 rfl) rfl
theorem q562 : (Jvm.Cond.code ({ cls := "DatedContacts$Reader", name := "look", desc := "()I" } : Jvm.MethodName) prog_12_method_2_code (1 : Nat) (Option.some Jvm.ClassFile.FieldType.int)) ∈ lw_all := lw_g (lw_at lw_m3 6 rfl) rfl
theorem q563 : (Jvm.Cond.constant "DatedContacts$Reader" (29 : Nat) (-1000000 : Int32)) ∈ lw_all := lw_g (lw_at lw_m3 7 rfl) rfl
theorem q564 : (Jvm.Cond.constantLong "DatedContacts$Reader" (40 : Nat) (97 : Int64)) ∈ lw_all := lw_g (lw_at lw_m3 8 rfl) rfl
theorem q565 : (Jvm.Cond.constantLong "DatedContacts$Reader" (42 : Nat) (122 : Int64)) ∈ lw_all := lw_g (lw_at lw_m3 9 rfl) rfl
theorem q566 : (Jvm.Cond.methodLinkNest "DatedContacts$Reader" (44 : Nat) ({ cls := "DatedContacts", name := "isIn", desc := "(JJJ)Z" } : Jvm.MethodName) "DatedContacts") ∈ lw_tbl := lw_at lw_m3 10 rfl
theorem q567 : (Jvm.Cond.constantLong "DatedContacts$Reader" (48 : Nat) (48 : Int64)) ∈ lw_all := lw_g (lw_at lw_m3 11 rfl) rfl
theorem q568 : (Jvm.Cond.constantLong "DatedContacts$Reader" (50 : Nat) (57 : Int64)) ∈ lw_all := lw_g (lw_at lw_m3 12 rfl) rfl
theorem q569 : (Jvm.Cond.methodLink "DatedContacts$Reader" (67 : Nat) ({ cls := "DatedContacts$Reader", name := "is", desc := "(II)Z" } : Jvm.MethodName)) ∈ lw_all := lw_g (lw_at lw_m3 13 rfl) rfl
theorem q570 : (Jvm.Cond.privateMethod ({ cls := "DatedContacts$Reader", name := "is", desc := "(II)Z" } : Jvm.MethodName)) ∈ lw_tbl := lw_at lw_m3 14 rfl
theorem q571 : (Jvm.Cond.instanceMethod ({ cls := "DatedContacts$Reader", name := "is", desc := "(II)Z" } : Jvm.MethodName)) ∈ lw_all := lw_g (lw_at lw_m3 15 rfl) rfl
theorem q572 : (Jvm.Cond.code ({ cls := "DatedContacts$Reader", name := "is", desc := "(II)Z" } : Jvm.MethodName) prog_12_method_5_code (3 : Nat) (Option.some Jvm.ClassFile.FieldType.boolean)) ∈ lw_all := lw_g (lw_at lw_m3 16 rfl) rfl
theorem q573 : (Jvm.Cond.methodLink "DatedContacts$Reader" (60 : Nat) ({ cls := "DatedContacts$Reader", name := "must", desc := "(ZI)V" } : Jvm.MethodName)) ∈ lw_all := lw_g (lw_at lw_m3 17 rfl) rfl
theorem q574 : (Jvm.Cond.privateMethod ({ cls := "DatedContacts$Reader", name := "must", desc := "(ZI)V" } : Jvm.MethodName)) ∈ lw_tbl := lw_at lw_m3 18 rfl
theorem q575 : (Jvm.Cond.instanceMethod ({ cls := "DatedContacts$Reader", name := "must", desc := "(ZI)V" } : Jvm.MethodName)) ∈ lw_all := lw_g (lw_at lw_m3 19 rfl) rfl
theorem q576 : (Jvm.Cond.code ({ cls := "DatedContacts$Reader", name := "must", desc := "(ZI)V" } : Jvm.MethodName) prog_12_method_4_code (3 : Nat) (Option.none : Option Jvm.ClassFile.FieldType)) ∈ lw_all := lw_g (lw_at lw_m3 20 rfl) rfl
theorem q577 : (Jvm.Cond.classLink "DatedContacts$Reader" (55 : Nat) "DatedContacts$Fault") ∈ lw_all := lw_g (lw_at lw_m3 21 rfl) rfl
theorem q586 : (Jvm.Cond.methodLink "DatedContacts$Reader" (57 : Nat) ({ cls := "DatedContacts$Fault", name := "<init>", desc := "(II)V" } : Jvm.MethodName)) ∈ lw_all := lw_g (lw_at lw_m3 30 rfl) rfl
theorem q605 : (Jvm.Cond.methodLink "DatedContacts$Reader" (71 : Nat) ({ cls := "DatedContacts$Reader", name := "figure", desc := "(II)I" } : Jvm.MethodName)) ∈ lw_all := lw_g (lw_at lw_m3 49 rfl) rfl
theorem q606 : (Jvm.Cond.privateMethod ({ cls := "DatedContacts$Reader", name := "figure", desc := "(II)I" } : Jvm.MethodName)) ∈ lw_tbl := lw_at lw_m3 50 rfl
theorem q607 : (Jvm.Cond.instanceMethod ({ cls := "DatedContacts$Reader", name := "figure", desc := "(II)I" } : Jvm.MethodName)) ∈ lw_all := lw_g (lw_at lw_m3 51 rfl) rfl
theorem q608 : (Jvm.Cond.code ({ cls := "DatedContacts$Reader", name := "figure", desc := "(II)I" } : Jvm.MethodName) prog_12_method_6_code (4 : Nat) (Option.some Jvm.ClassFile.FieldType.int)) ∈ lw_all := lw_g (lw_at lw_m3 52 rfl) rfl
theorem q609 : (Jvm.Cond.methodLink "DatedContacts$Reader" (78 : Nat) ({ cls := "DatedContacts$Reader", name := "sign", desc := "(I)V" } : Jvm.MethodName)) ∈ lw_all := lw_g (lw_at lw_m3 53 rfl) rfl
theorem q610 : (Jvm.Cond.privateMethod ({ cls := "DatedContacts$Reader", name := "sign", desc := "(I)V" } : Jvm.MethodName)) ∈ lw_tbl := lw_at lw_m3 54 rfl
theorem q611 : (Jvm.Cond.instanceMethod ({ cls := "DatedContacts$Reader", name := "sign", desc := "(I)V" } : Jvm.MethodName)) ∈ lw_all := lw_g (lw_at lw_m3 55 rfl) rfl
theorem q612 : (Jvm.Cond.code ({ cls := "DatedContacts$Reader", name := "sign", desc := "(I)V" } : Jvm.MethodName) prog_12_method_7_code (2 : Nat) (Option.none : Option Jvm.ClassFile.FieldType)) ∈ lw_all := lw_g (lw_at lw_m3 56 rfl) rfl
theorem q613 : (Jvm.Cond.methodLink "DatedContacts$Reader" (85 : Nat) ({ cls := "DatedContacts$Reader", name := "sort", desc := "()I" } : Jvm.MethodName)) ∈ lw_all := lw_g (lw_at lw_m3 57 rfl) rfl
theorem q614 : (Jvm.Cond.privateMethod ({ cls := "DatedContacts$Reader", name := "sort", desc := "()I" } : Jvm.MethodName)) ∈ lw_tbl := lw_at lw_m3 58 rfl
theorem q615 : (Jvm.Cond.instanceMethod ({ cls := "DatedContacts$Reader", name := "sort", desc := "()I" } : Jvm.MethodName)) ∈ lw_all := lw_g (lw_at lw_m3 59 rfl) rfl
theorem q616 : (Jvm.Cond.code ({ cls := "DatedContacts$Reader", name := "sort", desc := "()I" } : Jvm.MethodName) prog_12_method_9_code (1 : Nat) (Option.some Jvm.ClassFile.FieldType.int)) ∈ lw_all := lw_g (lw_at lw_m3 60 rfl) rfl
theorem q617 : (Jvm.Cond.classLink "DatedContacts$Reader" (97 : Nat) "java/lang/StringBuilder") ∈ lw_all := lw_g (lw_at lw_m3 61 rfl) rfl
theorem q619 : (Jvm.Cond.methodLink "DatedContacts$Reader" (99 : Nat) ({ cls := "java/lang/StringBuilder", name := "<init>", desc := "()V" } : Jvm.MethodName)) ∈ lw_all := lw_g (lw_at lw_m3 63 rfl) rfl
theorem q653 : (Jvm.Cond.stringRef "DatedContacts$Reader" (100 : Nat) "") ∈ lw_tbl := lw_at lw_m3 97 rfl
theorem q654 : (Jvm.Cond.methodLink "DatedContacts$Reader" (102 : Nat) ({ cls := "java/lang/StringBuilder", name := "append", desc := "(Ljava/lang/String;)Ljava/lang/StringBuilder;" } : Jvm.MethodName)) ∈ lw_all := lw_g (lw_at lw_m3 98 rfl) rfl
theorem q772 : (Jvm.Cond.methodLink "DatedContacts$Reader" (106 : Nat) ({ cls := "java/lang/StringBuilder", name := "append", desc := "(C)Ljava/lang/StringBuilder;" } : Jvm.MethodName)) ∈ lw_all := lw_g (lw_at lw_m3 216 rfl) rfl
theorem q794 : (Jvm.Cond.methodLink "DatedContacts$Reader" (109 : Nat) ({ cls := "java/lang/StringBuilder", name := "toString", desc := "()Ljava/lang/String;" } : Jvm.MethodName)) ∈ lw_all := lw_g (lw_at lw_m3 238 rfl) rfl
theorem q851 : (Jvm.Cond.methodLink "DatedContacts$Reader" (113 : Nat) ({ cls := "DatedContacts$Marked", name := "kindBy", desc := "(Ljava/lang/String;)I" } : Jvm.MethodName)) ∈ lw_all := lw_g (lw_at lw_m4 55 rfl) rfl
theorem q921 : (Jvm.Cond.methodLink "DatedContacts$Reader" (88 : Nat) ({ cls := "DatedContacts$Reader", name := "person", desc := "()V" } : Jvm.MethodName)) ∈ lw_all := lw_g (lw_at lw_m4 125 rfl) rfl
theorem q922 : (Jvm.Cond.privateMethod ({ cls := "DatedContacts$Reader", name := "person", desc := "()V" } : Jvm.MethodName)) ∈ lw_tbl := lw_at lw_m4 126 rfl
theorem q923 : (Jvm.Cond.instanceMethod ({ cls := "DatedContacts$Reader", name := "person", desc := "()V" } : Jvm.MethodName)) ∈ lw_all := lw_g (lw_at lw_m4 127 rfl) rfl
theorem q924 : (Jvm.Cond.code ({ cls := "DatedContacts$Reader", name := "person", desc := "()V" } : Jvm.MethodName) prog_12_method_10_code (2 : Nat) (Option.none : Option Jvm.ClassFile.FieldType)) ∈ lw_all := lw_g (lw_at lw_m4 128 rfl) rfl
theorem q925 : (Jvm.Cond.methodLinkNest "DatedContacts$Reader" (125 : Nat) ({ cls := "DatedContacts", name := "personBy", desc := "(II)LDatedContacts$Person;" } : Jvm.MethodName) "DatedContacts") ∈ lw_tbl := lw_at lw_m4 129 rfl
theorem q973 : (Jvm.Cond.methodLink "DatedContacts$Reader" (91 : Nat) ({ cls := "DatedContacts$Reader", name := "contact", desc := "()V" } : Jvm.MethodName)) ∈ lw_all := lw_g (lw_at lw_m4 177 rfl) rfl
theorem q974 : (Jvm.Cond.privateMethod ({ cls := "DatedContacts$Reader", name := "contact", desc := "()V" } : Jvm.MethodName)) ∈ lw_tbl := lw_at lw_m4 178 rfl
theorem q975 : (Jvm.Cond.instanceMethod ({ cls := "DatedContacts$Reader", name := "contact", desc := "()V" } : Jvm.MethodName)) ∈ lw_all := lw_g (lw_at lw_m4 179 rfl) rfl
theorem q976 : (Jvm.Cond.code ({ cls := "DatedContacts$Reader", name := "contact", desc := "()V" } : Jvm.MethodName) prog_12_method_11_code (2 : Nat) (Option.none : Option Jvm.ClassFile.FieldType)) ∈ lw_all := lw_g (lw_at lw_m4 180 rfl) rfl
theorem q977 : (Jvm.Cond.methodLink "DatedContacts$Reader" (94 : Nat) ({ cls := "DatedContacts$Reader", name := "ill", desc := "()V" } : Jvm.MethodName)) ∈ lw_all := lw_g (lw_at lw_m4 181 rfl) rfl
theorem q978 : (Jvm.Cond.privateMethod ({ cls := "DatedContacts$Reader", name := "ill", desc := "()V" } : Jvm.MethodName)) ∈ lw_tbl := lw_at lw_m4 182 rfl
theorem q979 : (Jvm.Cond.instanceMethod ({ cls := "DatedContacts$Reader", name := "ill", desc := "()V" } : Jvm.MethodName)) ∈ lw_all := lw_g (lw_at lw_m4 183 rfl) rfl
theorem q980 : (Jvm.Cond.code ({ cls := "DatedContacts$Reader", name := "ill", desc := "()V" } : Jvm.MethodName) prog_12_method_12_code (3 : Nat) (Option.none : Option Jvm.ClassFile.FieldType)) ∈ lw_all := lw_g (lw_at lw_m4 184 rfl) rfl
theorem in_X7 : ∀ w ∈ wsX70, w ∈ lw_all := lw_in wsX70 [536, 538, 540, 542, 544, 546, 548] (by decide +kernel) (by decide +kernel)
/-! DatedContacts$Fault -/
set_option maxRecDepth 100000
def RX8 : String := "DatedContacts$Fault"
def TX8 : u_T := fun k => match k with
  | 0 => ("java/lang/Throwable", "cause", "Ljava/lang/Throwable;", false)
  | 1 => ("java/lang/Throwable", "stackTrace", "[Ljava/lang/StackTraceElement;", false)
  | 2 => ("java/lang/Throwable", "suppressedExceptions", "Ljava/util/List;", false)
  | 3 => ("java/lang/Throwable", "detailMessage", "Ljava/lang/String;", false)
  | 4 => ("java/lang/Throwable", "backtrace", "Ljava/lang/Object;", false)
  | 5 => ("java/lang/Throwable", "depth", "I", false)
  | 6 => ("DatedContacts$Fault", "kind", "I", true)
  | _ => ("DatedContacts$Fault", "place", "I", true)
def tyX8 : Nat → FieldType := fun k => match k with
  | 0 => .object "java/lang/Throwable"
  | 1 => .array (.object "java/lang/StackTraceElement")
  | 2 => .object "java/util/List"
  | 3 => .object "java/lang/String"
  | 4 => .object "java/lang/Object"
  | 5 => .int
  | 6 => .int
  | _ => .int
abbrev wsX80 : List Cond := u_ws RX8 TX8 8
theorem nmX8 : ∀ a, a < 8 → ∀ b, b < 8 → a ≠ b → (TX8 a).2.1 ≠ (TX8 b).2.1 := by decide +kernel
theorem tyX8_ok : ∀ k, k < 8 → parseFieldDescriptor (TX8 k).2.2.1 = some (tyX8 k) := by decide +kernel
abbrev cX8_init : ByteArray := prog_4_method_1_code
def yX8_init : MethodName := ⟨RX8, "<init>", "(II)V"⟩
def dkwX8_init_0 : List UInt8 := [42, 1, 1, 3, 3, 183, 0, 1, 42, 27, 181, 0, 7, 42, 28, 181, 0, 13, 177]
abbrev dktX8_init_0 : List UInt8 := dkwX8_init_0 ++ []
theorem dksX8_init_0 : cX8_init.data.toList.drop 0 = dktX8_init_0 := by decide +kernel
theorem dX8_init_0 : decode cX8_init 0 = .ok (.aload_n 0, 1) := dk_42 (dk_at dksX8_init_0 0 rfl rfl)
theorem dX8_init_1 : decode cX8_init 1 = .ok (.aconst_null, 1) := dk_1 (dk_at dksX8_init_0 1 rfl rfl)
theorem dX8_init_2 : decode cX8_init 2 = .ok (.aconst_null, 1) := dk_1 (dk_at dksX8_init_0 2 rfl rfl)
theorem dX8_init_3 : decode cX8_init 3 = .ok (.iconst 0, 1) := dk_3 (dk_at dksX8_init_0 3 rfl rfl)
theorem dX8_init_4 : decode cX8_init 4 = .ok (.iconst 0, 1) := dk_3 (dk_at dksX8_init_0 4 rfl rfl)
theorem dX8_init_5 : decode cX8_init 5 = .ok (.invokespecial 1, 3) := dk_183 0 1 (dk_at dksX8_init_0 5 rfl rfl)
theorem dX8_init_8 : decode cX8_init 8 = .ok (.aload_n 0, 1) := dk_42 (dk_at dksX8_init_0 8 rfl rfl)
theorem dX8_init_9 : decode cX8_init 9 = .ok (.iload_n 1, 1) := dk_27 (dk_at dksX8_init_0 9 rfl rfl)
theorem dX8_init_10 : decode cX8_init 10 = .ok (.putfield 7, 3) := dk_181 0 7 (dk_at dksX8_init_0 10 rfl rfl)
theorem dX8_init_13 : decode cX8_init 13 = .ok (.aload_n 0, 1) := dk_42 (dk_at dksX8_init_0 13 rfl rfl)
theorem dX8_init_14 : decode cX8_init 14 = .ok (.iload_n 2, 1) := dk_28 (dk_at dksX8_init_0 14 rfl rfl)
theorem dX8_init_15 : decode cX8_init 15 = .ok (.putfield 13, 3) := dk_181 0 13 (dk_at dksX8_init_0 15 rfl rfl)
theorem dX8_init_18 : decode cX8_init 18 = .ok (.return_, 1) := dk_177 (dk_at dksX8_init_0 18 rfl rfl)
theorem q95 : (Jvm.Cond.initialized "DatedContacts$Fault") ∈ lw_all := lw_g (lw_at lw_m1 19 rfl) rfl
theorem q333 : (Jvm.Cond.selects "DatedContacts$Fault" ({ cls := "java/lang/Throwable", name := "fillInStackTrace", desc := "()Ljava/lang/Throwable;" } : Jvm.MethodName) ({ cls := "java/lang/Throwable", name := "fillInStackTrace", desc := "()Ljava/lang/Throwable;" } : Jvm.MethodName)) ∈ lw_all := lw_g (lw_at lw_m2 17 rfl) rfl
theorem q578 : (Jvm.Cond.instantiable "DatedContacts$Fault" (8 : Nat)) ∈ lw_all := lw_g (lw_at lw_m3 22 rfl) rfl
theorem q579 : (Jvm.Cond.castable "DatedContacts$Fault" "DatedContacts$Fault") ∈ lw_tbl := lw_at lw_m3 23 rfl
theorem q580 : (Jvm.Cond.selects "DatedContacts$Fault" ({ cls := "java/lang/Throwable", name := "fillInStackTrace", desc := "(I)Ljava/lang/Throwable;" } : Jvm.MethodName) ({ cls := "java/lang/Throwable", name := "fillInStackTrace", desc := "(I)Ljava/lang/Throwable;" } : Jvm.MethodName)) ∈ lw_all := lw_g (lw_at lw_m3 24 rfl) rfl
theorem q581 : (Jvm.Cond.lays "DatedContacts$Fault" "java/lang/Throwable" "cause" "Ljava/lang/Throwable;") ∈ lw_all := lw_g (lw_at lw_m3 25 rfl) rfl
theorem q582 : (Jvm.Cond.lays "DatedContacts$Fault" "java/lang/Throwable" "stackTrace" "[Ljava/lang/StackTraceElement;") ∈ lw_all := lw_g (lw_at lw_m3 26 rfl) rfl
theorem q583 : (Jvm.Cond.lays "DatedContacts$Fault" "java/lang/Throwable" "suppressedExceptions" "Ljava/util/List;") ∈ lw_all := lw_g (lw_at lw_m3 27 rfl) rfl
theorem q584 : (Jvm.Cond.lays "DatedContacts$Fault" "java/lang/Throwable" "detailMessage" "Ljava/lang/String;") ∈ lw_all := lw_g (lw_at lw_m3 28 rfl) rfl
theorem q585 : (Jvm.Cond.lays "DatedContacts$Fault" "java/lang/Throwable" "backtrace" "Ljava/lang/Object;") ∈ lw_all := lw_g (lw_at lw_m3 29 rfl) rfl
theorem q587 : (Jvm.Cond.instanceMethod ({ cls := "DatedContacts$Fault", name := "<init>", desc := "(II)V" } : Jvm.MethodName)) ∈ lw_all := lw_g (lw_at lw_m3 31 rfl) rfl
theorem q588 : (Jvm.Cond.code ({ cls := "DatedContacts$Fault", name := "<init>", desc := "(II)V" } : Jvm.MethodName) prog_4_method_1_code (3 : Nat) (Option.none : Option Jvm.ClassFile.FieldType)) ∈ lw_all := lw_g (lw_at lw_m3 32 rfl) rfl
theorem q589 : (Jvm.Cond.methodLink "DatedContacts$Fault" (1 : Nat) ({ cls := "java/lang/Exception", name := "<init>", desc := "(Ljava/lang/String;Ljava/lang/Throwable;ZZ)V" } : Jvm.MethodName)) ∈ lw_all := lw_g (lw_at lw_m3 33 rfl) rfl
theorem q595 : (Jvm.Cond.fieldLink "DatedContacts$Fault" (7 : Nat) "DatedContacts$Fault" "kind" "I") ∈ lw_all := lw_g (lw_at lw_m3 39 rfl) rfl
theorem q597 : (Jvm.Cond.fieldLink "DatedContacts$Fault" (13 : Nat) "DatedContacts$Fault" "place" "I") ∈ lw_all := lw_g (lw_at lw_m3 41 rfl) rfl
theorem q599 : (Jvm.Cond.laysFinal "DatedContacts$Fault" "DatedContacts$Fault" "kind" "I") ∈ lw_all := lw_g (lw_at lw_m3 43 rfl) rfl
theorem q600 : (Jvm.Cond.soleField "DatedContacts$Fault" "kind") ∈ lw_all := lw_g (lw_at lw_m3 44 rfl) rfl
theorem q601 : (Jvm.Cond.laysFinal "DatedContacts$Fault" "DatedContacts$Fault" "place" "I") ∈ lw_all := lw_g (lw_at lw_m3 45 rfl) rfl
theorem q602 : (Jvm.Cond.soleField "DatedContacts$Fault" "place") ∈ lw_all := lw_g (lw_at lw_m3 46 rfl) rfl
theorem q603 : (Jvm.Cond.lays "DatedContacts$Fault" "java/lang/Throwable" "depth" "I") ∈ lw_all := lw_g (lw_at lw_m3 47 rfl) rfl
theorem q604 : (Jvm.Cond.superclass "DatedContacts$Fault" "java/lang/Exception") ∈ lw_all := lw_g (lw_at lw_m3 48 rfl) rfl
theorem in_X8 : ∀ w ∈ wsX80, w ∈ lw_all := lw_in wsX80 [581, 582, 583, 584, 585, 603, 599, 601] (by decide +kernel) (by decide +kernel)
/-! DatedContacts$Marked -/
set_option maxRecDepth 100000
def RX9 : String := "DatedContacts$Marked"
abbrev cX9_kindBy : ByteArray := prog_8_method_4_code
def yX9_kindBy : MethodName := ⟨RX9, "kindBy", "(Ljava/lang/String;)I"⟩
def dkwX9_kindBy_6 : List UInt8 := [4, 172, 5, 172, 6, 172, 7, 172, 8, 172, 18, 39, 172]
abbrev dktX9_kindBy_6 : List UInt8 := dkwX9_kindBy_6 ++ []
def dkwX9_kindBy_5 : List UInt8 := [170, 0, 0, 0, 0, 0, 0, 46, 0, 0, 0, 0, 0, 0, 0, 4, 0, 0, 0, 36, 0, 0, 0, 38, 0, 0, 0, 40, 0, 0, 0, 42, 0, 0, 0, 44]
abbrev dktX9_kindBy_5 : List UInt8 := dkwX9_kindBy_5 ++ dktX9_kindBy_6
def dkwX9_kindBy_4 : List UInt8 := [153, 0, 19, 6, 61, 167, 0, 14, 43, 18, 37, 182, 0, 27, 153, 0, 5, 7, 61, 28]
abbrev dktX9_kindBy_4 : List UInt8 := dkwX9_kindBy_4 ++ dktX9_kindBy_5
def dkwX9_kindBy_3 : List UInt8 := [61, 167, 0, 42, 43, 18, 33, 182, 0, 27, 153, 0, 33, 5, 61, 167, 0, 28, 43, 18, 35, 182, 0, 27]
abbrev dktX9_kindBy_3 : List UInt8 := dkwX9_kindBy_3 ++ dktX9_kindBy_4
def dkwX9_kindBy_2 : List UInt8 := [43, 18, 25, 182, 0, 27, 153, 0, 61, 3, 61, 167, 0, 56, 43, 18, 31, 182, 0, 27, 153, 0, 47, 4]
abbrev dktX9_kindBy_2 : List UInt8 := dkwX9_kindBy_2 ++ dktX9_kindBy_3
def dkwX9_kindBy_1 : List UInt8 := [171, 0, 0, 0, 0, 0, 0, 119, 0, 0, 0, 5, 0, 0, 0, 100, 0, 0, 0, 94, 0, 0, 0, 104, 0, 0, 0, 80, 0, 0, 0, 108, 0, 0, 0, 66, 0, 0, 0, 111, 0, 0, 0, 52, 0, 0, 0, 115, 0, 0, 0, 108]
abbrev dktX9_kindBy_1 : List UInt8 := dkwX9_kindBy_1 ++ dktX9_kindBy_2
def dkwX9_kindBy_0 : List UInt8 := [42, 76, 2, 61, 43, 182, 0, 20]
abbrev dktX9_kindBy_0 : List UInt8 := dkwX9_kindBy_0 ++ dktX9_kindBy_1
theorem dksX9_kindBy_0 : cX9_kindBy.data.toList.drop 0 = dktX9_kindBy_0 := by decide +kernel
theorem dksX9_kindBy_1 : cX9_kindBy.data.toList.drop 8 = dktX9_kindBy_1 := dk_seg dksX9_kindBy_0 8 rfl rfl
theorem dksX9_kindBy_2 : cX9_kindBy.data.toList.drop 60 = dktX9_kindBy_2 := dk_seg dksX9_kindBy_1 52 rfl rfl
theorem dksX9_kindBy_3 : cX9_kindBy.data.toList.drop 84 = dktX9_kindBy_3 := dk_seg dksX9_kindBy_2 24 rfl rfl
theorem dksX9_kindBy_4 : cX9_kindBy.data.toList.drop 108 = dktX9_kindBy_4 := dk_seg dksX9_kindBy_3 24 rfl rfl
theorem dksX9_kindBy_5 : cX9_kindBy.data.toList.drop 128 = dktX9_kindBy_5 := dk_seg dksX9_kindBy_4 20 rfl rfl
theorem dksX9_kindBy_6 : cX9_kindBy.data.toList.drop 164 = dktX9_kindBy_6 := dk_seg dksX9_kindBy_5 36 rfl rfl
theorem dX9_kindBy_0 : decode cX9_kindBy 0 = .ok (.aload_n 0, 1) := dk_42 (dk_at dksX9_kindBy_0 0 rfl rfl)
theorem dX9_kindBy_1 : decode cX9_kindBy 1 = .ok (.astore_n 1, 1) := dk_76 (dk_at dksX9_kindBy_0 1 rfl rfl)
theorem dX9_kindBy_2 : decode cX9_kindBy 2 = .ok (.iconst (-1), 1) := dk_2 (dk_at dksX9_kindBy_0 2 rfl rfl)
theorem dX9_kindBy_3 : decode cX9_kindBy 3 = .ok (.istore_n 2, 1) := dk_61 (dk_at dksX9_kindBy_0 3 rfl rfl)
theorem dX9_kindBy_4 : decode cX9_kindBy 4 = .ok (.aload_n 1, 1) := dk_43 (dk_at dksX9_kindBy_0 4 rfl rfl)
theorem dX9_kindBy_5 : decode cX9_kindBy 5 = .ok (.invokevirtual 20, 3) := dk_182 0 20 (dk_at dksX9_kindBy_0 5 rfl rfl)
theorem dX9_kindBy_8 : decode cX9_kindBy 8 = .ok (.lookupswitch 119 #[(100, 94), (104, 80), (108, 66), (111, 52), (115, 108)], 52) := by decide +kernel
theorem dX9_kindBy_60 : decode cX9_kindBy 60 = .ok (.aload_n 1, 1) := dk_43 (dk_at dksX9_kindBy_2 0 rfl rfl)
theorem dX9_kindBy_61 : decode cX9_kindBy 61 = .ok (.ldc 25, 2) := dk_18 25 (dk_at dksX9_kindBy_2 1 rfl rfl)
theorem dX9_kindBy_63 : decode cX9_kindBy 63 = .ok (.invokevirtual 27, 3) := dk_182 0 27 (dk_at dksX9_kindBy_2 3 rfl rfl)
theorem dX9_kindBy_66 : decode cX9_kindBy 66 = .ok (.ifCond .eq 61, 3) := dk_153 0 61 (dk_at dksX9_kindBy_2 6 rfl rfl)
theorem dX9_kindBy_69 : decode cX9_kindBy 69 = .ok (.iconst 0, 1) := dk_3 (dk_at dksX9_kindBy_2 9 rfl rfl)
theorem dX9_kindBy_70 : decode cX9_kindBy 70 = .ok (.istore_n 2, 1) := dk_61 (dk_at dksX9_kindBy_2 10 rfl rfl)
theorem dX9_kindBy_71 : decode cX9_kindBy 71 = .ok (.goto 56, 3) := dk_167 0 56 (dk_at dksX9_kindBy_2 11 rfl rfl)
theorem dX9_kindBy_74 : decode cX9_kindBy 74 = .ok (.aload_n 1, 1) := dk_43 (dk_at dksX9_kindBy_2 14 rfl rfl)
theorem dX9_kindBy_75 : decode cX9_kindBy 75 = .ok (.ldc 31, 2) := dk_18 31 (dk_at dksX9_kindBy_2 15 rfl rfl)
theorem dX9_kindBy_77 : decode cX9_kindBy 77 = .ok (.invokevirtual 27, 3) := dk_182 0 27 (dk_at dksX9_kindBy_2 17 rfl rfl)
theorem dX9_kindBy_80 : decode cX9_kindBy 80 = .ok (.ifCond .eq 47, 3) := dk_153 0 47 (dk_at dksX9_kindBy_2 20 rfl rfl)
theorem dX9_kindBy_83 : decode cX9_kindBy 83 = .ok (.iconst 1, 1) := dk_4 (dk_at dksX9_kindBy_2 23 rfl rfl)
theorem dX9_kindBy_84 : decode cX9_kindBy 84 = .ok (.istore_n 2, 1) := dk_61 (dk_at dksX9_kindBy_3 0 rfl rfl)
theorem dX9_kindBy_85 : decode cX9_kindBy 85 = .ok (.goto 42, 3) := dk_167 0 42 (dk_at dksX9_kindBy_3 1 rfl rfl)
theorem dX9_kindBy_88 : decode cX9_kindBy 88 = .ok (.aload_n 1, 1) := dk_43 (dk_at dksX9_kindBy_3 4 rfl rfl)
theorem dX9_kindBy_89 : decode cX9_kindBy 89 = .ok (.ldc 33, 2) := dk_18 33 (dk_at dksX9_kindBy_3 5 rfl rfl)
theorem dX9_kindBy_91 : decode cX9_kindBy 91 = .ok (.invokevirtual 27, 3) := dk_182 0 27 (dk_at dksX9_kindBy_3 7 rfl rfl)
theorem dX9_kindBy_94 : decode cX9_kindBy 94 = .ok (.ifCond .eq 33, 3) := dk_153 0 33 (dk_at dksX9_kindBy_3 10 rfl rfl)
theorem dX9_kindBy_97 : decode cX9_kindBy 97 = .ok (.iconst 2, 1) := dk_5 (dk_at dksX9_kindBy_3 13 rfl rfl)
theorem dX9_kindBy_98 : decode cX9_kindBy 98 = .ok (.istore_n 2, 1) := dk_61 (dk_at dksX9_kindBy_3 14 rfl rfl)
theorem dX9_kindBy_99 : decode cX9_kindBy 99 = .ok (.goto 28, 3) := dk_167 0 28 (dk_at dksX9_kindBy_3 15 rfl rfl)
theorem dX9_kindBy_102 : decode cX9_kindBy 102 = .ok (.aload_n 1, 1) := dk_43 (dk_at dksX9_kindBy_3 18 rfl rfl)
theorem dX9_kindBy_103 : decode cX9_kindBy 103 = .ok (.ldc 35, 2) := dk_18 35 (dk_at dksX9_kindBy_3 19 rfl rfl)
theorem dX9_kindBy_105 : decode cX9_kindBy 105 = .ok (.invokevirtual 27, 3) := dk_182 0 27 (dk_at dksX9_kindBy_3 21 rfl rfl)
theorem dX9_kindBy_108 : decode cX9_kindBy 108 = .ok (.ifCond .eq 19, 3) := dk_153 0 19 (dk_at dksX9_kindBy_4 0 rfl rfl)
theorem dX9_kindBy_111 : decode cX9_kindBy 111 = .ok (.iconst 3, 1) := dk_6 (dk_at dksX9_kindBy_4 3 rfl rfl)
theorem dX9_kindBy_112 : decode cX9_kindBy 112 = .ok (.istore_n 2, 1) := dk_61 (dk_at dksX9_kindBy_4 4 rfl rfl)
theorem dX9_kindBy_113 : decode cX9_kindBy 113 = .ok (.goto 14, 3) := dk_167 0 14 (dk_at dksX9_kindBy_4 5 rfl rfl)
theorem dX9_kindBy_116 : decode cX9_kindBy 116 = .ok (.aload_n 1, 1) := dk_43 (dk_at dksX9_kindBy_4 8 rfl rfl)
theorem dX9_kindBy_117 : decode cX9_kindBy 117 = .ok (.ldc 37, 2) := dk_18 37 (dk_at dksX9_kindBy_4 9 rfl rfl)
theorem dX9_kindBy_119 : decode cX9_kindBy 119 = .ok (.invokevirtual 27, 3) := dk_182 0 27 (dk_at dksX9_kindBy_4 11 rfl rfl)
theorem dX9_kindBy_122 : decode cX9_kindBy 122 = .ok (.ifCond .eq 5, 3) := dk_153 0 5 (dk_at dksX9_kindBy_4 14 rfl rfl)
theorem dX9_kindBy_125 : decode cX9_kindBy 125 = .ok (.iconst 4, 1) := dk_7 (dk_at dksX9_kindBy_4 17 rfl rfl)
theorem dX9_kindBy_126 : decode cX9_kindBy 126 = .ok (.istore_n 2, 1) := dk_61 (dk_at dksX9_kindBy_4 18 rfl rfl)
theorem dX9_kindBy_127 : decode cX9_kindBy 127 = .ok (.iload_n 2, 1) := dk_28 (dk_at dksX9_kindBy_4 19 rfl rfl)
theorem dX9_kindBy_128 : decode cX9_kindBy 128 = .ok (.tableswitch 46 0 4 #[36, 38, 40, 42, 44], 36) := by decide +kernel
theorem dX9_kindBy_164 : decode cX9_kindBy 164 = .ok (.iconst 1, 1) := dk_4 (dk_at dksX9_kindBy_6 0 rfl rfl)
theorem dX9_kindBy_165 : decode cX9_kindBy 165 = .ok (.ireturn, 1) := dk_172 (dk_at dksX9_kindBy_6 1 rfl rfl)
theorem dX9_kindBy_166 : decode cX9_kindBy 166 = .ok (.iconst 2, 1) := dk_5 (dk_at dksX9_kindBy_6 2 rfl rfl)
theorem dX9_kindBy_167 : decode cX9_kindBy 167 = .ok (.ireturn, 1) := dk_172 (dk_at dksX9_kindBy_6 3 rfl rfl)
theorem dX9_kindBy_168 : decode cX9_kindBy 168 = .ok (.iconst 3, 1) := dk_6 (dk_at dksX9_kindBy_6 4 rfl rfl)
theorem dX9_kindBy_169 : decode cX9_kindBy 169 = .ok (.ireturn, 1) := dk_172 (dk_at dksX9_kindBy_6 5 rfl rfl)
theorem dX9_kindBy_170 : decode cX9_kindBy 170 = .ok (.iconst 4, 1) := dk_7 (dk_at dksX9_kindBy_6 6 rfl rfl)
theorem dX9_kindBy_171 : decode cX9_kindBy 171 = .ok (.ireturn, 1) := dk_172 (dk_at dksX9_kindBy_6 7 rfl rfl)
theorem dX9_kindBy_172 : decode cX9_kindBy 172 = .ok (.iconst 5, 1) := dk_8 (dk_at dksX9_kindBy_6 8 rfl rfl)
theorem dX9_kindBy_173 : decode cX9_kindBy 173 = .ok (.ireturn, 1) := dk_172 (dk_at dksX9_kindBy_6 9 rfl rfl)
theorem dX9_kindBy_174 : decode cX9_kindBy 174 = .ok (.ldc 39, 2) := dk_18 39 (dk_at dksX9_kindBy_6 10 rfl rfl)
theorem dX9_kindBy_176 : decode cX9_kindBy 176 = .ok (.ireturn, 1) := dk_172 (dk_at dksX9_kindBy_6 12 rfl rfl)
abbrev cX9_size : ByteArray := prog_8_method_2_code
def yX9_size : MethodName := ⟨RX9, "size", "(LDatedContacts$Trail;LDatedContacts$Held;)I"⟩
def dkwX9_size_0 : List UInt8 := [43, 16, 10, 182, 0, 3, 44, 185, 0, 9, 1, 0, 172]
abbrev dktX9_size_0 : List UInt8 := dkwX9_size_0 ++ []
theorem dksX9_size_0 : cX9_size.data.toList.drop 0 = dktX9_size_0 := by decide +kernel
theorem dX9_size_0 : decode cX9_size 0 = .ok (.aload_n 1, 1) := dk_43 (dk_at dksX9_size_0 0 rfl rfl)
theorem dX9_size_1 : decode cX9_size 1 = .ok (.bipush 10, 2) := dk_16 10 (dk_at dksX9_size_0 1 rfl rfl)
theorem dX9_size_3 : decode cX9_size 3 = .ok (.invokevirtual 3, 3) := dk_182 0 3 (dk_at dksX9_size_0 3 rfl rfl)
theorem dX9_size_6 : decode cX9_size 6 = .ok (.aload_n 2, 1) := dk_44 (dk_at dksX9_size_0 6 rfl rfl)
theorem dX9_size_7 : decode cX9_size 7 = .ok (.invokeinterface 9 1, 5) := by decide +kernel
theorem dX9_size_12 : decode cX9_size 12 = .ok (.ireturn, 1) := dk_172 (dk_at dksX9_size_0 12 rfl rfl)
abbrev cX9_mark : ByteArray := prog_8_method_3_code
def yX9_mark : MethodName := ⟨RX9, "mark", "(LDatedContacts$Trail;LDatedContacts$Held;)I"⟩
def dkwX9_mark_0 : List UInt8 := [43, 16, 20, 182, 0, 3, 42, 185, 0, 15, 1, 0, 172]
abbrev dktX9_mark_0 : List UInt8 := dkwX9_mark_0 ++ []
theorem dksX9_mark_0 : cX9_mark.data.toList.drop 0 = dktX9_mark_0 := by decide +kernel
theorem dX9_mark_0 : decode cX9_mark 0 = .ok (.aload_n 1, 1) := dk_43 (dk_at dksX9_mark_0 0 rfl rfl)
theorem dX9_mark_1 : decode cX9_mark 1 = .ok (.bipush 20, 2) := dk_16 20 (dk_at dksX9_mark_0 1 rfl rfl)
theorem dX9_mark_3 : decode cX9_mark 3 = .ok (.invokevirtual 3, 3) := dk_182 0 3 (dk_at dksX9_mark_0 3 rfl rfl)
theorem dX9_mark_6 : decode cX9_mark 6 = .ok (.aload_n 0, 1) := dk_42 (dk_at dksX9_mark_0 6 rfl rfl)
theorem dX9_mark_7 : decode cX9_mark 7 = .ok (.invokeinterface 15 1, 5) := by decide +kernel
theorem dX9_mark_12 : decode cX9_mark 12 = .ok (.ireturn, 1) := dk_172 (dk_at dksX9_mark_0 12 rfl rfl)
theorem q104 : (Jvm.Cond.initialized "DatedContacts$Marked") ∈ lw_all := lw_g (lw_at lw_m1 28 rfl) rfl
theorem q852 : (Jvm.Cond.static ({ cls := "DatedContacts$Marked", name := "kindBy", desc := "(Ljava/lang/String;)I" } : Jvm.MethodName)) ∈ lw_all := lw_g (lw_at lw_m4 56 rfl) rfl
theorem q853 : (Jvm.Cond.code ({ cls := "DatedContacts$Marked", name := "kindBy", desc := "(Ljava/lang/String;)I" } : Jvm.MethodName) prog_8_method_4_code (3 : Nat) (Option.some Jvm.ClassFile.FieldType.int)) ∈ lw_all := lw_g (lw_at lw_m4 57 rfl) rfl
theorem q854 : (Jvm.Cond.methodLink "DatedContacts$Marked" (20 : Nat) ({ cls := "java/lang/String", name := "hashCode", desc := "()I" } : Jvm.MethodName)) ∈ lw_all := lw_g (lw_at lw_m4 58 rfl) rfl
theorem q907 : (Jvm.Cond.stringRef "DatedContacts$Marked" (25 : Nat) "o") ∈ lw_tbl := lw_at lw_m4 111 rfl
theorem q908 : (Jvm.Cond.methodLink "DatedContacts$Marked" (27 : Nat) ({ cls := "java/lang/String", name := "equals", desc := "(Ljava/lang/Object;)Z" } : Jvm.MethodName)) ∈ lw_all := lw_g (lw_at lw_m4 112 rfl) rfl
theorem q916 : (Jvm.Cond.stringRef "DatedContacts$Marked" (31 : Nat) "l") ∈ lw_tbl := lw_at lw_m4 120 rfl
theorem q917 : (Jvm.Cond.stringRef "DatedContacts$Marked" (33 : Nat) "h") ∈ lw_tbl := lw_at lw_m4 121 rfl
theorem q918 : (Jvm.Cond.stringRef "DatedContacts$Marked" (35 : Nat) "d") ∈ lw_tbl := lw_at lw_m4 122 rfl
theorem q919 : (Jvm.Cond.stringRef "DatedContacts$Marked" (37 : Nat) "s") ∈ lw_tbl := lw_at lw_m4 123 rfl
theorem q920 : (Jvm.Cond.constant "DatedContacts$Marked" (39 : Nat) (-1000000 : Int32)) ∈ lw_all := lw_g (lw_at lw_m4 124 rfl) rfl
theorem q1498 : (Jvm.Cond.declares ({ cls := "DatedContacts$Marked", name := "size", desc := "(LDatedContacts$Trail;LDatedContacts$Held;)I" } : Jvm.MethodName)) ∈ lw_tbl := lw_at lw_m6 222 rfl
theorem q1506 : (Jvm.Cond.instanceMethod ({ cls := "DatedContacts$Marked", name := "size", desc := "(LDatedContacts$Trail;LDatedContacts$Held;)I" } : Jvm.MethodName)) ∈ lw_all := lw_g (lw_at lw_m6 230 rfl) rfl
theorem q1507 : (Jvm.Cond.code ({ cls := "DatedContacts$Marked", name := "size", desc := "(LDatedContacts$Trail;LDatedContacts$Held;)I" } : Jvm.MethodName) prog_8_method_2_code (3 : Nat) (Option.some Jvm.ClassFile.FieldType.int)) ∈ lw_all := lw_g (lw_at lw_m6 231 rfl) rfl
theorem q1508 : (Jvm.Cond.methodLink "DatedContacts$Marked" (3 : Nat) ({ cls := "DatedContacts$Trail", name := "begins", desc := "(I)V" } : Jvm.MethodName)) ∈ lw_all := lw_g (lw_at lw_m6 232 rfl) rfl
theorem q1509 : (Jvm.Cond.interfaceEntry "DatedContacts$Marked" (9 : Nat)) ∈ lw_tbl := lw_at lw_m6 233 rfl
theorem q1510 : (Jvm.Cond.methodLink "DatedContacts$Marked" (9 : Nat) ({ cls := "DatedContacts$Held", name := "contacts", desc := "()I" } : Jvm.MethodName)) ∈ lw_all := lw_g (lw_at lw_m6 234 rfl) rfl
theorem q1534 : (Jvm.Cond.declares ({ cls := "DatedContacts$Marked", name := "mark", desc := "(LDatedContacts$Trail;LDatedContacts$Held;)I" } : Jvm.MethodName)) ∈ lw_tbl := lw_at lw_m7 18 rfl
theorem q1535 : (Jvm.Cond.instanceMethod ({ cls := "DatedContacts$Marked", name := "mark", desc := "(LDatedContacts$Trail;LDatedContacts$Held;)I" } : Jvm.MethodName)) ∈ lw_all := lw_g (lw_at lw_m7 19 rfl) rfl
theorem q1536 : (Jvm.Cond.code ({ cls := "DatedContacts$Marked", name := "mark", desc := "(LDatedContacts$Trail;LDatedContacts$Held;)I" } : Jvm.MethodName) prog_8_method_3_code (3 : Nat) (Option.some Jvm.ClassFile.FieldType.int)) ∈ lw_all := lw_g (lw_at lw_m7 20 rfl) rfl
theorem q1537 : (Jvm.Cond.interfaceEntry "DatedContacts$Marked" (15 : Nat)) ∈ lw_tbl := lw_at lw_m7 21 rfl
theorem q1538 : (Jvm.Cond.methodLink "DatedContacts$Marked" (15 : Nat) ({ cls := "DatedContacts$Marked", name := "number", desc := "()I" } : Jvm.MethodName)) ∈ lw_all := lw_g (lw_at lw_m7 22 rfl) rfl
theorem q1539 : (Jvm.Cond.interfaceMethod "DatedContacts$Marked" "DatedContacts$Marked" "number" "()I") ∈ lw_tbl := lw_at lw_m7 23 rfl
theorem q1540 : (Jvm.Cond.declares ({ cls := "DatedContacts$Marked", name := "number", desc := "()I" } : Jvm.MethodName)) ∈ lw_tbl := lw_at lw_m7 24 rfl
/-! DatedContacts$Person -/
set_option maxRecDepth 100000
def RX10 : String := "DatedContacts$Person"
abbrev cX10_init : ByteArray := prog_11_method_1_code
def yX10_init : MethodName := ⟨RX10, "<init>", "(I)V"⟩
def dkwX10_init_0 : List UInt8 := [42, 183, 0, 1, 42, 27, 181, 0, 7, 177]
abbrev dktX10_init_0 : List UInt8 := dkwX10_init_0 ++ []
theorem dksX10_init_0 : cX10_init.data.toList.drop 0 = dktX10_init_0 := by decide +kernel
theorem dX10_init_0 : decode cX10_init 0 = .ok (.aload_n 0, 1) := dk_42 (dk_at dksX10_init_0 0 rfl rfl)
theorem dX10_init_1 : decode cX10_init 1 = .ok (.invokespecial 1, 3) := dk_183 0 1 (dk_at dksX10_init_0 1 rfl rfl)
theorem dX10_init_4 : decode cX10_init 4 = .ok (.aload_n 0, 1) := dk_42 (dk_at dksX10_init_0 4 rfl rfl)
theorem dX10_init_5 : decode cX10_init 5 = .ok (.iload_n 1, 1) := dk_27 (dk_at dksX10_init_0 5 rfl rfl)
theorem dX10_init_6 : decode cX10_init 6 = .ok (.putfield 7, 3) := dk_181 0 7 (dk_at dksX10_init_0 6 rfl rfl)
theorem dX10_init_9 : decode cX10_init 9 = .ok (.return_, 1) := dk_177 (dk_at dksX10_init_0 9 rfl rfl)
abbrev cX10_window : ByteArray := prog_11_method_3_code
def yX10_window : MethodName := ⟨RX10, "window", "(LDatedContacts$Window;)LDatedContacts$Window;"⟩
theorem dX10_window_0 : decode cX10_window 0 = .ok (.aload_n 1, 1) := by decide +kernel
theorem dX10_window_1 : decode cX10_window 1 = .ok (.areturn, 1) := by decide +kernel
abbrev cX10_catches : ByteArray := prog_11_method_4_code
def yX10_catches : MethodName := ⟨RX10, "catches", "()Z"⟩
theorem dX10_catches_0 : decode cX10_catches 0 = .ok (.iconst 1, 1) := by decide +kernel
theorem dX10_catches_1 : decode cX10_catches 1 = .ok (.ireturn, 1) := by decide +kernel
abbrev cX10_number : ByteArray := prog_11_method_5_code
def yX10_number : MethodName := ⟨RX10, "number", "()I"⟩
theorem dX10_number_0 : decode cX10_number 0 = .ok (.aload_n 0, 1) := by decide +kernel
theorem dX10_number_1 : decode cX10_number 1 = .ok (.getfield 7, 3) := by decide +kernel
theorem dX10_number_4 : decode cX10_number 4 = .ok (.ireturn, 1) := by decide +kernel
theorem q105 : (Jvm.Cond.initialized "DatedContacts$Person") ∈ lw_all := lw_g (lw_at lw_m1 29 rfl) rfl
theorem q934 : (Jvm.Cond.instanceMethod ({ cls := "DatedContacts$Person", name := "<init>", desc := "(I)V" } : Jvm.MethodName)) ∈ lw_all := lw_g (lw_at lw_m4 138 rfl) rfl
theorem q935 : (Jvm.Cond.code ({ cls := "DatedContacts$Person", name := "<init>", desc := "(I)V" } : Jvm.MethodName) prog_11_method_1_code (2 : Nat) (Option.none : Option Jvm.ClassFile.FieldType)) ∈ lw_all := lw_g (lw_at lw_m4 139 rfl) rfl
theorem q936 : (Jvm.Cond.methodLink "DatedContacts$Person" (1 : Nat) ({ cls := "java/lang/Object", name := "<init>", desc := "()V" } : Jvm.MethodName)) ∈ lw_all := lw_g (lw_at lw_m4 140 rfl) rfl
theorem q937 : (Jvm.Cond.fieldLink "DatedContacts$Person" (7 : Nat) "DatedContacts$Person" "number" "I") ∈ lw_all := lw_g (lw_at lw_m4 141 rfl) rfl
theorem q939 : (Jvm.Cond.soleField "DatedContacts$Person" "number") ∈ lw_all := lw_g (lw_at lw_m4 143 rfl) rfl
theorem q1000 : (Jvm.Cond.instanceMethod ({ cls := "DatedContacts$Person", name := "window", desc := "(LDatedContacts$Window;)LDatedContacts$Window;" } : Jvm.MethodName)) ∈ lw_all := lw_g (lw_at lw_m4 204 rfl) rfl
theorem q1001 : (Jvm.Cond.sameMethod "DatedContacts$Person" "DatedContacts$Person" "window" "(LDatedContacts$Window;)LDatedContacts$Window;") ∈ lw_all := lw_g (lw_at lw_m4 205 rfl) rfl
theorem q1007 : (Jvm.Cond.declares ({ cls := "DatedContacts$Person", name := "window", desc := "(LDatedContacts$Window;)LDatedContacts$Window;" } : Jvm.MethodName)) ∈ lw_tbl := lw_at lw_m4 211 rfl
theorem q1045 : (Jvm.Cond.code ({ cls := "DatedContacts$Person", name := "window", desc := "(LDatedContacts$Window;)LDatedContacts$Window;" } : Jvm.MethodName) prog_11_method_3_code (2 : Nat) (Option.some (Jvm.ClassFile.FieldType.object "DatedContacts$Window"))) ∈ lw_all := lw_g (lw_at lw_m5 9 rfl) rfl
theorem q1104 : (Jvm.Cond.declares ({ cls := "DatedContacts$Person", name := "kind", desc := "()I" } : Jvm.MethodName)) ∈ lw_tbl := lw_at lw_m5 68 rfl
theorem q1105 : (Jvm.Cond.sameMethod "DatedContacts$Person" "DatedContacts$Person" "kind" "()I") ∈ lw_all := lw_g (lw_at lw_m5 69 rfl) rfl
theorem q1176 : (Jvm.Cond.instanceMethod ({ cls := "DatedContacts$Person", name := "catches", desc := "()Z" } : Jvm.MethodName)) ∈ lw_all := lw_g (lw_at lw_m5 140 rfl) rfl
theorem q1177 : (Jvm.Cond.sameMethod "DatedContacts$Person" "DatedContacts$Person" "catches" "()Z") ∈ lw_all := lw_g (lw_at lw_m5 141 rfl) rfl
theorem q1186 : (Jvm.Cond.declares ({ cls := "DatedContacts$Person", name := "catches", desc := "()Z" } : Jvm.MethodName)) ∈ lw_tbl := lw_at lw_m5 150 rfl
theorem q1188 : (Jvm.Cond.code ({ cls := "DatedContacts$Person", name := "catches", desc := "()Z" } : Jvm.MethodName) prog_11_method_4_code (1 : Nat) (Option.some Jvm.ClassFile.FieldType.boolean)) ∈ lw_all := lw_g (lw_at lw_m5 152 rfl) rfl
theorem q1471 : (Jvm.Cond.instanceMethod ({ cls := "DatedContacts$Person", name := "number", desc := "()I" } : Jvm.MethodName)) ∈ lw_all := lw_g (lw_at lw_m6 195 rfl) rfl
theorem q1472 : (Jvm.Cond.sameMethod "DatedContacts$Person" "DatedContacts$Person" "number" "()I") ∈ lw_all := lw_g (lw_at lw_m6 196 rfl) rfl
theorem q1478 : (Jvm.Cond.code ({ cls := "DatedContacts$Person", name := "number", desc := "()I" } : Jvm.MethodName) prog_11_method_5_code (1 : Nat) (Option.some Jvm.ClassFile.FieldType.int)) ∈ lw_all := lw_g (lw_at lw_m6 202 rfl) rfl
theorem q1497 : (Jvm.Cond.superclass "DatedContacts$Person" "java/lang/Object") ∈ lw_all := lw_g (lw_at lw_m6 221 rfl) rfl
theorem q1544 : (Jvm.Cond.publicMethod ({ cls := "DatedContacts$Person", name := "number", desc := "()I" } : Jvm.MethodName)) ∈ lw_tbl := lw_at lw_m7 28 rfl
/-! DatedContacts$Open -/
set_option maxRecDepth 100000
def RX11 : String := "DatedContacts$Open"
def TX11 : u_T := fun k => match k with
  | _ => ("DatedContacts$Person", "number", "I", true)
def tyX11 : Nat → FieldType := fun k => match k with
  | _ => .int
abbrev wsX110 : List Cond := u_ws RX11 TX11 1
theorem nmX11 : ∀ a, a < 1 → ∀ b, b < 1 → a ≠ b → (TX11 a).2.1 ≠ (TX11 b).2.1 := by decide +kernel
theorem tyX11_ok : ∀ k, k < 1 → parseFieldDescriptor (TX11 k).2.2.1 = some (tyX11 k) := by decide +kernel
abbrev cX11_init : ByteArray := prog_10_method_1_code
def yX11_init : MethodName := ⟨RX11, "<init>", "(I)V"⟩
def dkwX11_init_0 : List UInt8 := [42, 27, 183, 0, 3, 177]
abbrev dktX11_init_0 : List UInt8 := dkwX11_init_0 ++ []
theorem dksX11_init_0 : cX11_init.data.toList.drop 0 = dktX11_init_0 := by decide +kernel
theorem dX11_init_0 : decode cX11_init 0 = .ok (.aload_n 0, 1) := dk_42 (dk_at dksX11_init_0 0 rfl rfl)
theorem dX11_init_1 : decode cX11_init 1 = .ok (.iload_n 1, 1) := dk_27 (dk_at dksX11_init_0 1 rfl rfl)
theorem dX11_init_2 : decode cX11_init 2 = .ok (.invokespecial 3, 3) := dk_183 0 3 (dk_at dksX11_init_0 2 rfl rfl)
theorem dX11_init_5 : decode cX11_init 5 = .ok (.return_, 1) := dk_177 (dk_at dksX11_init_0 5 rfl rfl)
abbrev cX11_kind : ByteArray := prog_10_method_2_code
def yX11_kind : MethodName := ⟨RX11, "kind", "()I"⟩
theorem dX11_kind_0 : decode cX11_kind 0 = .ok (.iconst 1, 1) := by decide +kernel
theorem dX11_kind_1 : decode cX11_kind 1 = .ok (.ireturn, 1) := by decide +kernel
abbrev cX11_size : ByteArray := prog_10_method_3_code
def yX11_size : MethodName := ⟨RX11, "size", "(LDatedContacts$Trail;LDatedContacts$Held;)I"⟩
def dkwX11_size_0 : List UInt8 := [43, 16, 11, 182, 0, 9, 42, 43, 44, 183, 0, 14, 42, 43, 44, 182, 0, 18, 96, 172]
abbrev dktX11_size_0 : List UInt8 := dkwX11_size_0 ++ []
theorem dksX11_size_0 : cX11_size.data.toList.drop 0 = dktX11_size_0 := by decide +kernel
theorem dX11_size_0 : decode cX11_size 0 = .ok (.aload_n 1, 1) := dk_43 (dk_at dksX11_size_0 0 rfl rfl)
theorem dX11_size_1 : decode cX11_size 1 = .ok (.bipush 11, 2) := dk_16 11 (dk_at dksX11_size_0 1 rfl rfl)
theorem dX11_size_3 : decode cX11_size 3 = .ok (.invokevirtual 9, 3) := dk_182 0 9 (dk_at dksX11_size_0 3 rfl rfl)
theorem dX11_size_6 : decode cX11_size 6 = .ok (.aload_n 0, 1) := dk_42 (dk_at dksX11_size_0 6 rfl rfl)
theorem dX11_size_7 : decode cX11_size 7 = .ok (.aload_n 1, 1) := dk_43 (dk_at dksX11_size_0 7 rfl rfl)
theorem dX11_size_8 : decode cX11_size 8 = .ok (.aload_n 2, 1) := dk_44 (dk_at dksX11_size_0 8 rfl rfl)
theorem dX11_size_9 : decode cX11_size 9 = .ok (.invokespecial 14, 3) := dk_183 0 14 (dk_at dksX11_size_0 9 rfl rfl)
theorem dX11_size_12 : decode cX11_size 12 = .ok (.aload_n 0, 1) := dk_42 (dk_at dksX11_size_0 12 rfl rfl)
theorem dX11_size_13 : decode cX11_size 13 = .ok (.aload_n 1, 1) := dk_43 (dk_at dksX11_size_0 13 rfl rfl)
theorem dX11_size_14 : decode cX11_size 14 = .ok (.aload_n 2, 1) := dk_44 (dk_at dksX11_size_0 14 rfl rfl)
theorem dX11_size_15 : decode cX11_size 15 = .ok (.invokevirtual 18, 3) := dk_182 0 18 (dk_at dksX11_size_0 15 rfl rfl)
theorem dX11_size_18 : decode cX11_size 18 = .ok (.iadd, 1) := dk_96 (dk_at dksX11_size_0 18 rfl rfl)
theorem dX11_size_19 : decode cX11_size 19 = .ok (.ireturn, 1) := dk_172 (dk_at dksX11_size_0 19 rfl rfl)
abbrev cX11_mark : ByteArray := prog_10_method_4_code
def yX11_mark : MethodName := ⟨RX11, "mark", "(LDatedContacts$Trail;LDatedContacts$Held;)I"⟩
def dkwX11_mark_0 : List UInt8 := [43, 16, 21, 182, 0, 9, 42, 43, 44, 183, 0, 23, 44, 185, 0, 24, 1, 0, 96, 172]
abbrev dktX11_mark_0 : List UInt8 := dkwX11_mark_0 ++ []
theorem dksX11_mark_0 : cX11_mark.data.toList.drop 0 = dktX11_mark_0 := by decide +kernel
theorem dX11_mark_0 : decode cX11_mark 0 = .ok (.aload_n 1, 1) := dk_43 (dk_at dksX11_mark_0 0 rfl rfl)
theorem dX11_mark_1 : decode cX11_mark 1 = .ok (.bipush 21, 2) := dk_16 21 (dk_at dksX11_mark_0 1 rfl rfl)
theorem dX11_mark_3 : decode cX11_mark 3 = .ok (.invokevirtual 9, 3) := dk_182 0 9 (dk_at dksX11_mark_0 3 rfl rfl)
theorem dX11_mark_6 : decode cX11_mark 6 = .ok (.aload_n 0, 1) := dk_42 (dk_at dksX11_mark_0 6 rfl rfl)
theorem dX11_mark_7 : decode cX11_mark 7 = .ok (.aload_n 1, 1) := dk_43 (dk_at dksX11_mark_0 7 rfl rfl)
theorem dX11_mark_8 : decode cX11_mark 8 = .ok (.aload_n 2, 1) := dk_44 (dk_at dksX11_mark_0 8 rfl rfl)
theorem dX11_mark_9 : decode cX11_mark 9 = .ok (.invokespecial 23, 3) := dk_183 0 23 (dk_at dksX11_mark_0 9 rfl rfl)
theorem dX11_mark_12 : decode cX11_mark 12 = .ok (.aload_n 2, 1) := dk_44 (dk_at dksX11_mark_0 12 rfl rfl)
theorem dX11_mark_13 : decode cX11_mark 13 = .ok (.invokeinterface 24 1, 5) := by decide +kernel
theorem dX11_mark_18 : decode cX11_mark 18 = .ok (.iadd, 1) := dk_96 (dk_at dksX11_mark_0 18 rfl rfl)
theorem dX11_mark_19 : decode cX11_mark 19 = .ok (.ireturn, 1) := dk_172 (dk_at dksX11_mark_0 19 rfl rfl)
theorem q106 : (Jvm.Cond.initialized "DatedContacts$Open") ∈ lw_all := lw_g (lw_at lw_m1 30 rfl) rfl
theorem q929 : (Jvm.Cond.instantiable "DatedContacts$Open" (1 : Nat)) ∈ lw_all := lw_g (lw_at lw_m4 133 rfl) rfl
theorem q931 : (Jvm.Cond.instanceMethod ({ cls := "DatedContacts$Open", name := "<init>", desc := "(I)V" } : Jvm.MethodName)) ∈ lw_all := lw_g (lw_at lw_m4 135 rfl) rfl
theorem q932 : (Jvm.Cond.code ({ cls := "DatedContacts$Open", name := "<init>", desc := "(I)V" } : Jvm.MethodName) prog_10_method_1_code (2 : Nat) (Option.none : Option Jvm.ClassFile.FieldType)) ∈ lw_all := lw_g (lw_at lw_m4 136 rfl) rfl
theorem q933 : (Jvm.Cond.methodLink "DatedContacts$Open" (3 : Nat) ({ cls := "DatedContacts$Person", name := "<init>", desc := "(I)V" } : Jvm.MethodName)) ∈ lw_all := lw_g (lw_at lw_m4 137 rfl) rfl
theorem q938 : (Jvm.Cond.laysFinal "DatedContacts$Open" "DatedContacts$Person" "number" "I") ∈ lw_all := lw_g (lw_at lw_m4 142 rfl) rfl
theorem q940 : (Jvm.Cond.superclass "DatedContacts$Open" "DatedContacts$Person") ∈ lw_all := lw_g (lw_at lw_m4 144 rfl) rfl
theorem q1006 : (Jvm.Cond.sameMethod "DatedContacts$Open" "DatedContacts$Person" "window" "(LDatedContacts$Window;)LDatedContacts$Window;") ∈ lw_all := lw_g (lw_at lw_m4 210 rfl) rfl
theorem q1040 : (Jvm.Cond.selects "DatedContacts$Open" ({ cls := "DatedContacts$Person", name := "window", desc := "(LDatedContacts$Window;)LDatedContacts$Window;" } : Jvm.MethodName) ({ cls := "DatedContacts$Person", name := "window", desc := "(LDatedContacts$Window;)LDatedContacts$Window;" } : Jvm.MethodName)) ∈ lw_all := lw_g (lw_at lw_m5 4 rfl) rfl
theorem q1112 : (Jvm.Cond.selects "DatedContacts$Open" ({ cls := "DatedContacts$Person", name := "kind", desc := "()I" } : Jvm.MethodName) ({ cls := "DatedContacts$Open", name := "kind", desc := "()I" } : Jvm.MethodName)) ∈ lw_all := lw_g (lw_at lw_m5 76 rfl) rfl
theorem q1113 : (Jvm.Cond.instanceMethod ({ cls := "DatedContacts$Open", name := "kind", desc := "()I" } : Jvm.MethodName)) ∈ lw_all := lw_g (lw_at lw_m5 77 rfl) rfl
theorem q1114 : (Jvm.Cond.code ({ cls := "DatedContacts$Open", name := "kind", desc := "()I" } : Jvm.MethodName) prog_10_method_2_code (1 : Nat) (Option.some Jvm.ClassFile.FieldType.int)) ∈ lw_all := lw_g (lw_at lw_m5 78 rfl) rfl
theorem q1180 : (Jvm.Cond.selects "DatedContacts$Open" ({ cls := "DatedContacts$Person", name := "catches", desc := "()Z" } : Jvm.MethodName) ({ cls := "DatedContacts$Person", name := "catches", desc := "()Z" } : Jvm.MethodName)) ∈ lw_all := lw_g (lw_at lw_m5 144 rfl) rfl
theorem q1475 : (Jvm.Cond.selects "DatedContacts$Open" ({ cls := "DatedContacts$Person", name := "number", desc := "()I" } : Jvm.MethodName) ({ cls := "DatedContacts$Person", name := "number", desc := "()I" } : Jvm.MethodName)) ∈ lw_all := lw_g (lw_at lw_m6 199 rfl) rfl
theorem q1500 : (Jvm.Cond.instanceMethod ({ cls := "DatedContacts$Open", name := "size", desc := "(LDatedContacts$Trail;LDatedContacts$Held;)I" } : Jvm.MethodName)) ∈ lw_all := lw_g (lw_at lw_m6 224 rfl) rfl
theorem q1501 : (Jvm.Cond.code ({ cls := "DatedContacts$Open", name := "size", desc := "(LDatedContacts$Trail;LDatedContacts$Held;)I" } : Jvm.MethodName) prog_10_method_3_code (3 : Nat) (Option.some Jvm.ClassFile.FieldType.int)) ∈ lw_all := lw_g (lw_at lw_m6 225 rfl) rfl
theorem q1502 : (Jvm.Cond.methodLink "DatedContacts$Open" (9 : Nat) ({ cls := "DatedContacts$Trail", name := "begins", desc := "(I)V" } : Jvm.MethodName)) ∈ lw_all := lw_g (lw_at lw_m6 226 rfl) rfl
theorem q1519 : (Jvm.Cond.methodLink "DatedContacts$Open" (18 : Nat) ({ cls := "DatedContacts$Open", name := "mark", desc := "(LDatedContacts$Trail;LDatedContacts$Held;)I" } : Jvm.MethodName)) ∈ lw_all := lw_g (lw_at lw_m7 3 rfl) rfl
theorem q1520 : (Jvm.Cond.instanceMethod ({ cls := "DatedContacts$Open", name := "mark", desc := "(LDatedContacts$Trail;LDatedContacts$Held;)I" } : Jvm.MethodName)) ∈ lw_all := lw_g (lw_at lw_m7 4 rfl) rfl
theorem q1521 : (Jvm.Cond.selects "DatedContacts$Open" ({ cls := "DatedContacts$Open", name := "mark", desc := "(LDatedContacts$Trail;LDatedContacts$Held;)I" } : Jvm.MethodName) ({ cls := "DatedContacts$Open", name := "mark", desc := "(LDatedContacts$Trail;LDatedContacts$Held;)I" } : Jvm.MethodName)) ∈ lw_all := lw_g (lw_at lw_m7 5 rfl) rfl
theorem q1522 : (Jvm.Cond.sameMethod "DatedContacts$Open" "DatedContacts$Open" "mark" "(LDatedContacts$Trail;LDatedContacts$Held;)I") ∈ lw_all := lw_g (lw_at lw_m7 6 rfl) rfl
theorem q1533 : (Jvm.Cond.code ({ cls := "DatedContacts$Open", name := "mark", desc := "(LDatedContacts$Trail;LDatedContacts$Held;)I" } : Jvm.MethodName) prog_10_method_4_code (3 : Nat) (Option.some Jvm.ClassFile.FieldType.int)) ∈ lw_all := lw_g (lw_at lw_m7 17 rfl) rfl
theorem q1548 : (Jvm.Cond.castable "DatedContacts$Open" "DatedContacts$Marked") ∈ lw_tbl := lw_at lw_m7 32 rfl
theorem q1549 : (Jvm.Cond.selects "DatedContacts$Open" ({ cls := "DatedContacts$Marked", name := "number", desc := "()I" } : Jvm.MethodName) ({ cls := "DatedContacts$Person", name := "number", desc := "()I" } : Jvm.MethodName)) ∈ lw_all := lw_g (lw_at lw_m7 33 rfl) rfl
theorem q1550 : (Jvm.Cond.unhidden "DatedContacts$Open" "number" "()I") ∈ lw_tbl := lw_at lw_m7 34 rfl
theorem q1557 : (Jvm.Cond.interfaceEntry "DatedContacts$Open" (24 : Nat)) ∈ lw_tbl := lw_at lw_m7 41 rfl
theorem q1558 : (Jvm.Cond.methodLink "DatedContacts$Open" (24 : Nat) ({ cls := "DatedContacts$Held", name := "ill", desc := "()I" } : Jvm.MethodName)) ∈ lw_all := lw_g (lw_at lw_m7 42 rfl) rfl
theorem q1570 : (Jvm.Cond.selects "DatedContacts$Open" ({ cls := "DatedContacts$Marked", name := "size", desc := "(LDatedContacts$Trail;LDatedContacts$Held;)I" } : Jvm.MethodName) ({ cls := "DatedContacts$Open", name := "size", desc := "(LDatedContacts$Trail;LDatedContacts$Held;)I" } : Jvm.MethodName)) ∈ lw_all := lw_g (lw_at lw_m7 54 rfl) rfl
theorem q1582 : (Jvm.Cond.selects "DatedContacts$Open" ({ cls := "DatedContacts$Marked", name := "mark", desc := "(LDatedContacts$Trail;LDatedContacts$Held;)I" } : Jvm.MethodName) ({ cls := "DatedContacts$Open", name := "mark", desc := "(LDatedContacts$Trail;LDatedContacts$Held;)I" } : Jvm.MethodName)) ∈ lw_all := lw_g (lw_at lw_m7 66 rfl) rfl
theorem q2065 : (Jvm.Cond.sameMethod "DatedContacts$Open" "DatedContacts$Open" "size" "(LDatedContacts$Trail;LDatedContacts$Held;)I") ∈ lw_all := lw_g (lw_at lw_m9 69 rfl) rfl
theorem q2072 : (Jvm.Cond.castable "DatedContacts$Open" "DatedContacts$Person") ∈ lw_tbl := lw_at lw_m9 76 rfl
theorem in_X11 : ∀ w ∈ wsX110, w ∈ lw_all := lw_in wsX110 [938] (by decide +kernel) (by decide +kernel)
/-! DatedContacts$Late -/
set_option maxRecDepth 100000
def RX12 : String := "DatedContacts$Late"
def TX12 : u_T := fun k => match k with
  | _ => ("DatedContacts$Person", "number", "I", true)
def tyX12 : Nat → FieldType := fun k => match k with
  | _ => .int
abbrev wsX120 : List Cond := u_ws RX12 TX12 1
theorem nmX12 : ∀ a, a < 1 → ∀ b, b < 1 → a ≠ b → (TX12 a).2.1 ≠ (TX12 b).2.1 := by decide +kernel
theorem tyX12_ok : ∀ k, k < 1 → parseFieldDescriptor (TX12 k).2.2.1 = some (tyX12 k) := by decide +kernel
abbrev cX12_init : ByteArray := prog_7_method_1_code
def yX12_init : MethodName := ⟨RX12, "<init>", "(I)V"⟩
def dkwX12_init_0 : List UInt8 := [42, 27, 183, 0, 3, 177]
abbrev dktX12_init_0 : List UInt8 := dkwX12_init_0 ++ []
theorem dksX12_init_0 : cX12_init.data.toList.drop 0 = dktX12_init_0 := by decide +kernel
theorem dX12_init_0 : decode cX12_init 0 = .ok (.aload_n 0, 1) := dk_42 (dk_at dksX12_init_0 0 rfl rfl)
theorem dX12_init_1 : decode cX12_init 1 = .ok (.iload_n 1, 1) := dk_27 (dk_at dksX12_init_0 1 rfl rfl)
theorem dX12_init_2 : decode cX12_init 2 = .ok (.invokespecial 3, 3) := dk_183 0 3 (dk_at dksX12_init_0 2 rfl rfl)
theorem dX12_init_5 : decode cX12_init 5 = .ok (.return_, 1) := dk_177 (dk_at dksX12_init_0 5 rfl rfl)
abbrev cX12_window : ByteArray := prog_7_method_3_code
def yX12_window : MethodName := ⟨RX12, "window", "(LDatedContacts$Window;)LDatedContacts$Window;"⟩
def dkwX12_window_1 : List UInt8 := [185, 0, 21, 1, 0, 4, 96, 183, 0, 24, 176]
abbrev dktX12_window_1 : List UInt8 := dkwX12_window_1 ++ []
def dkwX12_window_0 : List UInt8 := [187, 0, 9, 89, 42, 43, 183, 0, 11, 185, 0, 15, 1, 0, 4, 96, 42, 43, 183, 0, 11]
abbrev dktX12_window_0 : List UInt8 := dkwX12_window_0 ++ dktX12_window_1
theorem dksX12_window_0 : cX12_window.data.toList.drop 0 = dktX12_window_0 := by decide +kernel
theorem dksX12_window_1 : cX12_window.data.toList.drop 21 = dktX12_window_1 := dk_seg dksX12_window_0 21 rfl rfl
theorem dX12_window_0 : decode cX12_window 0 = .ok (.new 9, 3) := dk_187 0 9 (dk_at dksX12_window_0 0 rfl rfl)
theorem dX12_window_3 : decode cX12_window 3 = .ok (.dup, 1) := dk_89 (dk_at dksX12_window_0 3 rfl rfl)
theorem dX12_window_4 : decode cX12_window 4 = .ok (.aload_n 0, 1) := dk_42 (dk_at dksX12_window_0 4 rfl rfl)
theorem dX12_window_5 : decode cX12_window 5 = .ok (.aload_n 1, 1) := dk_43 (dk_at dksX12_window_0 5 rfl rfl)
theorem dX12_window_6 : decode cX12_window 6 = .ok (.invokespecial 11, 3) := dk_183 0 11 (dk_at dksX12_window_0 6 rfl rfl)
theorem dX12_window_9 : decode cX12_window 9 = .ok (.invokeinterface 15 1, 5) := by decide +kernel
theorem dX12_window_14 : decode cX12_window 14 = .ok (.iconst 1, 1) := dk_4 (dk_at dksX12_window_0 14 rfl rfl)
theorem dX12_window_15 : decode cX12_window 15 = .ok (.iadd, 1) := dk_96 (dk_at dksX12_window_0 15 rfl rfl)
theorem dX12_window_16 : decode cX12_window 16 = .ok (.aload_n 0, 1) := dk_42 (dk_at dksX12_window_0 16 rfl rfl)
theorem dX12_window_17 : decode cX12_window 17 = .ok (.aload_n 1, 1) := dk_43 (dk_at dksX12_window_0 17 rfl rfl)
theorem dX12_window_18 : decode cX12_window 18 = .ok (.invokespecial 11, 3) := dk_183 0 11 (dk_at dksX12_window_0 18 rfl rfl)
theorem dX12_window_21 : decode cX12_window 21 = .ok (.invokeinterface 21 1, 5) := by decide +kernel
theorem dX12_window_26 : decode cX12_window 26 = .ok (.iconst 1, 1) := dk_4 (dk_at dksX12_window_1 5 rfl rfl)
theorem dX12_window_27 : decode cX12_window 27 = .ok (.iadd, 1) := dk_96 (dk_at dksX12_window_1 6 rfl rfl)
theorem dX12_window_28 : decode cX12_window 28 = .ok (.invokespecial 24, 3) := dk_183 0 24 (dk_at dksX12_window_1 7 rfl rfl)
theorem dX12_window_31 : decode cX12_window 31 = .ok (.areturn, 1) := dk_176 (dk_at dksX12_window_1 10 rfl rfl)
abbrev cX12_kind : ByteArray := prog_7_method_2_code
def yX12_kind : MethodName := ⟨RX12, "kind", "()I"⟩
theorem dX12_kind_0 : decode cX12_kind 0 = .ok (.iconst 2, 1) := by decide +kernel
theorem dX12_kind_1 : decode cX12_kind 1 = .ok (.ireturn, 1) := by decide +kernel
abbrev cX12_mark : ByteArray := prog_7_method_5_code
def yX12_mark : MethodName := ⟨RX12, "mark", "(LDatedContacts$Trail;LDatedContacts$Held;)I"⟩
def dkwX12_mark_0 : List UInt8 := [43, 16, 24, 182, 0, 27, 5, 42, 43, 44, 183, 0, 36, 104, 172]
abbrev dktX12_mark_0 : List UInt8 := dkwX12_mark_0 ++ []
theorem dksX12_mark_0 : cX12_mark.data.toList.drop 0 = dktX12_mark_0 := by decide +kernel
theorem dX12_mark_0 : decode cX12_mark 0 = .ok (.aload_n 1, 1) := dk_43 (dk_at dksX12_mark_0 0 rfl rfl)
theorem dX12_mark_1 : decode cX12_mark 1 = .ok (.bipush 24, 2) := dk_16 24 (dk_at dksX12_mark_0 1 rfl rfl)
theorem dX12_mark_3 : decode cX12_mark 3 = .ok (.invokevirtual 27, 3) := dk_182 0 27 (dk_at dksX12_mark_0 3 rfl rfl)
theorem dX12_mark_6 : decode cX12_mark 6 = .ok (.iconst 2, 1) := dk_5 (dk_at dksX12_mark_0 6 rfl rfl)
theorem dX12_mark_7 : decode cX12_mark 7 = .ok (.aload_n 0, 1) := dk_42 (dk_at dksX12_mark_0 7 rfl rfl)
theorem dX12_mark_8 : decode cX12_mark 8 = .ok (.aload_n 1, 1) := dk_43 (dk_at dksX12_mark_0 8 rfl rfl)
theorem dX12_mark_9 : decode cX12_mark 9 = .ok (.aload_n 2, 1) := dk_44 (dk_at dksX12_mark_0 9 rfl rfl)
theorem dX12_mark_10 : decode cX12_mark 10 = .ok (.invokespecial 36, 3) := dk_183 0 36 (dk_at dksX12_mark_0 10 rfl rfl)
theorem dX12_mark_13 : decode cX12_mark 13 = .ok (.imul, 1) := dk_104 (dk_at dksX12_mark_0 13 rfl rfl)
theorem dX12_mark_14 : decode cX12_mark 14 = .ok (.ireturn, 1) := dk_172 (dk_at dksX12_mark_0 14 rfl rfl)
abbrev cX12_size : ByteArray := prog_7_method_4_code
def yX12_size : MethodName := ⟨RX12, "size", "(LDatedContacts$Trail;LDatedContacts$Held;)I"⟩
def dkwX12_size_0 : List UInt8 := [43, 16, 12, 182, 0, 27, 42, 43, 44, 183, 0, 32, 116, 172]
abbrev dktX12_size_0 : List UInt8 := dkwX12_size_0 ++ []
theorem dksX12_size_0 : cX12_size.data.toList.drop 0 = dktX12_size_0 := by decide +kernel
theorem dX12_size_0 : decode cX12_size 0 = .ok (.aload_n 1, 1) := dk_43 (dk_at dksX12_size_0 0 rfl rfl)
theorem dX12_size_1 : decode cX12_size 1 = .ok (.bipush 12, 2) := dk_16 12 (dk_at dksX12_size_0 1 rfl rfl)
theorem dX12_size_3 : decode cX12_size 3 = .ok (.invokevirtual 27, 3) := dk_182 0 27 (dk_at dksX12_size_0 3 rfl rfl)
theorem dX12_size_6 : decode cX12_size 6 = .ok (.aload_n 0, 1) := dk_42 (dk_at dksX12_size_0 6 rfl rfl)
theorem dX12_size_7 : decode cX12_size 7 = .ok (.aload_n 1, 1) := dk_43 (dk_at dksX12_size_0 7 rfl rfl)
theorem dX12_size_8 : decode cX12_size 8 = .ok (.aload_n 2, 1) := dk_44 (dk_at dksX12_size_0 8 rfl rfl)
theorem dX12_size_9 : decode cX12_size 9 = .ok (.invokespecial 32, 3) := dk_183 0 32 (dk_at dksX12_size_0 9 rfl rfl)
theorem dX12_size_12 : decode cX12_size 12 = .ok (.ineg, 1) := dk_116 (dk_at dksX12_size_0 12 rfl rfl)
theorem dX12_size_13 : decode cX12_size 13 = .ok (.ireturn, 1) := dk_172 (dk_at dksX12_size_0 13 rfl rfl)
theorem q107 : (Jvm.Cond.initialized "DatedContacts$Late") ∈ lw_all := lw_g (lw_at lw_m1 31 rfl) rfl
theorem q942 : (Jvm.Cond.instantiable "DatedContacts$Late" (1 : Nat)) ∈ lw_all := lw_g (lw_at lw_m4 146 rfl) rfl
theorem q944 : (Jvm.Cond.instanceMethod ({ cls := "DatedContacts$Late", name := "<init>", desc := "(I)V" } : Jvm.MethodName)) ∈ lw_all := lw_g (lw_at lw_m4 148 rfl) rfl
theorem q945 : (Jvm.Cond.code ({ cls := "DatedContacts$Late", name := "<init>", desc := "(I)V" } : Jvm.MethodName) prog_7_method_1_code (2 : Nat) (Option.none : Option Jvm.ClassFile.FieldType)) ∈ lw_all := lw_g (lw_at lw_m4 149 rfl) rfl
theorem q946 : (Jvm.Cond.methodLink "DatedContacts$Late" (3 : Nat) ({ cls := "DatedContacts$Open", name := "<init>", desc := "(I)V" } : Jvm.MethodName)) ∈ lw_all := lw_g (lw_at lw_m4 150 rfl) rfl
theorem q947 : (Jvm.Cond.laysFinal "DatedContacts$Late" "DatedContacts$Person" "number" "I") ∈ lw_all := lw_g (lw_at lw_m4 151 rfl) rfl
theorem q948 : (Jvm.Cond.superclass "DatedContacts$Late" "DatedContacts$Open") ∈ lw_all := lw_g (lw_at lw_m4 152 rfl) rfl
theorem q1030 : (Jvm.Cond.selects "DatedContacts$Late" ({ cls := "DatedContacts$Person", name := "window", desc := "(LDatedContacts$Window;)LDatedContacts$Window;" } : Jvm.MethodName) ({ cls := "DatedContacts$Late", name := "window", desc := "(LDatedContacts$Window;)LDatedContacts$Window;" } : Jvm.MethodName)) ∈ lw_all := lw_g (lw_at lw_m4 234 rfl) rfl
theorem q1031 : (Jvm.Cond.instanceMethod ({ cls := "DatedContacts$Late", name := "window", desc := "(LDatedContacts$Window;)LDatedContacts$Window;" } : Jvm.MethodName)) ∈ lw_all := lw_g (lw_at lw_m4 235 rfl) rfl
theorem q1032 : (Jvm.Cond.code ({ cls := "DatedContacts$Late", name := "window", desc := "(LDatedContacts$Window;)LDatedContacts$Window;" } : Jvm.MethodName) prog_7_method_3_code (2 : Nat) (Option.some (Jvm.ClassFile.FieldType.object "DatedContacts$Window"))) ∈ lw_all := lw_g (lw_at lw_m4 236 rfl) rfl
theorem q1033 : (Jvm.Cond.classLink "DatedContacts$Late" (9 : Nat) "DatedContacts$Told") ∈ lw_all := lw_g (lw_at lw_m4 237 rfl) rfl
theorem q1034 : (Jvm.Cond.methodLink "DatedContacts$Late" (11 : Nat) ({ cls := "DatedContacts$Open", name := "window", desc := "(LDatedContacts$Window;)LDatedContacts$Window;" } : Jvm.MethodName)) ∈ lw_all := lw_g (lw_at lw_m4 238 rfl) rfl
theorem q1035 : (Jvm.Cond.interfaceEntry "DatedContacts$Late" (15 : Nat)) ∈ lw_tbl := lw_at lw_m4 239 rfl
theorem q1036 : (Jvm.Cond.methodLink "DatedContacts$Late" (15 : Nat) ({ cls := "DatedContacts$Window", name := "least", desc := "()I" } : Jvm.MethodName)) ∈ lw_all := lw_g (lw_at lw_m5 0 rfl) rfl
theorem q1037 : (Jvm.Cond.interfaceEntry "DatedContacts$Late" (21 : Nat)) ∈ lw_tbl := lw_at lw_m5 1 rfl
theorem q1038 : (Jvm.Cond.methodLink "DatedContacts$Late" (21 : Nat) ({ cls := "DatedContacts$Window", name := "most", desc := "()I" } : Jvm.MethodName)) ∈ lw_all := lw_g (lw_at lw_m5 2 rfl) rfl
theorem q1039 : (Jvm.Cond.methodLink "DatedContacts$Late" (24 : Nat) ({ cls := "DatedContacts$Told", name := "<init>", desc := "(II)V" } : Jvm.MethodName)) ∈ lw_all := lw_g (lw_at lw_m5 3 rfl) rfl
theorem q1109 : (Jvm.Cond.selects "DatedContacts$Late" ({ cls := "DatedContacts$Person", name := "kind", desc := "()I" } : Jvm.MethodName) ({ cls := "DatedContacts$Late", name := "kind", desc := "()I" } : Jvm.MethodName)) ∈ lw_all := lw_g (lw_at lw_m5 73 rfl) rfl
theorem q1110 : (Jvm.Cond.instanceMethod ({ cls := "DatedContacts$Late", name := "kind", desc := "()I" } : Jvm.MethodName)) ∈ lw_all := lw_g (lw_at lw_m5 74 rfl) rfl
theorem q1111 : (Jvm.Cond.code ({ cls := "DatedContacts$Late", name := "kind", desc := "()I" } : Jvm.MethodName) prog_7_method_2_code (1 : Nat) (Option.some Jvm.ClassFile.FieldType.int)) ∈ lw_all := lw_g (lw_at lw_m5 75 rfl) rfl
theorem q1179 : (Jvm.Cond.selects "DatedContacts$Late" ({ cls := "DatedContacts$Person", name := "catches", desc := "()Z" } : Jvm.MethodName) ({ cls := "DatedContacts$Person", name := "catches", desc := "()Z" } : Jvm.MethodName)) ∈ lw_all := lw_g (lw_at lw_m5 143 rfl) rfl
theorem q1474 : (Jvm.Cond.selects "DatedContacts$Late" ({ cls := "DatedContacts$Person", name := "number", desc := "()I" } : Jvm.MethodName) ({ cls := "DatedContacts$Person", name := "number", desc := "()I" } : Jvm.MethodName)) ∈ lw_all := lw_g (lw_at lw_m6 198 rfl) rfl
theorem q1528 : (Jvm.Cond.selects "DatedContacts$Late" ({ cls := "DatedContacts$Open", name := "mark", desc := "(LDatedContacts$Trail;LDatedContacts$Held;)I" } : Jvm.MethodName) ({ cls := "DatedContacts$Late", name := "mark", desc := "(LDatedContacts$Trail;LDatedContacts$Held;)I" } : Jvm.MethodName)) ∈ lw_all := lw_g (lw_at lw_m7 12 rfl) rfl
theorem q1529 : (Jvm.Cond.instanceMethod ({ cls := "DatedContacts$Late", name := "mark", desc := "(LDatedContacts$Trail;LDatedContacts$Held;)I" } : Jvm.MethodName)) ∈ lw_all := lw_g (lw_at lw_m7 13 rfl) rfl
theorem q1530 : (Jvm.Cond.code ({ cls := "DatedContacts$Late", name := "mark", desc := "(LDatedContacts$Trail;LDatedContacts$Held;)I" } : Jvm.MethodName) prog_7_method_5_code (3 : Nat) (Option.some Jvm.ClassFile.FieldType.int)) ∈ lw_all := lw_g (lw_at lw_m7 14 rfl) rfl
theorem q1531 : (Jvm.Cond.methodLink "DatedContacts$Late" (27 : Nat) ({ cls := "DatedContacts$Trail", name := "begins", desc := "(I)V" } : Jvm.MethodName)) ∈ lw_all := lw_g (lw_at lw_m7 15 rfl) rfl
theorem q1532 : (Jvm.Cond.methodLink "DatedContacts$Late" (36 : Nat) ({ cls := "DatedContacts$Open", name := "mark", desc := "(LDatedContacts$Trail;LDatedContacts$Held;)I" } : Jvm.MethodName)) ∈ lw_all := lw_g (lw_at lw_m7 16 rfl) rfl
theorem q1545 : (Jvm.Cond.castable "DatedContacts$Late" "DatedContacts$Marked") ∈ lw_tbl := lw_at lw_m7 29 rfl
theorem q1546 : (Jvm.Cond.selects "DatedContacts$Late" ({ cls := "DatedContacts$Marked", name := "number", desc := "()I" } : Jvm.MethodName) ({ cls := "DatedContacts$Person", name := "number", desc := "()I" } : Jvm.MethodName)) ∈ lw_all := lw_g (lw_at lw_m7 30 rfl) rfl
theorem q1547 : (Jvm.Cond.unhidden "DatedContacts$Late" "number" "()I") ∈ lw_tbl := lw_at lw_m7 31 rfl
theorem q1566 : (Jvm.Cond.selects "DatedContacts$Late" ({ cls := "DatedContacts$Marked", name := "size", desc := "(LDatedContacts$Trail;LDatedContacts$Held;)I" } : Jvm.MethodName) ({ cls := "DatedContacts$Late", name := "size", desc := "(LDatedContacts$Trail;LDatedContacts$Held;)I" } : Jvm.MethodName)) ∈ lw_all := lw_g (lw_at lw_m7 50 rfl) rfl
theorem q1567 : (Jvm.Cond.instanceMethod ({ cls := "DatedContacts$Late", name := "size", desc := "(LDatedContacts$Trail;LDatedContacts$Held;)I" } : Jvm.MethodName)) ∈ lw_all := lw_g (lw_at lw_m7 51 rfl) rfl
theorem q1568 : (Jvm.Cond.code ({ cls := "DatedContacts$Late", name := "size", desc := "(LDatedContacts$Trail;LDatedContacts$Held;)I" } : Jvm.MethodName) prog_7_method_4_code (3 : Nat) (Option.some Jvm.ClassFile.FieldType.int)) ∈ lw_all := lw_g (lw_at lw_m7 52 rfl) rfl
theorem q1569 : (Jvm.Cond.methodLink "DatedContacts$Late" (32 : Nat) ({ cls := "DatedContacts$Open", name := "size", desc := "(LDatedContacts$Trail;LDatedContacts$Held;)I" } : Jvm.MethodName)) ∈ lw_all := lw_g (lw_at lw_m7 53 rfl) rfl
theorem q1581 : (Jvm.Cond.selects "DatedContacts$Late" ({ cls := "DatedContacts$Marked", name := "mark", desc := "(LDatedContacts$Trail;LDatedContacts$Held;)I" } : Jvm.MethodName) ({ cls := "DatedContacts$Late", name := "mark", desc := "(LDatedContacts$Trail;LDatedContacts$Held;)I" } : Jvm.MethodName)) ∈ lw_all := lw_g (lw_at lw_m7 65 rfl) rfl
theorem q2071 : (Jvm.Cond.castable "DatedContacts$Late" "DatedContacts$Person") ∈ lw_tbl := lw_at lw_m9 75 rfl
theorem q2076 : (Jvm.Cond.castable "DatedContacts$Late" "DatedContacts$Open") ∈ lw_tbl := lw_at lw_m9 80 rfl
theorem in_X12 : ∀ w ∈ wsX120, w ∈ lw_all := lw_in wsX120 [947] (by decide +kernel) (by decide +kernel)
/-! DatedContacts$Brief -/
set_option maxRecDepth 100000
def RX13 : String := "DatedContacts$Brief"
def TX13 : u_T := fun k => match k with
  | _ => ("DatedContacts$Person", "number", "I", true)
def tyX13 : Nat → FieldType := fun k => match k with
  | _ => .int
abbrev wsX130 : List Cond := u_ws RX13 TX13 1
theorem nmX13 : ∀ a, a < 1 → ∀ b, b < 1 → a ≠ b → (TX13 a).2.1 ≠ (TX13 b).2.1 := by decide +kernel
theorem tyX13_ok : ∀ k, k < 1 → parseFieldDescriptor (TX13 k).2.2.1 = some (tyX13 k) := by decide +kernel
abbrev cX13_init : ByteArray := prog_2_method_1_code
def yX13_init : MethodName := ⟨RX13, "<init>", "(I)V"⟩
def dkwX13_init_0 : List UInt8 := [42, 27, 183, 0, 3, 177]
abbrev dktX13_init_0 : List UInt8 := dkwX13_init_0 ++ []
theorem dksX13_init_0 : cX13_init.data.toList.drop 0 = dktX13_init_0 := by decide +kernel
theorem dX13_init_0 : decode cX13_init 0 = .ok (.aload_n 0, 1) := dk_42 (dk_at dksX13_init_0 0 rfl rfl)
theorem dX13_init_1 : decode cX13_init 1 = .ok (.iload_n 1, 1) := dk_27 (dk_at dksX13_init_0 1 rfl rfl)
theorem dX13_init_2 : decode cX13_init 2 = .ok (.invokespecial 3, 3) := dk_183 0 3 (dk_at dksX13_init_0 2 rfl rfl)
theorem dX13_init_5 : decode cX13_init 5 = .ok (.return_, 1) := dk_177 (dk_at dksX13_init_0 5 rfl rfl)
abbrev cX13_window : ByteArray := prog_2_method_3_code
def yX13_window : MethodName := ⟨RX13, "window", "(LDatedContacts$Window;)LDatedContacts$Window;"⟩
def dkwX13_window_1 : List UInt8 := [185, 0, 21, 1, 0, 4, 100, 184, 0, 24, 183, 0, 30, 176]
abbrev dktX13_window_1 : List UInt8 := dkwX13_window_1 ++ []
def dkwX13_window_0 : List UInt8 := [42, 43, 183, 0, 9, 77, 187, 0, 13, 89, 44, 185, 0, 15, 1, 0, 44, 185, 0, 15, 1, 0, 44]
abbrev dktX13_window_0 : List UInt8 := dkwX13_window_0 ++ dktX13_window_1
theorem dksX13_window_0 : cX13_window.data.toList.drop 0 = dktX13_window_0 := by decide +kernel
theorem dksX13_window_1 : cX13_window.data.toList.drop 23 = dktX13_window_1 := dk_seg dksX13_window_0 23 rfl rfl
theorem dX13_window_0 : decode cX13_window 0 = .ok (.aload_n 0, 1) := dk_42 (dk_at dksX13_window_0 0 rfl rfl)
theorem dX13_window_1 : decode cX13_window 1 = .ok (.aload_n 1, 1) := dk_43 (dk_at dksX13_window_0 1 rfl rfl)
theorem dX13_window_2 : decode cX13_window 2 = .ok (.invokespecial 9, 3) := dk_183 0 9 (dk_at dksX13_window_0 2 rfl rfl)
theorem dX13_window_5 : decode cX13_window 5 = .ok (.astore_n 2, 1) := dk_77 (dk_at dksX13_window_0 5 rfl rfl)
theorem dX13_window_6 : decode cX13_window 6 = .ok (.new 13, 3) := dk_187 0 13 (dk_at dksX13_window_0 6 rfl rfl)
theorem dX13_window_9 : decode cX13_window 9 = .ok (.dup, 1) := dk_89 (dk_at dksX13_window_0 9 rfl rfl)
theorem dX13_window_10 : decode cX13_window 10 = .ok (.aload_n 2, 1) := dk_44 (dk_at dksX13_window_0 10 rfl rfl)
theorem dX13_window_11 : decode cX13_window 11 = .ok (.invokeinterface 15 1, 5) := by decide +kernel
theorem dX13_window_16 : decode cX13_window 16 = .ok (.aload_n 2, 1) := dk_44 (dk_at dksX13_window_0 16 rfl rfl)
theorem dX13_window_17 : decode cX13_window 17 = .ok (.invokeinterface 15 1, 5) := by decide +kernel
theorem dX13_window_22 : decode cX13_window 22 = .ok (.aload_n 2, 1) := dk_44 (dk_at dksX13_window_0 22 rfl rfl)
theorem dX13_window_23 : decode cX13_window 23 = .ok (.invokeinterface 21 1, 5) := by decide +kernel
theorem dX13_window_28 : decode cX13_window 28 = .ok (.iconst 1, 1) := dk_4 (dk_at dksX13_window_1 5 rfl rfl)
theorem dX13_window_29 : decode cX13_window 29 = .ok (.isub, 1) := dk_100 (dk_at dksX13_window_1 6 rfl rfl)
theorem dX13_window_30 : decode cX13_window 30 = .ok (.invokestatic 24, 3) := dk_184 0 24 (dk_at dksX13_window_1 7 rfl rfl)
theorem dX13_window_33 : decode cX13_window 33 = .ok (.invokespecial 30, 3) := dk_183 0 30 (dk_at dksX13_window_1 10 rfl rfl)
theorem dX13_window_36 : decode cX13_window 36 = .ok (.areturn, 1) := dk_176 (dk_at dksX13_window_1 13 rfl rfl)
abbrev cX13_kind : ByteArray := prog_2_method_2_code
def yX13_kind : MethodName := ⟨RX13, "kind", "()I"⟩
theorem dX13_kind_0 : decode cX13_kind 0 = .ok (.iconst 3, 1) := by decide +kernel
theorem dX13_kind_1 : decode cX13_kind 1 = .ok (.ireturn, 1) := by decide +kernel
abbrev cX13_mark : ByteArray := prog_2_method_4_code
def yX13_mark : MethodName := ⟨RX13, "mark", "(LDatedContacts$Trail;LDatedContacts$Held;)I"⟩
def dkwX13_mark_0 : List UInt8 := [43, 16, 22, 182, 0, 33, 42, 43, 44, 183, 0, 38, 17, 3, 232, 100, 172]
abbrev dktX13_mark_0 : List UInt8 := dkwX13_mark_0 ++ []
theorem dksX13_mark_0 : cX13_mark.data.toList.drop 0 = dktX13_mark_0 := by decide +kernel
theorem dX13_mark_0 : decode cX13_mark 0 = .ok (.aload_n 1, 1) := dk_43 (dk_at dksX13_mark_0 0 rfl rfl)
theorem dX13_mark_1 : decode cX13_mark 1 = .ok (.bipush 22, 2) := dk_16 22 (dk_at dksX13_mark_0 1 rfl rfl)
theorem dX13_mark_3 : decode cX13_mark 3 = .ok (.invokevirtual 33, 3) := dk_182 0 33 (dk_at dksX13_mark_0 3 rfl rfl)
theorem dX13_mark_6 : decode cX13_mark 6 = .ok (.aload_n 0, 1) := dk_42 (dk_at dksX13_mark_0 6 rfl rfl)
theorem dX13_mark_7 : decode cX13_mark 7 = .ok (.aload_n 1, 1) := dk_43 (dk_at dksX13_mark_0 7 rfl rfl)
theorem dX13_mark_8 : decode cX13_mark 8 = .ok (.aload_n 2, 1) := dk_44 (dk_at dksX13_mark_0 8 rfl rfl)
theorem dX13_mark_9 : decode cX13_mark 9 = .ok (.invokespecial 38, 3) := dk_183 0 38 (dk_at dksX13_mark_0 9 rfl rfl)
theorem dX13_mark_12 : decode cX13_mark 12 = .ok (.sipush 1000, 3) := dk_17 3 232 (dk_at dksX13_mark_0 12 rfl rfl)
theorem dX13_mark_15 : decode cX13_mark 15 = .ok (.isub, 1) := dk_100 (dk_at dksX13_mark_0 15 rfl rfl)
theorem dX13_mark_16 : decode cX13_mark 16 = .ok (.ireturn, 1) := dk_172 (dk_at dksX13_mark_0 16 rfl rfl)
theorem q108 : (Jvm.Cond.initialized "DatedContacts$Brief") ∈ lw_all := lw_g (lw_at lw_m1 32 rfl) rfl
theorem q950 : (Jvm.Cond.instantiable "DatedContacts$Brief" (1 : Nat)) ∈ lw_all := lw_g (lw_at lw_m4 154 rfl) rfl
theorem q952 : (Jvm.Cond.instanceMethod ({ cls := "DatedContacts$Brief", name := "<init>", desc := "(I)V" } : Jvm.MethodName)) ∈ lw_all := lw_g (lw_at lw_m4 156 rfl) rfl
theorem q953 : (Jvm.Cond.code ({ cls := "DatedContacts$Brief", name := "<init>", desc := "(I)V" } : Jvm.MethodName) prog_2_method_1_code (2 : Nat) (Option.none : Option Jvm.ClassFile.FieldType)) ∈ lw_all := lw_g (lw_at lw_m4 157 rfl) rfl
theorem q954 : (Jvm.Cond.methodLink "DatedContacts$Brief" (3 : Nat) ({ cls := "DatedContacts$Open", name := "<init>", desc := "(I)V" } : Jvm.MethodName)) ∈ lw_all := lw_g (lw_at lw_m4 158 rfl) rfl
theorem q955 : (Jvm.Cond.laysFinal "DatedContacts$Brief" "DatedContacts$Person" "number" "I") ∈ lw_all := lw_g (lw_at lw_m4 159 rfl) rfl
theorem q956 : (Jvm.Cond.superclass "DatedContacts$Brief" "DatedContacts$Open") ∈ lw_all := lw_g (lw_at lw_m4 160 rfl) rfl
theorem q1002 : (Jvm.Cond.selects "DatedContacts$Brief" ({ cls := "DatedContacts$Person", name := "window", desc := "(LDatedContacts$Window;)LDatedContacts$Window;" } : Jvm.MethodName) ({ cls := "DatedContacts$Brief", name := "window", desc := "(LDatedContacts$Window;)LDatedContacts$Window;" } : Jvm.MethodName)) ∈ lw_all := lw_g (lw_at lw_m4 206 rfl) rfl
theorem q1003 : (Jvm.Cond.instanceMethod ({ cls := "DatedContacts$Brief", name := "window", desc := "(LDatedContacts$Window;)LDatedContacts$Window;" } : Jvm.MethodName)) ∈ lw_all := lw_g (lw_at lw_m4 207 rfl) rfl
theorem q1004 : (Jvm.Cond.code ({ cls := "DatedContacts$Brief", name := "window", desc := "(LDatedContacts$Window;)LDatedContacts$Window;" } : Jvm.MethodName) prog_2_method_3_code (3 : Nat) (Option.some (Jvm.ClassFile.FieldType.object "DatedContacts$Window"))) ∈ lw_all := lw_g (lw_at lw_m4 208 rfl) rfl
theorem q1005 : (Jvm.Cond.methodLink "DatedContacts$Brief" (9 : Nat) ({ cls := "DatedContacts$Open", name := "window", desc := "(LDatedContacts$Window;)LDatedContacts$Window;" } : Jvm.MethodName)) ∈ lw_all := lw_g (lw_at lw_m4 209 rfl) rfl
theorem q1008 : (Jvm.Cond.classLink "DatedContacts$Brief" (13 : Nat) "DatedContacts$Told") ∈ lw_all := lw_g (lw_at lw_m4 212 rfl) rfl
theorem q1009 : (Jvm.Cond.interfaceEntry "DatedContacts$Brief" (15 : Nat)) ∈ lw_tbl := lw_at lw_m4 213 rfl
theorem q1010 : (Jvm.Cond.methodLink "DatedContacts$Brief" (15 : Nat) ({ cls := "DatedContacts$Window", name := "least", desc := "()I" } : Jvm.MethodName)) ∈ lw_all := lw_g (lw_at lw_m4 214 rfl) rfl
theorem q1019 : (Jvm.Cond.interfaceEntry "DatedContacts$Brief" (21 : Nat)) ∈ lw_tbl := lw_at lw_m4 223 rfl
theorem q1020 : (Jvm.Cond.methodLink "DatedContacts$Brief" (21 : Nat) ({ cls := "DatedContacts$Window", name := "most", desc := "()I" } : Jvm.MethodName)) ∈ lw_all := lw_g (lw_at lw_m4 224 rfl) rfl
theorem q1028 : (Jvm.Cond.methodLink "DatedContacts$Brief" (24 : Nat) ({ cls := "java/lang/Math", name := "max", desc := "(II)I" } : Jvm.MethodName)) ∈ lw_all := lw_g (lw_at lw_m4 232 rfl) rfl
theorem q1029 : (Jvm.Cond.methodLink "DatedContacts$Brief" (30 : Nat) ({ cls := "DatedContacts$Told", name := "<init>", desc := "(II)V" } : Jvm.MethodName)) ∈ lw_all := lw_g (lw_at lw_m4 233 rfl) rfl
theorem q1106 : (Jvm.Cond.selects "DatedContacts$Brief" ({ cls := "DatedContacts$Person", name := "kind", desc := "()I" } : Jvm.MethodName) ({ cls := "DatedContacts$Brief", name := "kind", desc := "()I" } : Jvm.MethodName)) ∈ lw_all := lw_g (lw_at lw_m5 70 rfl) rfl
theorem q1107 : (Jvm.Cond.instanceMethod ({ cls := "DatedContacts$Brief", name := "kind", desc := "()I" } : Jvm.MethodName)) ∈ lw_all := lw_g (lw_at lw_m5 71 rfl) rfl
theorem q1108 : (Jvm.Cond.code ({ cls := "DatedContacts$Brief", name := "kind", desc := "()I" } : Jvm.MethodName) prog_2_method_2_code (1 : Nat) (Option.some Jvm.ClassFile.FieldType.int)) ∈ lw_all := lw_g (lw_at lw_m5 72 rfl) rfl
theorem q1178 : (Jvm.Cond.selects "DatedContacts$Brief" ({ cls := "DatedContacts$Person", name := "catches", desc := "()Z" } : Jvm.MethodName) ({ cls := "DatedContacts$Person", name := "catches", desc := "()Z" } : Jvm.MethodName)) ∈ lw_all := lw_g (lw_at lw_m5 142 rfl) rfl
theorem q1473 : (Jvm.Cond.selects "DatedContacts$Brief" ({ cls := "DatedContacts$Person", name := "number", desc := "()I" } : Jvm.MethodName) ({ cls := "DatedContacts$Person", name := "number", desc := "()I" } : Jvm.MethodName)) ∈ lw_all := lw_g (lw_at lw_m6 197 rfl) rfl
theorem q1499 : (Jvm.Cond.selects "DatedContacts$Brief" ({ cls := "DatedContacts$Marked", name := "size", desc := "(LDatedContacts$Trail;LDatedContacts$Held;)I" } : Jvm.MethodName) ({ cls := "DatedContacts$Open", name := "size", desc := "(LDatedContacts$Trail;LDatedContacts$Held;)I" } : Jvm.MethodName)) ∈ lw_all := lw_g (lw_at lw_m6 223 rfl) rfl
theorem q1523 : (Jvm.Cond.selects "DatedContacts$Brief" ({ cls := "DatedContacts$Open", name := "mark", desc := "(LDatedContacts$Trail;LDatedContacts$Held;)I" } : Jvm.MethodName) ({ cls := "DatedContacts$Brief", name := "mark", desc := "(LDatedContacts$Trail;LDatedContacts$Held;)I" } : Jvm.MethodName)) ∈ lw_all := lw_g (lw_at lw_m7 7 rfl) rfl
theorem q1524 : (Jvm.Cond.instanceMethod ({ cls := "DatedContacts$Brief", name := "mark", desc := "(LDatedContacts$Trail;LDatedContacts$Held;)I" } : Jvm.MethodName)) ∈ lw_all := lw_g (lw_at lw_m7 8 rfl) rfl
theorem q1525 : (Jvm.Cond.code ({ cls := "DatedContacts$Brief", name := "mark", desc := "(LDatedContacts$Trail;LDatedContacts$Held;)I" } : Jvm.MethodName) prog_2_method_4_code (3 : Nat) (Option.some Jvm.ClassFile.FieldType.int)) ∈ lw_all := lw_g (lw_at lw_m7 9 rfl) rfl
theorem q1526 : (Jvm.Cond.methodLink "DatedContacts$Brief" (33 : Nat) ({ cls := "DatedContacts$Trail", name := "begins", desc := "(I)V" } : Jvm.MethodName)) ∈ lw_all := lw_g (lw_at lw_m7 10 rfl) rfl
theorem q1527 : (Jvm.Cond.methodLink "DatedContacts$Brief" (38 : Nat) ({ cls := "DatedContacts$Open", name := "mark", desc := "(LDatedContacts$Trail;LDatedContacts$Held;)I" } : Jvm.MethodName)) ∈ lw_all := lw_g (lw_at lw_m7 11 rfl) rfl
theorem q1541 : (Jvm.Cond.castable "DatedContacts$Brief" "DatedContacts$Marked") ∈ lw_tbl := lw_at lw_m7 25 rfl
theorem q1542 : (Jvm.Cond.selects "DatedContacts$Brief" ({ cls := "DatedContacts$Marked", name := "number", desc := "()I" } : Jvm.MethodName) ({ cls := "DatedContacts$Person", name := "number", desc := "()I" } : Jvm.MethodName)) ∈ lw_all := lw_g (lw_at lw_m7 26 rfl) rfl
theorem q1543 : (Jvm.Cond.unhidden "DatedContacts$Brief" "number" "()I") ∈ lw_tbl := lw_at lw_m7 27 rfl
theorem q1580 : (Jvm.Cond.selects "DatedContacts$Brief" ({ cls := "DatedContacts$Marked", name := "mark", desc := "(LDatedContacts$Trail;LDatedContacts$Held;)I" } : Jvm.MethodName) ({ cls := "DatedContacts$Brief", name := "mark", desc := "(LDatedContacts$Trail;LDatedContacts$Held;)I" } : Jvm.MethodName)) ∈ lw_all := lw_g (lw_at lw_m7 64 rfl) rfl
theorem q2070 : (Jvm.Cond.castable "DatedContacts$Brief" "DatedContacts$Person") ∈ lw_tbl := lw_at lw_m9 74 rfl
theorem q2075 : (Jvm.Cond.castable "DatedContacts$Brief" "DatedContacts$Open") ∈ lw_tbl := lw_at lw_m9 79 rfl
theorem in_X13 : ∀ w ∈ wsX130, w ∈ lw_all := lw_in wsX130 [955] (by decide +kernel) (by decide +kernel)
/-! DatedContacts$Ward -/
set_option maxRecDepth 100000
def RX14 : String := "DatedContacts$Ward"
def TX14 : u_T := fun k => match k with
  | _ => ("DatedContacts$Person", "number", "I", true)
def tyX14 : Nat → FieldType := fun k => match k with
  | _ => .int
abbrev wsX140 : List Cond := u_ws RX14 TX14 1
theorem nmX14 : ∀ a, a < 1 → ∀ b, b < 1 → a ≠ b → (TX14 a).2.1 ≠ (TX14 b).2.1 := by decide +kernel
theorem tyX14_ok : ∀ k, k < 1 → parseFieldDescriptor (TX14 k).2.2.1 = some (tyX14 k) := by decide +kernel
abbrev cX14_init : ByteArray := prog_18_method_1_code
def yX14_init : MethodName := ⟨RX14, "<init>", "(I)V"⟩
def dkwX14_init_0 : List UInt8 := [42, 27, 183, 0, 3, 177]
abbrev dktX14_init_0 : List UInt8 := dkwX14_init_0 ++ []
theorem dksX14_init_0 : cX14_init.data.toList.drop 0 = dktX14_init_0 := by decide +kernel
theorem dX14_init_0 : decode cX14_init 0 = .ok (.aload_n 0, 1) := dk_42 (dk_at dksX14_init_0 0 rfl rfl)
theorem dX14_init_1 : decode cX14_init 1 = .ok (.iload_n 1, 1) := dk_27 (dk_at dksX14_init_0 1 rfl rfl)
theorem dX14_init_2 : decode cX14_init 2 = .ok (.invokespecial 3, 3) := dk_183 0 3 (dk_at dksX14_init_0 2 rfl rfl)
theorem dX14_init_5 : decode cX14_init 5 = .ok (.return_, 1) := dk_177 (dk_at dksX14_init_0 5 rfl rfl)
abbrev cX14_window : ByteArray := prog_18_method_3_code
def yX14_window : MethodName := ⟨RX14, "window", "(LDatedContacts$Window;)LDatedContacts$Window;"⟩
theorem dX14_window_0 : decode cX14_window 0 = .ok (.aconst_null, 1) := by decide +kernel
theorem dX14_window_1 : decode cX14_window 1 = .ok (.areturn, 1) := by decide +kernel
abbrev cX14_kind : ByteArray := prog_18_method_2_code
def yX14_kind : MethodName := ⟨RX14, "kind", "()I"⟩
theorem dX14_kind_0 : decode cX14_kind 0 = .ok (.iconst 4, 1) := by decide +kernel
theorem dX14_kind_1 : decode cX14_kind 1 = .ok (.ireturn, 1) := by decide +kernel
abbrev cX14_size : ByteArray := prog_18_method_4_code
def yX14_size : MethodName := ⟨RX14, "size", "(LDatedContacts$Trail;LDatedContacts$Held;)I"⟩
def dkwX14_size_0 : List UInt8 := [43, 16, 13, 182, 0, 9, 42, 43, 44, 183, 0, 14, 16, 100, 100, 172]
abbrev dktX14_size_0 : List UInt8 := dkwX14_size_0 ++ []
theorem dksX14_size_0 : cX14_size.data.toList.drop 0 = dktX14_size_0 := by decide +kernel
theorem dX14_size_0 : decode cX14_size 0 = .ok (.aload_n 1, 1) := dk_43 (dk_at dksX14_size_0 0 rfl rfl)
theorem dX14_size_1 : decode cX14_size 1 = .ok (.bipush 13, 2) := dk_16 13 (dk_at dksX14_size_0 1 rfl rfl)
theorem dX14_size_3 : decode cX14_size 3 = .ok (.invokevirtual 9, 3) := dk_182 0 9 (dk_at dksX14_size_0 3 rfl rfl)
theorem dX14_size_6 : decode cX14_size 6 = .ok (.aload_n 0, 1) := dk_42 (dk_at dksX14_size_0 6 rfl rfl)
theorem dX14_size_7 : decode cX14_size 7 = .ok (.aload_n 1, 1) := dk_43 (dk_at dksX14_size_0 7 rfl rfl)
theorem dX14_size_8 : decode cX14_size 8 = .ok (.aload_n 2, 1) := dk_44 (dk_at dksX14_size_0 8 rfl rfl)
theorem dX14_size_9 : decode cX14_size 9 = .ok (.invokespecial 14, 3) := dk_183 0 14 (dk_at dksX14_size_0 9 rfl rfl)
theorem dX14_size_12 : decode cX14_size 12 = .ok (.bipush 100, 2) := dk_16 100 (dk_at dksX14_size_0 12 rfl rfl)
theorem dX14_size_14 : decode cX14_size 14 = .ok (.isub, 1) := dk_100 (dk_at dksX14_size_0 14 rfl rfl)
theorem dX14_size_15 : decode cX14_size 15 = .ok (.ireturn, 1) := dk_172 (dk_at dksX14_size_0 15 rfl rfl)
abbrev cX14_mark : ByteArray := prog_18_method_5_code
def yX14_mark : MethodName := ⟨RX14, "mark", "(LDatedContacts$Trail;LDatedContacts$Held;)I"⟩
def dkwX14_mark_0 : List UInt8 := [43, 16, 23, 182, 0, 9, 42, 43, 44, 183, 0, 18, 42, 43, 44, 182, 0, 21, 100, 172]
abbrev dktX14_mark_0 : List UInt8 := dkwX14_mark_0 ++ []
theorem dksX14_mark_0 : cX14_mark.data.toList.drop 0 = dktX14_mark_0 := by decide +kernel
theorem dX14_mark_0 : decode cX14_mark 0 = .ok (.aload_n 1, 1) := dk_43 (dk_at dksX14_mark_0 0 rfl rfl)
theorem dX14_mark_1 : decode cX14_mark 1 = .ok (.bipush 23, 2) := dk_16 23 (dk_at dksX14_mark_0 1 rfl rfl)
theorem dX14_mark_3 : decode cX14_mark 3 = .ok (.invokevirtual 9, 3) := dk_182 0 9 (dk_at dksX14_mark_0 3 rfl rfl)
theorem dX14_mark_6 : decode cX14_mark 6 = .ok (.aload_n 0, 1) := dk_42 (dk_at dksX14_mark_0 6 rfl rfl)
theorem dX14_mark_7 : decode cX14_mark 7 = .ok (.aload_n 1, 1) := dk_43 (dk_at dksX14_mark_0 7 rfl rfl)
theorem dX14_mark_8 : decode cX14_mark 8 = .ok (.aload_n 2, 1) := dk_44 (dk_at dksX14_mark_0 8 rfl rfl)
theorem dX14_mark_9 : decode cX14_mark 9 = .ok (.invokespecial 18, 3) := dk_183 0 18 (dk_at dksX14_mark_0 9 rfl rfl)
theorem dX14_mark_12 : decode cX14_mark 12 = .ok (.aload_n 0, 1) := dk_42 (dk_at dksX14_mark_0 12 rfl rfl)
theorem dX14_mark_13 : decode cX14_mark 13 = .ok (.aload_n 1, 1) := dk_43 (dk_at dksX14_mark_0 13 rfl rfl)
theorem dX14_mark_14 : decode cX14_mark 14 = .ok (.aload_n 2, 1) := dk_44 (dk_at dksX14_mark_0 14 rfl rfl)
theorem dX14_mark_15 : decode cX14_mark 15 = .ok (.invokevirtual 21, 3) := dk_182 0 21 (dk_at dksX14_mark_0 15 rfl rfl)
theorem dX14_mark_18 : decode cX14_mark 18 = .ok (.isub, 1) := dk_100 (dk_at dksX14_mark_0 18 rfl rfl)
theorem dX14_mark_19 : decode cX14_mark 19 = .ok (.ireturn, 1) := dk_172 (dk_at dksX14_mark_0 19 rfl rfl)
theorem q109 : (Jvm.Cond.initialized "DatedContacts$Ward") ∈ lw_all := lw_g (lw_at lw_m1 33 rfl) rfl
theorem q958 : (Jvm.Cond.instantiable "DatedContacts$Ward" (1 : Nat)) ∈ lw_all := lw_g (lw_at lw_m4 162 rfl) rfl
theorem q960 : (Jvm.Cond.instanceMethod ({ cls := "DatedContacts$Ward", name := "<init>", desc := "(I)V" } : Jvm.MethodName)) ∈ lw_all := lw_g (lw_at lw_m4 164 rfl) rfl
theorem q961 : (Jvm.Cond.code ({ cls := "DatedContacts$Ward", name := "<init>", desc := "(I)V" } : Jvm.MethodName) prog_18_method_1_code (2 : Nat) (Option.none : Option Jvm.ClassFile.FieldType)) ∈ lw_all := lw_g (lw_at lw_m4 165 rfl) rfl
theorem q962 : (Jvm.Cond.methodLink "DatedContacts$Ward" (3 : Nat) ({ cls := "DatedContacts$Person", name := "<init>", desc := "(I)V" } : Jvm.MethodName)) ∈ lw_all := lw_g (lw_at lw_m4 166 rfl) rfl
theorem q963 : (Jvm.Cond.laysFinal "DatedContacts$Ward" "DatedContacts$Person" "number" "I") ∈ lw_all := lw_g (lw_at lw_m4 167 rfl) rfl
theorem q964 : (Jvm.Cond.superclass "DatedContacts$Ward" "DatedContacts$Person") ∈ lw_all := lw_g (lw_at lw_m4 168 rfl) rfl
theorem q1042 : (Jvm.Cond.instanceMethod ({ cls := "DatedContacts$Ward", name := "window", desc := "(LDatedContacts$Window;)LDatedContacts$Window;" } : Jvm.MethodName)) ∈ lw_all := lw_g (lw_at lw_m5 6 rfl) rfl
theorem q1043 : (Jvm.Cond.code ({ cls := "DatedContacts$Ward", name := "window", desc := "(LDatedContacts$Window;)LDatedContacts$Window;" } : Jvm.MethodName) prog_18_method_3_code (2 : Nat) (Option.some (Jvm.ClassFile.FieldType.object "DatedContacts$Window"))) ∈ lw_all := lw_g (lw_at lw_m5 7 rfl) rfl
theorem q1044 : (Jvm.Cond.selects "DatedContacts$Ward" ({ cls := "DatedContacts$Person", name := "window", desc := "(LDatedContacts$Window;)LDatedContacts$Window;" } : Jvm.MethodName) ({ cls := "DatedContacts$Ward", name := "window", desc := "(LDatedContacts$Window;)LDatedContacts$Window;" } : Jvm.MethodName)) ∈ lw_all := lw_g (lw_at lw_m5 8 rfl) rfl
theorem q1118 : (Jvm.Cond.selects "DatedContacts$Ward" ({ cls := "DatedContacts$Person", name := "kind", desc := "()I" } : Jvm.MethodName) ({ cls := "DatedContacts$Ward", name := "kind", desc := "()I" } : Jvm.MethodName)) ∈ lw_all := lw_g (lw_at lw_m5 82 rfl) rfl
theorem q1119 : (Jvm.Cond.instanceMethod ({ cls := "DatedContacts$Ward", name := "kind", desc := "()I" } : Jvm.MethodName)) ∈ lw_all := lw_g (lw_at lw_m5 83 rfl) rfl
theorem q1120 : (Jvm.Cond.code ({ cls := "DatedContacts$Ward", name := "kind", desc := "()I" } : Jvm.MethodName) prog_18_method_2_code (1 : Nat) (Option.some Jvm.ClassFile.FieldType.int)) ∈ lw_all := lw_g (lw_at lw_m5 84 rfl) rfl
theorem q1185 : (Jvm.Cond.sameMethod "DatedContacts$Ward" "DatedContacts$Person" "catches" "()Z") ∈ lw_all := lw_g (lw_at lw_m5 149 rfl) rfl
theorem q1187 : (Jvm.Cond.selects "DatedContacts$Ward" ({ cls := "DatedContacts$Person", name := "catches", desc := "()Z" } : Jvm.MethodName) ({ cls := "DatedContacts$Person", name := "catches", desc := "()Z" } : Jvm.MethodName)) ∈ lw_all := lw_g (lw_at lw_m5 151 rfl) rfl
theorem q1477 : (Jvm.Cond.selects "DatedContacts$Ward" ({ cls := "DatedContacts$Person", name := "number", desc := "()I" } : Jvm.MethodName) ({ cls := "DatedContacts$Person", name := "number", desc := "()I" } : Jvm.MethodName)) ∈ lw_all := lw_g (lw_at lw_m6 201 rfl) rfl
theorem q1554 : (Jvm.Cond.castable "DatedContacts$Ward" "DatedContacts$Marked") ∈ lw_tbl := lw_at lw_m7 38 rfl
theorem q1555 : (Jvm.Cond.selects "DatedContacts$Ward" ({ cls := "DatedContacts$Marked", name := "number", desc := "()I" } : Jvm.MethodName) ({ cls := "DatedContacts$Person", name := "number", desc := "()I" } : Jvm.MethodName)) ∈ lw_all := lw_g (lw_at lw_m7 39 rfl) rfl
theorem q1556 : (Jvm.Cond.unhidden "DatedContacts$Ward" "number" "()I") ∈ lw_tbl := lw_at lw_m7 40 rfl
theorem q1576 : (Jvm.Cond.instanceMethod ({ cls := "DatedContacts$Ward", name := "size", desc := "(LDatedContacts$Trail;LDatedContacts$Held;)I" } : Jvm.MethodName)) ∈ lw_all := lw_g (lw_at lw_m7 60 rfl) rfl
theorem q1577 : (Jvm.Cond.code ({ cls := "DatedContacts$Ward", name := "size", desc := "(LDatedContacts$Trail;LDatedContacts$Held;)I" } : Jvm.MethodName) prog_18_method_4_code (3 : Nat) (Option.some Jvm.ClassFile.FieldType.int)) ∈ lw_all := lw_g (lw_at lw_m7 61 rfl) rfl
theorem q1578 : (Jvm.Cond.methodLink "DatedContacts$Ward" (9 : Nat) ({ cls := "DatedContacts$Trail", name := "begins", desc := "(I)V" } : Jvm.MethodName)) ∈ lw_all := lw_g (lw_at lw_m7 62 rfl) rfl
theorem q1579 : (Jvm.Cond.selects "DatedContacts$Ward" ({ cls := "DatedContacts$Marked", name := "size", desc := "(LDatedContacts$Trail;LDatedContacts$Held;)I" } : Jvm.MethodName) ({ cls := "DatedContacts$Ward", name := "size", desc := "(LDatedContacts$Trail;LDatedContacts$Held;)I" } : Jvm.MethodName)) ∈ lw_all := lw_g (lw_at lw_m7 63 rfl) rfl
theorem q1584 : (Jvm.Cond.instanceMethod ({ cls := "DatedContacts$Ward", name := "mark", desc := "(LDatedContacts$Trail;LDatedContacts$Held;)I" } : Jvm.MethodName)) ∈ lw_all := lw_g (lw_at lw_m7 68 rfl) rfl
theorem q1585 : (Jvm.Cond.code ({ cls := "DatedContacts$Ward", name := "mark", desc := "(LDatedContacts$Trail;LDatedContacts$Held;)I" } : Jvm.MethodName) prog_18_method_5_code (3 : Nat) (Option.some Jvm.ClassFile.FieldType.int)) ∈ lw_all := lw_g (lw_at lw_m7 69 rfl) rfl
theorem q1586 : (Jvm.Cond.methodLink "DatedContacts$Ward" (21 : Nat) ({ cls := "DatedContacts$Ward", name := "size", desc := "(LDatedContacts$Trail;LDatedContacts$Held;)I" } : Jvm.MethodName)) ∈ lw_all := lw_g (lw_at lw_m7 70 rfl) rfl
theorem q1587 : (Jvm.Cond.selects "DatedContacts$Ward" ({ cls := "DatedContacts$Marked", name := "mark", desc := "(LDatedContacts$Trail;LDatedContacts$Held;)I" } : Jvm.MethodName) ({ cls := "DatedContacts$Ward", name := "mark", desc := "(LDatedContacts$Trail;LDatedContacts$Held;)I" } : Jvm.MethodName)) ∈ lw_all := lw_g (lw_at lw_m7 71 rfl) rfl
theorem q2066 : (Jvm.Cond.sameMethod "DatedContacts$Ward" "DatedContacts$Ward" "size" "(LDatedContacts$Trail;LDatedContacts$Held;)I") ∈ lw_all := lw_g (lw_at lw_m9 70 rfl) rfl
theorem q2068 : (Jvm.Cond.selects "DatedContacts$Ward" ({ cls := "DatedContacts$Ward", name := "size", desc := "(LDatedContacts$Trail;LDatedContacts$Held;)I" } : Jvm.MethodName) ({ cls := "DatedContacts$Ward", name := "size", desc := "(LDatedContacts$Trail;LDatedContacts$Held;)I" } : Jvm.MethodName)) ∈ lw_all := lw_g (lw_at lw_m9 72 rfl) rfl
theorem q2074 : (Jvm.Cond.castable "DatedContacts$Ward" "DatedContacts$Person") ∈ lw_tbl := lw_at lw_m9 78 rfl
theorem in_X14 : ∀ w ∈ wsX140, w ∈ lw_all := lw_in wsX140 [963] (by decide +kernel) (by decide +kernel)
/-! DatedContacts$Safe -/
set_option maxRecDepth 100000
def RX15 : String := "DatedContacts$Safe"
def TX15 : u_T := fun k => match k with
  | _ => ("DatedContacts$Person", "number", "I", true)
def tyX15 : Nat → FieldType := fun k => match k with
  | _ => .int
abbrev wsX150 : List Cond := u_ws RX15 TX15 1
theorem nmX15 : ∀ a, a < 1 → ∀ b, b < 1 → a ≠ b → (TX15 a).2.1 ≠ (TX15 b).2.1 := by decide +kernel
theorem tyX15_ok : ∀ k, k < 1 → parseFieldDescriptor (TX15 k).2.2.1 = some (tyX15 k) := by decide +kernel
abbrev cX15_init : ByteArray := prog_13_method_1_code
def yX15_init : MethodName := ⟨RX15, "<init>", "(I)V"⟩
def dkwX15_init_0 : List UInt8 := [42, 27, 183, 0, 3, 177]
abbrev dktX15_init_0 : List UInt8 := dkwX15_init_0 ++ []
theorem dksX15_init_0 : cX15_init.data.toList.drop 0 = dktX15_init_0 := by decide +kernel
theorem dX15_init_0 : decode cX15_init 0 = .ok (.aload_n 0, 1) := dk_42 (dk_at dksX15_init_0 0 rfl rfl)
theorem dX15_init_1 : decode cX15_init 1 = .ok (.iload_n 1, 1) := dk_27 (dk_at dksX15_init_0 1 rfl rfl)
theorem dX15_init_2 : decode cX15_init 2 = .ok (.invokespecial 3, 3) := dk_183 0 3 (dk_at dksX15_init_0 2 rfl rfl)
theorem dX15_init_5 : decode cX15_init 5 = .ok (.return_, 1) := dk_177 (dk_at dksX15_init_0 5 rfl rfl)
abbrev cX15_kind : ByteArray := prog_13_method_2_code
def yX15_kind : MethodName := ⟨RX15, "kind", "()I"⟩
theorem dX15_kind_0 : decode cX15_kind 0 = .ok (.iconst 5, 1) := by decide +kernel
theorem dX15_kind_1 : decode cX15_kind 1 = .ok (.ireturn, 1) := by decide +kernel
abbrev cX15_catches : ByteArray := prog_13_method_3_code
def yX15_catches : MethodName := ⟨RX15, "catches", "()Z"⟩
def dkwX15_catches_0 : List UInt8 := [42, 183, 0, 9, 154, 0, 7, 4, 167, 0, 4, 3, 172]
abbrev dktX15_catches_0 : List UInt8 := dkwX15_catches_0 ++ []
theorem dksX15_catches_0 : cX15_catches.data.toList.drop 0 = dktX15_catches_0 := by decide +kernel
theorem dX15_catches_0 : decode cX15_catches 0 = .ok (.aload_n 0, 1) := dk_42 (dk_at dksX15_catches_0 0 rfl rfl)
theorem dX15_catches_1 : decode cX15_catches 1 = .ok (.invokespecial 9, 3) := dk_183 0 9 (dk_at dksX15_catches_0 1 rfl rfl)
theorem dX15_catches_4 : decode cX15_catches 4 = .ok (.ifCond .ne 7, 3) := dk_154 0 7 (dk_at dksX15_catches_0 4 rfl rfl)
theorem dX15_catches_7 : decode cX15_catches 7 = .ok (.iconst 1, 1) := dk_4 (dk_at dksX15_catches_0 7 rfl rfl)
theorem dX15_catches_8 : decode cX15_catches 8 = .ok (.goto 4, 3) := dk_167 0 4 (dk_at dksX15_catches_0 8 rfl rfl)
theorem dX15_catches_11 : decode cX15_catches 11 = .ok (.iconst 0, 1) := dk_3 (dk_at dksX15_catches_0 11 rfl rfl)
theorem dX15_catches_12 : decode cX15_catches 12 = .ok (.ireturn, 1) := dk_172 (dk_at dksX15_catches_0 12 rfl rfl)
abbrev cX15_size : ByteArray := prog_13_method_4_code
def yX15_size : MethodName := ⟨RX15, "size", "(LDatedContacts$Trail;LDatedContacts$Held;)I"⟩
def dkwX15_size_0 : List UInt8 := [43, 16, 14, 182, 0, 13, 5, 42, 43, 44, 183, 0, 18, 104, 172]
abbrev dktX15_size_0 : List UInt8 := dkwX15_size_0 ++ []
theorem dksX15_size_0 : cX15_size.data.toList.drop 0 = dktX15_size_0 := by decide +kernel
theorem dX15_size_0 : decode cX15_size 0 = .ok (.aload_n 1, 1) := dk_43 (dk_at dksX15_size_0 0 rfl rfl)
theorem dX15_size_1 : decode cX15_size 1 = .ok (.bipush 14, 2) := dk_16 14 (dk_at dksX15_size_0 1 rfl rfl)
theorem dX15_size_3 : decode cX15_size 3 = .ok (.invokevirtual 13, 3) := dk_182 0 13 (dk_at dksX15_size_0 3 rfl rfl)
theorem dX15_size_6 : decode cX15_size 6 = .ok (.iconst 2, 1) := dk_5 (dk_at dksX15_size_0 6 rfl rfl)
theorem dX15_size_7 : decode cX15_size 7 = .ok (.aload_n 0, 1) := dk_42 (dk_at dksX15_size_0 7 rfl rfl)
theorem dX15_size_8 : decode cX15_size 8 = .ok (.aload_n 1, 1) := dk_43 (dk_at dksX15_size_0 8 rfl rfl)
theorem dX15_size_9 : decode cX15_size 9 = .ok (.aload_n 2, 1) := dk_44 (dk_at dksX15_size_0 9 rfl rfl)
theorem dX15_size_10 : decode cX15_size 10 = .ok (.invokespecial 18, 3) := dk_183 0 18 (dk_at dksX15_size_0 10 rfl rfl)
theorem dX15_size_13 : decode cX15_size 13 = .ok (.imul, 1) := dk_104 (dk_at dksX15_size_0 13 rfl rfl)
theorem dX15_size_14 : decode cX15_size 14 = .ok (.ireturn, 1) := dk_172 (dk_at dksX15_size_0 14 rfl rfl)
theorem q110 : (Jvm.Cond.initialized "DatedContacts$Safe") ∈ lw_all := lw_g (lw_at lw_m1 34 rfl) rfl
theorem q966 : (Jvm.Cond.instantiable "DatedContacts$Safe" (1 : Nat)) ∈ lw_all := lw_g (lw_at lw_m4 170 rfl) rfl
theorem q968 : (Jvm.Cond.instanceMethod ({ cls := "DatedContacts$Safe", name := "<init>", desc := "(I)V" } : Jvm.MethodName)) ∈ lw_all := lw_g (lw_at lw_m4 172 rfl) rfl
theorem q969 : (Jvm.Cond.code ({ cls := "DatedContacts$Safe", name := "<init>", desc := "(I)V" } : Jvm.MethodName) prog_13_method_1_code (2 : Nat) (Option.none : Option Jvm.ClassFile.FieldType)) ∈ lw_all := lw_g (lw_at lw_m4 173 rfl) rfl
theorem q970 : (Jvm.Cond.methodLink "DatedContacts$Safe" (3 : Nat) ({ cls := "DatedContacts$Ward", name := "<init>", desc := "(I)V" } : Jvm.MethodName)) ∈ lw_all := lw_g (lw_at lw_m4 174 rfl) rfl
theorem q971 : (Jvm.Cond.laysFinal "DatedContacts$Safe" "DatedContacts$Person" "number" "I") ∈ lw_all := lw_g (lw_at lw_m4 175 rfl) rfl
theorem q972 : (Jvm.Cond.superclass "DatedContacts$Safe" "DatedContacts$Ward") ∈ lw_all := lw_g (lw_at lw_m4 176 rfl) rfl
theorem q1041 : (Jvm.Cond.selects "DatedContacts$Safe" ({ cls := "DatedContacts$Person", name := "window", desc := "(LDatedContacts$Window;)LDatedContacts$Window;" } : Jvm.MethodName) ({ cls := "DatedContacts$Ward", name := "window", desc := "(LDatedContacts$Window;)LDatedContacts$Window;" } : Jvm.MethodName)) ∈ lw_all := lw_g (lw_at lw_m5 5 rfl) rfl
theorem q1115 : (Jvm.Cond.selects "DatedContacts$Safe" ({ cls := "DatedContacts$Person", name := "kind", desc := "()I" } : Jvm.MethodName) ({ cls := "DatedContacts$Safe", name := "kind", desc := "()I" } : Jvm.MethodName)) ∈ lw_all := lw_g (lw_at lw_m5 79 rfl) rfl
theorem q1116 : (Jvm.Cond.instanceMethod ({ cls := "DatedContacts$Safe", name := "kind", desc := "()I" } : Jvm.MethodName)) ∈ lw_all := lw_g (lw_at lw_m5 80 rfl) rfl
theorem q1117 : (Jvm.Cond.code ({ cls := "DatedContacts$Safe", name := "kind", desc := "()I" } : Jvm.MethodName) prog_13_method_2_code (1 : Nat) (Option.some Jvm.ClassFile.FieldType.int)) ∈ lw_all := lw_g (lw_at lw_m5 81 rfl) rfl
theorem q1181 : (Jvm.Cond.selects "DatedContacts$Safe" ({ cls := "DatedContacts$Person", name := "catches", desc := "()Z" } : Jvm.MethodName) ({ cls := "DatedContacts$Safe", name := "catches", desc := "()Z" } : Jvm.MethodName)) ∈ lw_all := lw_g (lw_at lw_m5 145 rfl) rfl
theorem q1182 : (Jvm.Cond.instanceMethod ({ cls := "DatedContacts$Safe", name := "catches", desc := "()Z" } : Jvm.MethodName)) ∈ lw_all := lw_g (lw_at lw_m5 146 rfl) rfl
theorem q1183 : (Jvm.Cond.code ({ cls := "DatedContacts$Safe", name := "catches", desc := "()Z" } : Jvm.MethodName) prog_13_method_3_code (1 : Nat) (Option.some Jvm.ClassFile.FieldType.boolean)) ∈ lw_all := lw_g (lw_at lw_m5 147 rfl) rfl
theorem q1184 : (Jvm.Cond.methodLink "DatedContacts$Safe" (9 : Nat) ({ cls := "DatedContacts$Ward", name := "catches", desc := "()Z" } : Jvm.MethodName)) ∈ lw_all := lw_g (lw_at lw_m5 148 rfl) rfl
theorem q1476 : (Jvm.Cond.selects "DatedContacts$Safe" ({ cls := "DatedContacts$Person", name := "number", desc := "()I" } : Jvm.MethodName) ({ cls := "DatedContacts$Person", name := "number", desc := "()I" } : Jvm.MethodName)) ∈ lw_all := lw_g (lw_at lw_m6 200 rfl) rfl
theorem q1551 : (Jvm.Cond.castable "DatedContacts$Safe" "DatedContacts$Marked") ∈ lw_tbl := lw_at lw_m7 35 rfl
theorem q1552 : (Jvm.Cond.selects "DatedContacts$Safe" ({ cls := "DatedContacts$Marked", name := "number", desc := "()I" } : Jvm.MethodName) ({ cls := "DatedContacts$Person", name := "number", desc := "()I" } : Jvm.MethodName)) ∈ lw_all := lw_g (lw_at lw_m7 36 rfl) rfl
theorem q1553 : (Jvm.Cond.unhidden "DatedContacts$Safe" "number" "()I") ∈ lw_tbl := lw_at lw_m7 37 rfl
theorem q1571 : (Jvm.Cond.selects "DatedContacts$Safe" ({ cls := "DatedContacts$Marked", name := "size", desc := "(LDatedContacts$Trail;LDatedContacts$Held;)I" } : Jvm.MethodName) ({ cls := "DatedContacts$Safe", name := "size", desc := "(LDatedContacts$Trail;LDatedContacts$Held;)I" } : Jvm.MethodName)) ∈ lw_all := lw_g (lw_at lw_m7 55 rfl) rfl
theorem q1572 : (Jvm.Cond.instanceMethod ({ cls := "DatedContacts$Safe", name := "size", desc := "(LDatedContacts$Trail;LDatedContacts$Held;)I" } : Jvm.MethodName)) ∈ lw_all := lw_g (lw_at lw_m7 56 rfl) rfl
theorem q1573 : (Jvm.Cond.code ({ cls := "DatedContacts$Safe", name := "size", desc := "(LDatedContacts$Trail;LDatedContacts$Held;)I" } : Jvm.MethodName) prog_13_method_4_code (3 : Nat) (Option.some Jvm.ClassFile.FieldType.int)) ∈ lw_all := lw_g (lw_at lw_m7 57 rfl) rfl
theorem q1574 : (Jvm.Cond.methodLink "DatedContacts$Safe" (13 : Nat) ({ cls := "DatedContacts$Trail", name := "begins", desc := "(I)V" } : Jvm.MethodName)) ∈ lw_all := lw_g (lw_at lw_m7 58 rfl) rfl
theorem q1575 : (Jvm.Cond.methodLink "DatedContacts$Safe" (18 : Nat) ({ cls := "DatedContacts$Ward", name := "size", desc := "(LDatedContacts$Trail;LDatedContacts$Held;)I" } : Jvm.MethodName)) ∈ lw_all := lw_g (lw_at lw_m7 59 rfl) rfl
theorem q1583 : (Jvm.Cond.selects "DatedContacts$Safe" ({ cls := "DatedContacts$Marked", name := "mark", desc := "(LDatedContacts$Trail;LDatedContacts$Held;)I" } : Jvm.MethodName) ({ cls := "DatedContacts$Ward", name := "mark", desc := "(LDatedContacts$Trail;LDatedContacts$Held;)I" } : Jvm.MethodName)) ∈ lw_all := lw_g (lw_at lw_m7 67 rfl) rfl
theorem q2067 : (Jvm.Cond.selects "DatedContacts$Safe" ({ cls := "DatedContacts$Ward", name := "size", desc := "(LDatedContacts$Trail;LDatedContacts$Held;)I" } : Jvm.MethodName) ({ cls := "DatedContacts$Safe", name := "size", desc := "(LDatedContacts$Trail;LDatedContacts$Held;)I" } : Jvm.MethodName)) ∈ lw_all := lw_g (lw_at lw_m9 71 rfl) rfl
theorem q2073 : (Jvm.Cond.castable "DatedContacts$Safe" "DatedContacts$Person") ∈ lw_tbl := lw_at lw_m9 77 rfl
theorem q2077 : (Jvm.Cond.castable "DatedContacts$Safe" "DatedContacts$Ward") ∈ lw_tbl := lw_at lw_m9 81 rfl
theorem in_X15 : ∀ w ∈ wsX150, w ∈ lw_all := lw_in wsX150 [971] (by decide +kernel) (by decide +kernel)
/-! DatedContacts$Told -/
set_option maxRecDepth 100000
def RX16 : String := "DatedContacts$Told"
def TX16 : u_T := fun k => match k with
  | 0 => ("DatedContacts$Told", "least", "I", true)
  | _ => ("DatedContacts$Told", "most", "I", true)
def tyX16 : Nat → FieldType := fun k => match k with
  | 0 => .int
  | _ => .int
abbrev wsX160 : List Cond := u_ws RX16 TX16 2
theorem nmX16 : ∀ a, a < 2 → ∀ b, b < 2 → a ≠ b → (TX16 a).2.1 ≠ (TX16 b).2.1 := by decide +kernel
theorem tyX16_ok : ∀ k, k < 2 → parseFieldDescriptor (TX16 k).2.2.1 = some (tyX16 k) := by decide +kernel
abbrev cX16_init : ByteArray := prog_15_method_1_code
def yX16_init : MethodName := ⟨RX16, "<init>", "(II)V"⟩
def dkwX16_init_0 : List UInt8 := [42, 183, 0, 1, 42, 27, 181, 0, 7, 42, 28, 181, 0, 13, 177]
abbrev dktX16_init_0 : List UInt8 := dkwX16_init_0 ++ []
theorem dksX16_init_0 : cX16_init.data.toList.drop 0 = dktX16_init_0 := by decide +kernel
theorem dX16_init_0 : decode cX16_init 0 = .ok (.aload_n 0, 1) := dk_42 (dk_at dksX16_init_0 0 rfl rfl)
theorem dX16_init_1 : decode cX16_init 1 = .ok (.invokespecial 1, 3) := dk_183 0 1 (dk_at dksX16_init_0 1 rfl rfl)
theorem dX16_init_4 : decode cX16_init 4 = .ok (.aload_n 0, 1) := dk_42 (dk_at dksX16_init_0 4 rfl rfl)
theorem dX16_init_5 : decode cX16_init 5 = .ok (.iload_n 1, 1) := dk_27 (dk_at dksX16_init_0 5 rfl rfl)
theorem dX16_init_6 : decode cX16_init 6 = .ok (.putfield 7, 3) := dk_181 0 7 (dk_at dksX16_init_0 6 rfl rfl)
theorem dX16_init_9 : decode cX16_init 9 = .ok (.aload_n 0, 1) := dk_42 (dk_at dksX16_init_0 9 rfl rfl)
theorem dX16_init_10 : decode cX16_init 10 = .ok (.iload_n 2, 1) := dk_28 (dk_at dksX16_init_0 10 rfl rfl)
theorem dX16_init_11 : decode cX16_init 11 = .ok (.putfield 13, 3) := dk_181 0 13 (dk_at dksX16_init_0 11 rfl rfl)
theorem dX16_init_14 : decode cX16_init 14 = .ok (.return_, 1) := dk_177 (dk_at dksX16_init_0 14 rfl rfl)
abbrev cX16_least : ByteArray := prog_15_method_2_code
def yX16_least : MethodName := ⟨RX16, "least", "()I"⟩
theorem dX16_least_0 : decode cX16_least 0 = .ok (.aload_n 0, 1) := by decide +kernel
theorem dX16_least_1 : decode cX16_least 1 = .ok (.getfield 7, 3) := by decide +kernel
theorem dX16_least_4 : decode cX16_least 4 = .ok (.ireturn, 1) := by decide +kernel
abbrev cX16_most : ByteArray := prog_15_method_3_code
def yX16_most : MethodName := ⟨RX16, "most", "()I"⟩
theorem dX16_most_0 : decode cX16_most 0 = .ok (.aload_n 0, 1) := by decide +kernel
theorem dX16_most_1 : decode cX16_most 1 = .ok (.getfield 13, 3) := by decide +kernel
theorem dX16_most_4 : decode cX16_most 4 = .ok (.ireturn, 1) := by decide +kernel
theorem q111 : (Jvm.Cond.initialized "DatedContacts$Told") ∈ lw_all := lw_g (lw_at lw_m1 35 rfl) rfl
theorem q987 : (Jvm.Cond.instantiable "DatedContacts$Told" (2 : Nat)) ∈ lw_all := lw_g (lw_at lw_m4 191 rfl) rfl
theorem q989 : (Jvm.Cond.instanceMethod ({ cls := "DatedContacts$Told", name := "<init>", desc := "(II)V" } : Jvm.MethodName)) ∈ lw_all := lw_g (lw_at lw_m4 193 rfl) rfl
theorem q990 : (Jvm.Cond.code ({ cls := "DatedContacts$Told", name := "<init>", desc := "(II)V" } : Jvm.MethodName) prog_15_method_1_code (3 : Nat) (Option.none : Option Jvm.ClassFile.FieldType)) ∈ lw_all := lw_g (lw_at lw_m4 194 rfl) rfl
theorem q991 : (Jvm.Cond.methodLink "DatedContacts$Told" (1 : Nat) ({ cls := "java/lang/Object", name := "<init>", desc := "()V" } : Jvm.MethodName)) ∈ lw_all := lw_g (lw_at lw_m4 195 rfl) rfl
theorem q992 : (Jvm.Cond.fieldLink "DatedContacts$Told" (7 : Nat) "DatedContacts$Told" "least" "I") ∈ lw_all := lw_g (lw_at lw_m4 196 rfl) rfl
theorem q993 : (Jvm.Cond.fieldLink "DatedContacts$Told" (13 : Nat) "DatedContacts$Told" "most" "I") ∈ lw_all := lw_g (lw_at lw_m4 197 rfl) rfl
theorem q994 : (Jvm.Cond.laysFinal "DatedContacts$Told" "DatedContacts$Told" "least" "I") ∈ lw_all := lw_g (lw_at lw_m4 198 rfl) rfl
theorem q995 : (Jvm.Cond.soleField "DatedContacts$Told" "least") ∈ lw_all := lw_g (lw_at lw_m4 199 rfl) rfl
theorem q996 : (Jvm.Cond.laysFinal "DatedContacts$Told" "DatedContacts$Told" "most" "I") ∈ lw_all := lw_g (lw_at lw_m4 200 rfl) rfl
theorem q997 : (Jvm.Cond.soleField "DatedContacts$Told" "most") ∈ lw_all := lw_g (lw_at lw_m4 201 rfl) rfl
theorem q998 : (Jvm.Cond.superclass "DatedContacts$Told" "java/lang/Object") ∈ lw_all := lw_g (lw_at lw_m4 202 rfl) rfl
theorem q1013 : (Jvm.Cond.castable "DatedContacts$Told" "DatedContacts$Window") ∈ lw_tbl := lw_at lw_m4 217 rfl
theorem q1014 : (Jvm.Cond.selects "DatedContacts$Told" ({ cls := "DatedContacts$Window", name := "least", desc := "()I" } : Jvm.MethodName) ({ cls := "DatedContacts$Told", name := "least", desc := "()I" } : Jvm.MethodName)) ∈ lw_all := lw_g (lw_at lw_m4 218 rfl) rfl
theorem q1015 : (Jvm.Cond.unhidden "DatedContacts$Told" "least" "()I") ∈ lw_tbl := lw_at lw_m4 219 rfl
theorem q1016 : (Jvm.Cond.instanceMethod ({ cls := "DatedContacts$Told", name := "least", desc := "()I" } : Jvm.MethodName)) ∈ lw_all := lw_g (lw_at lw_m4 220 rfl) rfl
theorem q1017 : (Jvm.Cond.publicMethod ({ cls := "DatedContacts$Told", name := "least", desc := "()I" } : Jvm.MethodName)) ∈ lw_tbl := lw_at lw_m4 221 rfl
theorem q1018 : (Jvm.Cond.code ({ cls := "DatedContacts$Told", name := "least", desc := "()I" } : Jvm.MethodName) prog_15_method_2_code (1 : Nat) (Option.some Jvm.ClassFile.FieldType.int)) ∈ lw_all := lw_g (lw_at lw_m4 222 rfl) rfl
theorem q1023 : (Jvm.Cond.selects "DatedContacts$Told" ({ cls := "DatedContacts$Window", name := "most", desc := "()I" } : Jvm.MethodName) ({ cls := "DatedContacts$Told", name := "most", desc := "()I" } : Jvm.MethodName)) ∈ lw_all := lw_g (lw_at lw_m4 227 rfl) rfl
theorem q1024 : (Jvm.Cond.unhidden "DatedContacts$Told" "most" "()I") ∈ lw_tbl := lw_at lw_m4 228 rfl
theorem q1025 : (Jvm.Cond.instanceMethod ({ cls := "DatedContacts$Told", name := "most", desc := "()I" } : Jvm.MethodName)) ∈ lw_all := lw_g (lw_at lw_m4 229 rfl) rfl
theorem q1026 : (Jvm.Cond.publicMethod ({ cls := "DatedContacts$Told", name := "most", desc := "()I" } : Jvm.MethodName)) ∈ lw_tbl := lw_at lw_m4 230 rfl
theorem q1027 : (Jvm.Cond.code ({ cls := "DatedContacts$Told", name := "most", desc := "()I" } : Jvm.MethodName) prog_15_method_3_code (1 : Nat) (Option.some Jvm.ClassFile.FieldType.int)) ∈ lw_all := lw_g (lw_at lw_m4 231 rfl) rfl
theorem q1193 : (Jvm.Cond.unhidden "DatedContacts$Told" "ahead" "(I)I") ∈ lw_tbl := lw_at lw_m5 157 rfl
theorem in_X16 : ∀ w ∈ wsX160, w ∈ lw_all := lw_in wsX160 [994, 996] (by decide +kernel) (by decide +kernel)
/-! DatedContacts$Window -/
set_option maxRecDepth 100000
def RX17 : String := "DatedContacts$Window"
abbrev cX17_ahead : ByteArray := prog_19_method_3_code
def yX17_ahead : MethodName := ⟨RX17, "ahead", "(I)I"⟩
def dkwX17_ahead_0 : List UInt8 := [27, 42, 185, 0, 1, 1, 0, 100, 27, 42, 185, 0, 7, 1, 0, 100, 184, 0, 10, 172]
abbrev dktX17_ahead_0 : List UInt8 := dkwX17_ahead_0 ++ []
theorem dksX17_ahead_0 : cX17_ahead.data.toList.drop 0 = dktX17_ahead_0 := by decide +kernel
theorem dX17_ahead_0 : decode cX17_ahead 0 = .ok (.iload_n 1, 1) := dk_27 (dk_at dksX17_ahead_0 0 rfl rfl)
theorem dX17_ahead_1 : decode cX17_ahead 1 = .ok (.aload_n 0, 1) := dk_42 (dk_at dksX17_ahead_0 1 rfl rfl)
theorem dX17_ahead_2 : decode cX17_ahead 2 = .ok (.invokeinterface 1 1, 5) := by decide +kernel
theorem dX17_ahead_7 : decode cX17_ahead 7 = .ok (.isub, 1) := dk_100 (dk_at dksX17_ahead_0 7 rfl rfl)
theorem dX17_ahead_8 : decode cX17_ahead 8 = .ok (.iload_n 1, 1) := dk_27 (dk_at dksX17_ahead_0 8 rfl rfl)
theorem dX17_ahead_9 : decode cX17_ahead 9 = .ok (.aload_n 0, 1) := dk_42 (dk_at dksX17_ahead_0 9 rfl rfl)
theorem dX17_ahead_10 : decode cX17_ahead 10 = .ok (.invokeinterface 7 1, 5) := by decide +kernel
theorem dX17_ahead_15 : decode cX17_ahead 15 = .ok (.isub, 1) := dk_100 (dk_at dksX17_ahead_0 15 rfl rfl)
theorem dX17_ahead_16 : decode cX17_ahead 16 = .ok (.invokestatic 10, 3) := dk_184 0 10 (dk_at dksX17_ahead_0 16 rfl rfl)
theorem dX17_ahead_19 : decode cX17_ahead 19 = .ok (.ireturn, 1) := dk_172 (dk_at dksX17_ahead_0 19 rfl rfl)
abbrev cX17_daysFrom : ByteArray := prog_19_method_4_code
def yX17_daysFrom : MethodName := ⟨RX17, "daysFrom", "(II)I"⟩
def dkwX17_daysFrom_1 : List UInt8 := [167, 255, 242, 28, 172]
abbrev dktX17_daysFrom_1 : List UInt8 := dkwX17_daysFrom_1 ++ []
def dkwX17_daysFrom_0 : List UInt8 := [3, 61, 3, 26, 184, 0, 14, 62, 29, 27, 163, 0, 15, 28, 4, 29, 120, 128, 61, 132, 3, 1]
abbrev dktX17_daysFrom_0 : List UInt8 := dkwX17_daysFrom_0 ++ dktX17_daysFrom_1
theorem dksX17_daysFrom_0 : cX17_daysFrom.data.toList.drop 0 = dktX17_daysFrom_0 := by decide +kernel
theorem dksX17_daysFrom_1 : cX17_daysFrom.data.toList.drop 22 = dktX17_daysFrom_1 := dk_seg dksX17_daysFrom_0 22 rfl rfl
theorem dX17_daysFrom_0 : decode cX17_daysFrom 0 = .ok (.iconst 0, 1) := dk_3 (dk_at dksX17_daysFrom_0 0 rfl rfl)
theorem dX17_daysFrom_1 : decode cX17_daysFrom 1 = .ok (.istore_n 2, 1) := dk_61 (dk_at dksX17_daysFrom_0 1 rfl rfl)
theorem dX17_daysFrom_2 : decode cX17_daysFrom 2 = .ok (.iconst 0, 1) := dk_3 (dk_at dksX17_daysFrom_0 2 rfl rfl)
theorem dX17_daysFrom_3 : decode cX17_daysFrom 3 = .ok (.iload_n 0, 1) := dk_26 (dk_at dksX17_daysFrom_0 3 rfl rfl)
theorem dX17_daysFrom_4 : decode cX17_daysFrom 4 = .ok (.invokestatic 14, 3) := dk_184 0 14 (dk_at dksX17_daysFrom_0 4 rfl rfl)
theorem dX17_daysFrom_7 : decode cX17_daysFrom 7 = .ok (.istore_n 3, 1) := dk_62 (dk_at dksX17_daysFrom_0 7 rfl rfl)
theorem dX17_daysFrom_8 : decode cX17_daysFrom 8 = .ok (.iload_n 3, 1) := dk_29 (dk_at dksX17_daysFrom_0 8 rfl rfl)
theorem dX17_daysFrom_9 : decode cX17_daysFrom 9 = .ok (.iload_n 1, 1) := dk_27 (dk_at dksX17_daysFrom_0 9 rfl rfl)
theorem dX17_daysFrom_10 : decode cX17_daysFrom 10 = .ok (.if_icmp .gt 15, 3) := dk_163 0 15 (dk_at dksX17_daysFrom_0 10 rfl rfl)
theorem dX17_daysFrom_13 : decode cX17_daysFrom 13 = .ok (.iload_n 2, 1) := dk_28 (dk_at dksX17_daysFrom_0 13 rfl rfl)
theorem dX17_daysFrom_14 : decode cX17_daysFrom 14 = .ok (.iconst 1, 1) := dk_4 (dk_at dksX17_daysFrom_0 14 rfl rfl)
theorem dX17_daysFrom_15 : decode cX17_daysFrom 15 = .ok (.iload_n 3, 1) := dk_29 (dk_at dksX17_daysFrom_0 15 rfl rfl)
theorem dX17_daysFrom_16 : decode cX17_daysFrom 16 = .ok (.ishl, 1) := dk_120 (dk_at dksX17_daysFrom_0 16 rfl rfl)
theorem dX17_daysFrom_17 : decode cX17_daysFrom 17 = .ok (.ior, 1) := dk_128 (dk_at dksX17_daysFrom_0 17 rfl rfl)
theorem dX17_daysFrom_18 : decode cX17_daysFrom 18 = .ok (.istore_n 2, 1) := dk_61 (dk_at dksX17_daysFrom_0 18 rfl rfl)
theorem dX17_daysFrom_19 : decode cX17_daysFrom 19 = .ok (.iinc 3 1, 3) := dk_132 3 1 (dk_at dksX17_daysFrom_0 19 rfl rfl)
theorem dX17_daysFrom_22 : decode cX17_daysFrom 22 = .ok (.goto (-14), 3) := dk_167 255 242 (dk_at dksX17_daysFrom_1 0 rfl rfl)
theorem dX17_daysFrom_25 : decode cX17_daysFrom 25 = .ok (.iload_n 2, 1) := dk_28 (dk_at dksX17_daysFrom_1 3 rfl rfl)
theorem dX17_daysFrom_26 : decode cX17_daysFrom 26 = .ok (.ireturn, 1) := dk_172 (dk_at dksX17_daysFrom_1 4 rfl rfl)
theorem q112 : (Jvm.Cond.initialized "DatedContacts$Window") ∈ lw_all := lw_g (lw_at lw_m1 36 rfl) rfl
theorem q1011 : (Jvm.Cond.interfaceMethod "DatedContacts$Window" "DatedContacts$Window" "least" "()I") ∈ lw_tbl := lw_at lw_m4 215 rfl
theorem q1012 : (Jvm.Cond.declares ({ cls := "DatedContacts$Window", name := "least", desc := "()I" } : Jvm.MethodName)) ∈ lw_tbl := lw_at lw_m4 216 rfl
theorem q1021 : (Jvm.Cond.interfaceMethod "DatedContacts$Window" "DatedContacts$Window" "most" "()I") ∈ lw_tbl := lw_at lw_m4 225 rfl
theorem q1022 : (Jvm.Cond.declares ({ cls := "DatedContacts$Window", name := "most", desc := "()I" } : Jvm.MethodName)) ∈ lw_tbl := lw_at lw_m4 226 rfl
theorem q1191 : (Jvm.Cond.interfaceMethod "DatedContacts$Window" "DatedContacts$Window" "ahead" "(I)I") ∈ lw_tbl := lw_at lw_m5 155 rfl
theorem q1192 : (Jvm.Cond.declares ({ cls := "DatedContacts$Window", name := "ahead", desc := "(I)I" } : Jvm.MethodName)) ∈ lw_tbl := lw_at lw_m5 156 rfl
theorem q1194 : (Jvm.Cond.instanceMethod ({ cls := "DatedContacts$Window", name := "ahead", desc := "(I)I" } : Jvm.MethodName)) ∈ lw_all := lw_g (lw_at lw_m5 158 rfl) rfl
theorem q1195 : (Jvm.Cond.publicMethod ({ cls := "DatedContacts$Window", name := "ahead", desc := "(I)I" } : Jvm.MethodName)) ∈ lw_tbl := lw_at lw_m5 159 rfl
theorem q1196 : (Jvm.Cond.code ({ cls := "DatedContacts$Window", name := "ahead", desc := "(I)I" } : Jvm.MethodName) prog_19_method_3_code (2 : Nat) (Option.some Jvm.ClassFile.FieldType.int)) ∈ lw_all := lw_g (lw_at lw_m5 160 rfl) rfl
theorem q1197 : (Jvm.Cond.interfaceEntry "DatedContacts$Window" (1 : Nat)) ∈ lw_tbl := lw_at lw_m5 161 rfl
theorem q1198 : (Jvm.Cond.methodLink "DatedContacts$Window" (1 : Nat) ({ cls := "DatedContacts$Window", name := "most", desc := "()I" } : Jvm.MethodName)) ∈ lw_all := lw_g (lw_at lw_m5 162 rfl) rfl
theorem q1199 : (Jvm.Cond.interfaceEntry "DatedContacts$Window" (7 : Nat)) ∈ lw_tbl := lw_at lw_m5 163 rfl
theorem q1200 : (Jvm.Cond.methodLink "DatedContacts$Window" (7 : Nat) ({ cls := "DatedContacts$Window", name := "least", desc := "()I" } : Jvm.MethodName)) ∈ lw_all := lw_g (lw_at lw_m5 164 rfl) rfl
theorem q1201 : (Jvm.Cond.methodLink "DatedContacts$Window" (10 : Nat) ({ cls := "DatedContacts$Window", name := "daysFrom", desc := "(II)I" } : Jvm.MethodName)) ∈ lw_all := lw_g (lw_at lw_m5 165 rfl) rfl
theorem q1202 : (Jvm.Cond.static ({ cls := "DatedContacts$Window", name := "daysFrom", desc := "(II)I" } : Jvm.MethodName)) ∈ lw_all := lw_g (lw_at lw_m5 166 rfl) rfl
theorem q1203 : (Jvm.Cond.code ({ cls := "DatedContacts$Window", name := "daysFrom", desc := "(II)I" } : Jvm.MethodName) prog_19_method_4_code (4 : Nat) (Option.some Jvm.ClassFile.FieldType.int)) ∈ lw_all := lw_g (lw_at lw_m5 167 rfl) rfl
theorem q1204 : (Jvm.Cond.methodLink "DatedContacts$Window" (14 : Nat) ({ cls := "java/lang/Math", name := "max", desc := "(II)I" } : Jvm.MethodName)) ∈ lw_all := lw_g (lw_at lw_m5 168 rfl) rfl
/-! DatedContacts$Has -/
set_option maxRecDepth 100000
def RX18 : String := "DatedContacts$Has"
def TX18 : u_T := fun k => match k with
  | 0 => ("DatedContacts$Has", "contacts", "I", true)
  | _ => ("DatedContacts$Has", "ill", "I", true)
def tyX18 : Nat → FieldType := fun k => match k with
  | 0 => .int
  | _ => .int
abbrev wsX180 : List Cond := u_ws RX18 TX18 2
theorem nmX18 : ∀ a, a < 2 → ∀ b, b < 2 → a ≠ b → (TX18 a).2.1 ≠ (TX18 b).2.1 := by decide +kernel
theorem tyX18_ok : ∀ k, k < 2 → parseFieldDescriptor (TX18 k).2.2.1 = some (tyX18 k) := by decide +kernel
abbrev cX18_init : ByteArray := prog_5_method_1_code
def yX18_init : MethodName := ⟨RX18, "<init>", "(II)V"⟩
def dkwX18_init_0 : List UInt8 := [42, 183, 0, 1, 42, 27, 181, 0, 7, 42, 28, 181, 0, 13, 177]
abbrev dktX18_init_0 : List UInt8 := dkwX18_init_0 ++ []
theorem dksX18_init_0 : cX18_init.data.toList.drop 0 = dktX18_init_0 := by decide +kernel
theorem dX18_init_0 : decode cX18_init 0 = .ok (.aload_n 0, 1) := dk_42 (dk_at dksX18_init_0 0 rfl rfl)
theorem dX18_init_1 : decode cX18_init 1 = .ok (.invokespecial 1, 3) := dk_183 0 1 (dk_at dksX18_init_0 1 rfl rfl)
theorem dX18_init_4 : decode cX18_init 4 = .ok (.aload_n 0, 1) := dk_42 (dk_at dksX18_init_0 4 rfl rfl)
theorem dX18_init_5 : decode cX18_init 5 = .ok (.iload_n 1, 1) := dk_27 (dk_at dksX18_init_0 5 rfl rfl)
theorem dX18_init_6 : decode cX18_init 6 = .ok (.putfield 7, 3) := dk_181 0 7 (dk_at dksX18_init_0 6 rfl rfl)
theorem dX18_init_9 : decode cX18_init 9 = .ok (.aload_n 0, 1) := dk_42 (dk_at dksX18_init_0 9 rfl rfl)
theorem dX18_init_10 : decode cX18_init 10 = .ok (.iload_n 2, 1) := dk_28 (dk_at dksX18_init_0 10 rfl rfl)
theorem dX18_init_11 : decode cX18_init 11 = .ok (.putfield 13, 3) := dk_181 0 13 (dk_at dksX18_init_0 11 rfl rfl)
theorem dX18_init_14 : decode cX18_init 14 = .ok (.return_, 1) := dk_177 (dk_at dksX18_init_0 14 rfl rfl)
abbrev cX18_contacts : ByteArray := prog_5_method_2_code
def yX18_contacts : MethodName := ⟨RX18, "contacts", "()I"⟩
theorem dX18_contacts_0 : decode cX18_contacts 0 = .ok (.aload_n 0, 1) := by decide +kernel
theorem dX18_contacts_1 : decode cX18_contacts 1 = .ok (.getfield 7, 3) := by decide +kernel
theorem dX18_contacts_4 : decode cX18_contacts 4 = .ok (.ireturn, 1) := by decide +kernel
abbrev cX18_ill : ByteArray := prog_5_method_3_code
def yX18_ill : MethodName := ⟨RX18, "ill", "()I"⟩
theorem dX18_ill_0 : decode cX18_ill 0 = .ok (.aload_n 0, 1) := by decide +kernel
theorem dX18_ill_1 : decode cX18_ill 1 = .ok (.getfield 13, 3) := by decide +kernel
theorem dX18_ill_4 : decode cX18_ill 4 = .ok (.ireturn, 1) := by decide +kernel
theorem q116 : (Jvm.Cond.initialized "DatedContacts$Has") ∈ lw_all := lw_g (lw_at lw_m1 40 rfl) rfl
theorem q1484 : (Jvm.Cond.instantiable "DatedContacts$Has" (2 : Nat)) ∈ lw_all := lw_g (lw_at lw_m6 208 rfl) rfl
theorem q1487 : (Jvm.Cond.instanceMethod ({ cls := "DatedContacts$Has", name := "<init>", desc := "(II)V" } : Jvm.MethodName)) ∈ lw_all := lw_g (lw_at lw_m6 211 rfl) rfl
theorem q1488 : (Jvm.Cond.code ({ cls := "DatedContacts$Has", name := "<init>", desc := "(II)V" } : Jvm.MethodName) prog_5_method_1_code (3 : Nat) (Option.none : Option Jvm.ClassFile.FieldType)) ∈ lw_all := lw_g (lw_at lw_m6 212 rfl) rfl
theorem q1489 : (Jvm.Cond.methodLink "DatedContacts$Has" (1 : Nat) ({ cls := "java/lang/Object", name := "<init>", desc := "()V" } : Jvm.MethodName)) ∈ lw_all := lw_g (lw_at lw_m6 213 rfl) rfl
theorem q1490 : (Jvm.Cond.fieldLink "DatedContacts$Has" (7 : Nat) "DatedContacts$Has" "contacts" "I") ∈ lw_all := lw_g (lw_at lw_m6 214 rfl) rfl
theorem q1491 : (Jvm.Cond.fieldLink "DatedContacts$Has" (13 : Nat) "DatedContacts$Has" "ill" "I") ∈ lw_all := lw_g (lw_at lw_m6 215 rfl) rfl
theorem q1492 : (Jvm.Cond.laysFinal "DatedContacts$Has" "DatedContacts$Has" "contacts" "I") ∈ lw_all := lw_g (lw_at lw_m6 216 rfl) rfl
theorem q1493 : (Jvm.Cond.soleField "DatedContacts$Has" "contacts") ∈ lw_all := lw_g (lw_at lw_m6 217 rfl) rfl
theorem q1494 : (Jvm.Cond.laysFinal "DatedContacts$Has" "DatedContacts$Has" "ill" "I") ∈ lw_all := lw_g (lw_at lw_m6 218 rfl) rfl
theorem q1495 : (Jvm.Cond.soleField "DatedContacts$Has" "ill") ∈ lw_all := lw_g (lw_at lw_m6 219 rfl) rfl
theorem q1496 : (Jvm.Cond.superclass "DatedContacts$Has" "java/lang/Object") ∈ lw_all := lw_g (lw_at lw_m6 220 rfl) rfl
theorem q1513 : (Jvm.Cond.castable "DatedContacts$Has" "DatedContacts$Held") ∈ lw_tbl := lw_at lw_m6 237 rfl
theorem q1514 : (Jvm.Cond.selects "DatedContacts$Has" ({ cls := "DatedContacts$Held", name := "contacts", desc := "()I" } : Jvm.MethodName) ({ cls := "DatedContacts$Has", name := "contacts", desc := "()I" } : Jvm.MethodName)) ∈ lw_all := lw_g (lw_at lw_m6 238 rfl) rfl
theorem q1515 : (Jvm.Cond.unhidden "DatedContacts$Has" "contacts" "()I") ∈ lw_tbl := lw_at lw_m6 239 rfl
theorem q1516 : (Jvm.Cond.instanceMethod ({ cls := "DatedContacts$Has", name := "contacts", desc := "()I" } : Jvm.MethodName)) ∈ lw_all := lw_g (lw_at lw_m7 0 rfl) rfl
theorem q1517 : (Jvm.Cond.publicMethod ({ cls := "DatedContacts$Has", name := "contacts", desc := "()I" } : Jvm.MethodName)) ∈ lw_tbl := lw_at lw_m7 1 rfl
theorem q1518 : (Jvm.Cond.code ({ cls := "DatedContacts$Has", name := "contacts", desc := "()I" } : Jvm.MethodName) prog_5_method_2_code (1 : Nat) (Option.some Jvm.ClassFile.FieldType.int)) ∈ lw_all := lw_g (lw_at lw_m7 2 rfl) rfl
theorem q1561 : (Jvm.Cond.selects "DatedContacts$Has" ({ cls := "DatedContacts$Held", name := "ill", desc := "()I" } : Jvm.MethodName) ({ cls := "DatedContacts$Has", name := "ill", desc := "()I" } : Jvm.MethodName)) ∈ lw_all := lw_g (lw_at lw_m7 45 rfl) rfl
theorem q1562 : (Jvm.Cond.unhidden "DatedContacts$Has" "ill" "()I") ∈ lw_tbl := lw_at lw_m7 46 rfl
theorem q1563 : (Jvm.Cond.instanceMethod ({ cls := "DatedContacts$Has", name := "ill", desc := "()I" } : Jvm.MethodName)) ∈ lw_all := lw_g (lw_at lw_m7 47 rfl) rfl
theorem q1564 : (Jvm.Cond.publicMethod ({ cls := "DatedContacts$Has", name := "ill", desc := "()I" } : Jvm.MethodName)) ∈ lw_tbl := lw_at lw_m7 48 rfl
theorem q1565 : (Jvm.Cond.code ({ cls := "DatedContacts$Has", name := "ill", desc := "()I" } : Jvm.MethodName) prog_5_method_3_code (1 : Nat) (Option.some Jvm.ClassFile.FieldType.int)) ∈ lw_all := lw_g (lw_at lw_m7 49 rfl) rfl
theorem in_X18 : ∀ w ∈ wsX180, w ∈ lw_all := lw_in wsX180 [1492, 1494] (by decide +kernel) (by decide +kernel)
theorem q76 : (Jvm.Cond.initialized "DatedContactsLaw") ∈ lw_all := lw_g (lw_at lw_m1 0 rfl) rfl
set_option maxRecDepth 100000
theorem q117 : (Jvm.Cond.classLink "DatedContactsLaw" (7 : Nat) "DatedContacts") ∈ lw_all := lw_g (lw_at lw_m1 41 rfl) rfl
theorem q119 : (Jvm.Cond.methodLink "DatedContactsLaw" (9 : Nat) ({ cls := "DatedContacts", name := "<init>", desc := "()V" } : Jvm.MethodName)) ∈ lw_all := lw_g (lw_at lw_m1 43 rfl) rfl
theorem q308 : (Jvm.Cond.methodLink "DatedContactsLaw" (13 : Nat) ({ cls := "DatedContacts", name := "row", desc := "(III)I" } : Jvm.MethodName)) ∈ lw_all := lw_g (lw_at lw_m1 232 rfl) rfl
theorem q420 : (Jvm.Cond.methodLink "DatedContactsLaw" (18 : Nat) ({ cls := "DatedContacts", name := "set", desc := "(III)I" } : Jvm.MethodName)) ∈ lw_all := lw_g (lw_at lw_m2 104 rfl) rfl
theorem q479 : (Jvm.Cond.methodLink "DatedContactsLaw" (22 : Nat) ({ cls := "DatedContacts", name := "copy", desc := "(IIIII)I" } : Jvm.MethodName)) ∈ lw_all := lw_g (lw_at lw_m2 163 rfl) rfl
theorem q501 : (Jvm.Cond.methodLink "DatedContactsLaw" (27 : Nat) ({ cls := "DatedContacts", name := "drop", desc := "(I)I" } : Jvm.MethodName)) ∈ lw_all := lw_g (lw_at lw_m2 185 rfl) rfl
theorem q509 : (Jvm.Cond.methodLink "DatedContactsLaw" (32 : Nat) ({ cls := "DatedContacts", name := "feed", desc := "(I)I" } : Jvm.MethodName)) ∈ lw_all := lw_g (lw_at lw_m2 193 rfl) rfl
theorem q515 : (Jvm.Cond.methodLink "DatedContactsLaw" (36 : Nat) ({ cls := "DatedContacts", name := "net", desc := "()I" } : Jvm.MethodName)) ∈ lw_all := lw_g (lw_at lw_m2 199 rfl) rfl
theorem q1051 : (Jvm.Cond.methodLink "DatedContactsLaw" (41 : Nat) ({ cls := "DatedContacts", name := "fault", desc := "()I" } : Jvm.MethodName)) ∈ lw_all := lw_g (lw_at lw_m5 15 rfl) rfl
theorem q1055 : (Jvm.Cond.methodLink "DatedContactsLaw" (45 : Nat) ({ cls := "DatedContacts", name := "meet", desc := "(III)I" } : Jvm.MethodName)) ∈ lw_all := lw_g (lw_at lw_m5 19 rfl) rfl
theorem q1071 : (Jvm.Cond.methodLink "DatedContactsLaw" (49 : Nat) ({ cls := "DatedContacts", name := "part", desc := "(I)I" } : Jvm.MethodName)) ∈ lw_all := lw_g (lw_at lw_m5 35 rfl) rfl
theorem q1079 : (Jvm.Cond.methodLink "DatedContactsLaw" (53 : Nat) ({ cls := "DatedContacts", name := "date", desc := "(II)I" } : Jvm.MethodName)) ∈ lw_all := lw_g (lw_at lw_m5 43 rfl) rfl
theorem q1084 : (Jvm.Cond.methodLink "DatedContactsLaw" (58 : Nat) ({ cls := "DatedContacts", name := "ill", desc := "(II)I" } : Jvm.MethodName)) ∈ lw_all := lw_g (lw_at lw_m5 48 rfl) rfl
theorem q1088 : (Jvm.Cond.methodLink "DatedContactsLaw" (62 : Nat) ({ cls := "DatedContacts", name := "window", desc := "(II)I" } : Jvm.MethodName)) ∈ lw_all := lw_g (lw_at lw_m5 52 rfl) rfl
theorem q1098 : (Jvm.Cond.methodLink "DatedContactsLaw" (66 : Nat) ({ cls := "DatedContacts", name := "become", desc := "(II)I" } : Jvm.MethodName)) ∈ lw_all := lw_g (lw_at lw_m5 62 rfl) rfl
theorem q1122 : (Jvm.Cond.methodLink "DatedContactsLaw" (70 : Nat) ({ cls := "DatedContacts", name := "undo", desc := "()I" } : Jvm.MethodName)) ∈ lw_all := lw_g (lw_at lw_m5 86 rfl) rfl
theorem q1126 : (Jvm.Cond.methodLink "DatedContactsLaw" (74 : Nat) ({ cls := "DatedContacts", name := "person", desc := "(II)I" } : Jvm.MethodName)) ∈ lw_all := lw_g (lw_at lw_m5 90 rfl) rfl
theorem q1143 : (Jvm.Cond.methodLink "DatedContactsLaw" (78 : Nat) ({ cls := "DatedContacts", name := "contact", desc := "(II)I" } : Jvm.MethodName)) ∈ lw_all := lw_g (lw_at lw_m5 107 rfl) rfl
theorem q1147 : (Jvm.Cond.methodLink "DatedContactsLaw" (82 : Nat) ({ cls := "DatedContacts", name := "days", desc := "(III)I" } : Jvm.MethodName)) ∈ lw_all := lw_g (lw_at lw_m5 111 rfl) rfl
theorem q1205 : (Jvm.Cond.methodLink "DatedContactsLaw" (86 : Nat) ({ cls := "DatedContacts", name := "givers", desc := "(III)I" } : Jvm.MethodName)) ∈ lw_all := lw_g (lw_at lw_m5 169 rfl) rfl
theorem q1211 : (Jvm.Cond.methodLink "DatedContactsLaw" (90 : Nat) ({ cls := "DatedContacts", name := "chain", desc := "(IIII)I" } : Jvm.MethodName)) ∈ lw_all := lw_g (lw_at lw_m5 175 rfl) rfl
theorem q1231 : (Jvm.Cond.methodLink "DatedContactsLaw" (95 : Nat) ({ cls := "DatedContacts", name := "written", desc := "(IIII)I" } : Jvm.MethodName)) ∈ lw_all := lw_g (lw_at lw_m5 195 rfl) rfl
theorem q1325 : (Jvm.Cond.methodLink "DatedContactsLaw" (99 : Nat) ({ cls := "DatedContacts", name := "accounts", desc := "(I)I" } : Jvm.MethodName)) ∈ lw_all := lw_g (lw_at lw_m6 49 rfl) rfl
theorem q1338 : (Jvm.Cond.methodLink "DatedContactsLaw" (103 : Nat) ({ cls := "DatedContacts", name := "sources", desc := "()I" } : Jvm.MethodName)) ∈ lw_all := lw_g (lw_at lw_m6 62 rfl) rfl
theorem q1342 : (Jvm.Cond.methodLink "DatedContactsLaw" (107 : Nat) ({ cls := "DatedContacts", name := "cut", desc := "(III)I" } : Jvm.MethodName)) ∈ lw_all := lw_g (lw_at lw_m6 66 rfl) rfl
theorem q1356 : (Jvm.Cond.methodLink "DatedContactsLaw" (111 : Nat) ({ cls := "DatedContacts", name := "common", desc := "(III)I" } : Jvm.MethodName)) ∈ lw_all := lw_g (lw_at lw_m6 80 rfl) rfl
theorem q1360 : (Jvm.Cond.methodLink "DatedContactsLaw" (115 : Nat) ({ cls := "DatedContacts", name := "spared", desc := "(IIII)J" } : Jvm.MethodName)) ∈ lw_all := lw_g (lw_at lw_m6 84 rfl) rfl
theorem q1370 : (Jvm.Cond.methodLink "DatedContactsLaw" (120 : Nat) ({ cls := "DatedContacts", name := "fits", desc := "(IIIII)I" } : Jvm.MethodName)) ∈ lw_all := lw_g (lw_at lw_m6 94 rfl) rfl
theorem q1419 : (Jvm.Cond.methodLink "DatedContactsLaw" (124 : Nat) ({ cls := "DatedContacts", name := "tell", desc := "(III)I" } : Jvm.MethodName)) ∈ lw_all := lw_g (lw_at lw_m6 143 rfl) rfl
theorem q1423 : (Jvm.Cond.methodLink "DatedContactsLaw" (128 : Nat) ({ cls := "DatedContacts", name := "drawn", desc := "(III)I" } : Jvm.MethodName)) ∈ lw_all := lw_g (lw_at lw_m6 147 rfl) rfl
theorem q1436 : (Jvm.Cond.methodLink "DatedContactsLaw" (132 : Nat) ({ cls := "DatedContacts", name := "image", desc := "(I)I" } : Jvm.MethodName)) ∈ lw_all := lw_g (lw_at lw_m6 160 rfl) rfl
theorem q1440 : (Jvm.Cond.methodLink "DatedContactsLaw" (136 : Nat) ({ cls := "DatedContacts", name := "restore", desc := "(I)I" } : Jvm.MethodName)) ∈ lw_all := lw_g (lw_at lw_m6 164 rfl) rfl
theorem q1444 : (Jvm.Cond.methodLink "DatedContactsLaw" (140 : Nat) ({ cls := "DatedContacts", name := "kind", desc := "(I)I" } : Jvm.MethodName)) ∈ lw_all := lw_g (lw_at lw_m6 168 rfl) rfl
theorem q1448 : (Jvm.Cond.methodLink "DatedContactsLaw" (144 : Nat) ({ cls := "DatedContacts", name := "as", desc := "(II)I" } : Jvm.MethodName)) ∈ lw_all := lw_g (lw_at lw_m6 172 rfl) rfl
theorem q1479 : (Jvm.Cond.methodLink "DatedContactsLaw" (148 : Nat) ({ cls := "DatedContacts", name := "ask", desc := "(II)I" } : Jvm.MethodName)) ∈ lw_all := lw_g (lw_at lw_m6 203 rfl) rfl
theorem q1588 : (Jvm.Cond.methodLink "DatedContactsLaw" (152 : Nat) ({ cls := "DatedContacts", name := "trace", desc := "(I)I" } : Jvm.MethodName)) ∈ lw_all := lw_g (lw_at lw_m7 72 rfl) rfl
theorem q1592 : (Jvm.Cond.methodLink "DatedContactsLaw" (156 : Nat) ({ cls := "DatedContacts", name := "count", desc := "(I)I" } : Jvm.MethodName)) ∈ lw_all := lw_g (lw_at lw_m7 76 rfl) rfl
theorem q1604 : (Jvm.Cond.methodLink "DatedContactsLaw" (160 : Nat) ({ cls := "DatedContacts", name := "status", desc := "()I" } : Jvm.MethodName)) ∈ lw_all := lw_g (lw_at lw_m7 88 rfl) rfl
theorem q1608 : (Jvm.Cond.classLink "DatedContactsLaw" (10 : Nat) "DatedContactsModel") ∈ lw_all := lw_g (lw_at lw_m7 92 rfl) rfl
theorem q1610 : (Jvm.Cond.methodLink "DatedContactsLaw" (12 : Nat) ({ cls := "DatedContactsModel", name := "<init>", desc := "()V" } : Jvm.MethodName)) ∈ lw_all := lw_g (lw_at lw_m7 94 rfl) rfl
theorem q1704 : (Jvm.Cond.methodLink "DatedContactsLaw" (17 : Nat) ({ cls := "DatedContactsModel", name := "row", desc := "(III)I" } : Jvm.MethodName)) ∈ lw_all := lw_g (lw_at lw_m7 188 rfl) rfl
theorem q1724 : (Jvm.Cond.methodLink "DatedContactsLaw" (21 : Nat) ({ cls := "DatedContactsModel", name := "set", desc := "(III)I" } : Jvm.MethodName)) ∈ lw_all := lw_g (lw_at lw_m7 208 rfl) rfl
theorem q1735 : (Jvm.Cond.methodLink "DatedContactsLaw" (26 : Nat) ({ cls := "DatedContactsModel", name := "copy", desc := "(IIIII)I" } : Jvm.MethodName)) ∈ lw_all := lw_g (lw_at lw_m7 219 rfl) rfl
theorem q1743 : (Jvm.Cond.methodLink "DatedContactsLaw" (31 : Nat) ({ cls := "DatedContactsModel", name := "drop", desc := "(I)I" } : Jvm.MethodName)) ∈ lw_all := lw_g (lw_at lw_m7 227 rfl) rfl
theorem q1747 : (Jvm.Cond.methodLink "DatedContactsLaw" (35 : Nat) ({ cls := "DatedContactsModel", name := "feed", desc := "(I)I" } : Jvm.MethodName)) ∈ lw_all := lw_g (lw_at lw_m7 231 rfl) rfl
theorem q1752 : (Jvm.Cond.methodLink "DatedContactsLaw" (40 : Nat) ({ cls := "DatedContactsModel", name := "net", desc := "()I" } : Jvm.MethodName)) ∈ lw_all := lw_g (lw_at lw_m7 236 rfl) rfl
theorem q1807 : (Jvm.Cond.methodLink "DatedContactsLaw" (44 : Nat) ({ cls := "DatedContactsModel", name := "fault", desc := "()I" } : Jvm.MethodName)) ∈ lw_all := lw_g (lw_at lw_m8 51 rfl) rfl
theorem q1811 : (Jvm.Cond.methodLink "DatedContactsLaw" (48 : Nat) ({ cls := "DatedContactsModel", name := "meet", desc := "(III)I" } : Jvm.MethodName)) ∈ lw_all := lw_g (lw_at lw_m8 55 rfl) rfl
theorem q1823 : (Jvm.Cond.methodLink "DatedContactsLaw" (52 : Nat) ({ cls := "DatedContactsModel", name := "part", desc := "(I)I" } : Jvm.MethodName)) ∈ lw_all := lw_g (lw_at lw_m8 67 rfl) rfl
theorem q1831 : (Jvm.Cond.methodLink "DatedContactsLaw" (57 : Nat) ({ cls := "DatedContactsModel", name := "date", desc := "(II)I" } : Jvm.MethodName)) ∈ lw_all := lw_g (lw_at lw_m8 75 rfl) rfl
theorem q1840 : (Jvm.Cond.methodLink "DatedContactsLaw" (61 : Nat) ({ cls := "DatedContactsModel", name := "ill", desc := "(II)I" } : Jvm.MethodName)) ∈ lw_all := lw_g (lw_at lw_m8 84 rfl) rfl
theorem q1844 : (Jvm.Cond.methodLink "DatedContactsLaw" (65 : Nat) ({ cls := "DatedContactsModel", name := "window", desc := "(II)I" } : Jvm.MethodName)) ∈ lw_all := lw_g (lw_at lw_m8 88 rfl) rfl
theorem q1852 : (Jvm.Cond.methodLink "DatedContactsLaw" (69 : Nat) ({ cls := "DatedContactsModel", name := "become", desc := "(II)I" } : Jvm.MethodName)) ∈ lw_all := lw_g (lw_at lw_m8 96 rfl) rfl
theorem q1856 : (Jvm.Cond.methodLink "DatedContactsLaw" (73 : Nat) ({ cls := "DatedContactsModel", name := "undo", desc := "()I" } : Jvm.MethodName)) ∈ lw_all := lw_g (lw_at lw_m8 100 rfl) rfl
theorem q1860 : (Jvm.Cond.methodLink "DatedContactsLaw" (77 : Nat) ({ cls := "DatedContactsModel", name := "person", desc := "(II)I" } : Jvm.MethodName)) ∈ lw_all := lw_g (lw_at lw_m8 104 rfl) rfl
theorem q1871 : (Jvm.Cond.methodLink "DatedContactsLaw" (81 : Nat) ({ cls := "DatedContactsModel", name := "contact", desc := "(II)I" } : Jvm.MethodName)) ∈ lw_all := lw_g (lw_at lw_m8 115 rfl) rfl
theorem q1875 : (Jvm.Cond.methodLink "DatedContactsLaw" (85 : Nat) ({ cls := "DatedContactsModel", name := "days", desc := "(III)I" } : Jvm.MethodName)) ∈ lw_all := lw_g (lw_at lw_m8 119 rfl) rfl
theorem q1901 : (Jvm.Cond.methodLink "DatedContactsLaw" (89 : Nat) ({ cls := "DatedContactsModel", name := "givers", desc := "(III)I" } : Jvm.MethodName)) ∈ lw_all := lw_g (lw_at lw_m8 145 rfl) rfl
theorem q1905 : (Jvm.Cond.methodLink "DatedContactsLaw" (94 : Nat) ({ cls := "DatedContactsModel", name := "chain", desc := "(IIII)I" } : Jvm.MethodName)) ∈ lw_all := lw_g (lw_at lw_m8 149 rfl) rfl
theorem q1925 : (Jvm.Cond.methodLink "DatedContactsLaw" (98 : Nat) ({ cls := "DatedContactsModel", name := "written", desc := "(IIII)I" } : Jvm.MethodName)) ∈ lw_all := lw_g (lw_at lw_m8 169 rfl) rfl
theorem q1937 : (Jvm.Cond.methodLink "DatedContactsLaw" (102 : Nat) ({ cls := "DatedContactsModel", name := "accounts", desc := "(I)I" } : Jvm.MethodName)) ∈ lw_all := lw_g (lw_at lw_m8 181 rfl) rfl
theorem q1949 : (Jvm.Cond.methodLink "DatedContactsLaw" (106 : Nat) ({ cls := "DatedContactsModel", name := "sources", desc := "()I" } : Jvm.MethodName)) ∈ lw_all := lw_g (lw_at lw_m8 193 rfl) rfl
theorem q1953 : (Jvm.Cond.methodLink "DatedContactsLaw" (110 : Nat) ({ cls := "DatedContactsModel", name := "cut", desc := "(III)I" } : Jvm.MethodName)) ∈ lw_all := lw_g (lw_at lw_m8 197 rfl) rfl
theorem q1960 : (Jvm.Cond.methodLink "DatedContactsLaw" (114 : Nat) ({ cls := "DatedContactsModel", name := "common", desc := "(III)I" } : Jvm.MethodName)) ∈ lw_all := lw_g (lw_at lw_m8 204 rfl) rfl
theorem q1964 : (Jvm.Cond.methodLink "DatedContactsLaw" (119 : Nat) ({ cls := "DatedContactsModel", name := "spared", desc := "(IIII)J" } : Jvm.MethodName)) ∈ lw_all := lw_g (lw_at lw_m8 208 rfl) rfl
theorem q1973 : (Jvm.Cond.methodLink "DatedContactsLaw" (123 : Nat) ({ cls := "DatedContactsModel", name := "fits", desc := "(IIIII)I" } : Jvm.MethodName)) ∈ lw_all := lw_g (lw_at lw_m8 217 rfl) rfl
theorem q1980 : (Jvm.Cond.methodLink "DatedContactsLaw" (127 : Nat) ({ cls := "DatedContactsModel", name := "tell", desc := "(III)I" } : Jvm.MethodName)) ∈ lw_all := lw_g (lw_at lw_m8 224 rfl) rfl
theorem q1984 : (Jvm.Cond.methodLink "DatedContactsLaw" (131 : Nat) ({ cls := "DatedContactsModel", name := "drawn", desc := "(III)I" } : Jvm.MethodName)) ∈ lw_all := lw_g (lw_at lw_m8 228 rfl) rfl
theorem q1993 : (Jvm.Cond.methodLink "DatedContactsLaw" (135 : Nat) ({ cls := "DatedContactsModel", name := "image", desc := "(I)I" } : Jvm.MethodName)) ∈ lw_all := lw_g (lw_at lw_m8 237 rfl) rfl
theorem q1997 : (Jvm.Cond.methodLink "DatedContactsLaw" (139 : Nat) ({ cls := "DatedContactsModel", name := "restore", desc := "(I)I" } : Jvm.MethodName)) ∈ lw_all := lw_g (lw_at lw_m9 1 rfl) rfl
theorem q2001 : (Jvm.Cond.methodLink "DatedContactsLaw" (143 : Nat) ({ cls := "DatedContactsModel", name := "kind", desc := "(I)I" } : Jvm.MethodName)) ∈ lw_all := lw_g (lw_at lw_m9 5 rfl) rfl
theorem q2009 : (Jvm.Cond.methodLink "DatedContactsLaw" (147 : Nat) ({ cls := "DatedContactsModel", name := "as", desc := "(II)I" } : Jvm.MethodName)) ∈ lw_all := lw_g (lw_at lw_m9 13 rfl) rfl
theorem q2013 : (Jvm.Cond.methodLink "DatedContactsLaw" (151 : Nat) ({ cls := "DatedContactsModel", name := "ask", desc := "(II)I" } : Jvm.MethodName)) ∈ lw_all := lw_g (lw_at lw_m9 17 rfl) rfl
theorem q2041 : (Jvm.Cond.methodLink "DatedContactsLaw" (155 : Nat) ({ cls := "DatedContactsModel", name := "trace", desc := "(I)I" } : Jvm.MethodName)) ∈ lw_all := lw_g (lw_at lw_m9 45 rfl) rfl
theorem q2045 : (Jvm.Cond.methodLink "DatedContactsLaw" (159 : Nat) ({ cls := "DatedContactsModel", name := "count", desc := "(I)I" } : Jvm.MethodName)) ∈ lw_all := lw_g (lw_at lw_m9 49 rfl) rfl
theorem q2049 : (Jvm.Cond.methodLink "DatedContactsLaw" (163 : Nat) ({ cls := "DatedContactsModel", name := "status", desc := "()I" } : Jvm.MethodName)) ∈ lw_all := lw_g (lw_at lw_m9 53 rfl) rfl
theorem q1511 : (Jvm.Cond.interfaceMethod "DatedContacts$Held" "DatedContacts$Held" "contacts" "()I") ∈ lw_tbl := lw_at lw_m6 235 rfl
set_option maxRecDepth 100000
theorem q1512 : (Jvm.Cond.declares ({ cls := "DatedContacts$Held", name := "contacts", desc := "()I" } : Jvm.MethodName)) ∈ lw_tbl := lw_at lw_m6 236 rfl
theorem q1559 : (Jvm.Cond.interfaceMethod "DatedContacts$Held" "DatedContacts$Held" "ill" "()I") ∈ lw_tbl := lw_at lw_m7 43 rfl
theorem q1560 : (Jvm.Cond.declares ({ cls := "DatedContacts$Held", name := "ill", desc := "()I" } : Jvm.MethodName)) ∈ lw_tbl := lw_at lw_m7 44 rfl
theorem q688 : (Jvm.Cond.sameMethod "[B" "java/lang/Object" "clone" "()Ljava/lang/Object;") ∈ lw_all := lw_g (lw_at lw_m3 132 rfl) rfl
set_option maxRecDepth 100000
theorem q691 : (Jvm.Cond.selects "[B" ({ cls := "[B", name := "clone", desc := "()Ljava/lang/Object;" } : Jvm.MethodName) ({ cls := "java/lang/Object", name := "clone", desc := "()Ljava/lang/Object;" } : Jvm.MethodName)) ∈ lw_all := lw_g (lw_at lw_m3 135 rfl) rfl
theorem q692 : (Jvm.Cond.castable "[B" "java/lang/Cloneable") ∈ lw_tbl := lw_at lw_m3 136 rfl
theorem q1288 : (Jvm.Cond.interfaceMethod "java/lang/CharSequence" "java/lang/CharSequence" "length" "()I") ∈ lw_tbl := lw_at lw_m6 12 rfl
set_option maxRecDepth 100000
theorem q1289 : (Jvm.Cond.declares ({ cls := "java/lang/CharSequence", name := "length", desc := "()I" } : Jvm.MethodName)) ∈ lw_tbl := lw_at lw_m6 13 rfl
theorem q1300 : (Jvm.Cond.interfaceMethod "java/lang/CharSequence" "java/lang/CharSequence" "charAt" "(I)C") ∈ lw_tbl := lw_at lw_m6 24 rfl
theorem q1301 : (Jvm.Cond.declares ({ cls := "java/lang/CharSequence", name := "charAt", desc := "(I)C" } : Jvm.MethodName)) ∈ lw_tbl := lw_at lw_m6 25 rfl
theorem q113 : (Jvm.Cond.initialized "java/lang/Number") ∈ lw_all := lw_g (lw_at lw_m1 37 rfl) rfl
set_option maxRecDepth 100000
theorem q93 : (Jvm.Cond.initialized "java/lang/System") ∈ lw_all := lw_g (lw_at lw_m1 17 rfl) rfl
set_option maxRecDepth 100000
theorem q499 : (Jvm.Cond.static ({ cls := "java/lang/System", name := "arraycopy", desc := "(Ljava/lang/Object;ILjava/lang/Object;II)V" } : Jvm.MethodName)) ∈ lw_all := lw_g (lw_at lw_m2 183 rfl) rfl
theorem q500 : (Jvm.Cond.native ({ cls := "java/lang/System", name := "arraycopy", desc := "(Ljava/lang/Object;ILjava/lang/Object;II)V" } : Jvm.MethodName)) ∈ lw_all := lw_g (lw_at lw_m2 184 rfl) rfl
theorem q879 : (Jvm.Cond.interfaceMethod "jdk/internal/access/JavaLangAccess" "jdk/internal/access/JavaLangAccess" "getUTF16Char" "([BI)C") ∈ lw_tbl := lw_at lw_m4 83 rfl
set_option maxRecDepth 100000
theorem q880 : (Jvm.Cond.declares ({ cls := "jdk/internal/access/JavaLangAccess", name := "getUTF16Char", desc := "([BI)C" } : Jvm.MethodName)) ∈ lw_tbl := lw_at lw_m4 84 rfl
theorem q129 : (Jvm.Cond.arrayOver (Jvm.ClassFile.FieldType.object "DatedContacts$Shelf")) ∈ lw_tbl := lw_at lw_m1 53 rfl
set_option maxRecDepth 100000
theorem q147 : (Jvm.Cond.arrayOver (Jvm.ClassFile.FieldType.object "DatedContacts$Person")) ∈ lw_tbl := lw_at lw_m1 71 rfl
theorem q149 : (Jvm.Cond.arrayOver (Jvm.ClassFile.FieldType.object "DatedContacts$Window")) ∈ lw_tbl := lw_at lw_m1 73 rfl
theorem q206 : (Jvm.Cond.arrayClass Jvm.ClassFile.FieldType.byte) ∈ lw_all := lw_g (lw_at lw_m1 130 rfl) rfl
theorem q207 : (Jvm.Cond.arrayClass Jvm.ClassFile.FieldType.int) ∈ lw_all := lw_g (lw_at lw_m1 131 rfl) rfl
theorem q252 : (Jvm.Cond.arrayOver (Jvm.ClassFile.FieldType.object "DatedContacts$Net")) ∈ lw_tbl := lw_at lw_m1 176 rfl
theorem q419 : (Jvm.Cond.arrayClass Jvm.ClassFile.FieldType.short) ∈ lw_all := lw_g (lw_at lw_m2 103 rfl) rfl
theorem q1703 : (Jvm.Cond.arrayClass Jvm.ClassFile.FieldType.boolean) ∈ lw_all := lw_g (lw_at lw_m7 187 rfl) rfl
theorem q2078 : (Jvm.Cond.arrayClass Jvm.ClassFile.FieldType.char) ∈ lw_all := lw_g (lw_at lw_m9 82 rfl) rfl
