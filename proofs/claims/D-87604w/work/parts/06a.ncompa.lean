/-! ChurchyardBook$Place -/
set_option maxRecDepth 100000
def RX2 : String := "ChurchyardBook$Place"
abbrev cX2_init : ByteArray := prog_11_method_1_code
def yX2_init : MethodName := ⟨RX2, "<init>", "()V"⟩
theorem dX2_init_0 : decode cX2_init 0 = .ok (.aload_n 0, 1) := by decide +kernel
theorem dX2_init_1 : decode cX2_init 1 = .ok (.invokespecial 1, 3) := by decide +kernel
theorem dX2_init_4 : decode cX2_init 4 = .ok (.return_, 1) := by decide +kernel
theorem q88 : (Jvm.Cond.initialized "ChurchyardBook$Place") ∈ lw_all := lw_g (lw_at lw_m1 2 rfl) rfl
theorem q138 : (Jvm.Cond.instanceMethod ({ cls := "ChurchyardBook$Place", name := "<init>", desc := "()V" } : Jvm.MethodName)) ∈ lw_all := lw_g (lw_at lw_m1 52 rfl) rfl
theorem q139 : (Jvm.Cond.code ({ cls := "ChurchyardBook$Place", name := "<init>", desc := "()V" } : Jvm.MethodName) prog_11_method_1_code (1 : Nat) (Option.none : Option Jvm.ClassFile.FieldType)) ∈ lw_all := lw_g (lw_at lw_m1 53 rfl) rfl
theorem q140 : (Jvm.Cond.methodLink "ChurchyardBook$Place" (1 : Nat) ({ cls := "java/lang/Object", name := "<init>", desc := "()V" } : Jvm.MethodName)) ∈ lw_all := lw_g (lw_at lw_m1 54 rfl) rfl
theorem q1618 : (Jvm.Cond.declares ({ cls := "ChurchyardBook$Place", name := "what", desc := "()I" } : Jvm.MethodName)) ∈ lw_tbl := lw_at lw_m7 92 rfl
theorem q1619 : (Jvm.Cond.sameMethod "ChurchyardBook$Place" "ChurchyardBook$Place" "what" "()I") ∈ lw_all := lw_g (lw_at lw_m7 93 rfl) rfl
theorem q2256 : (Jvm.Cond.castable "ChurchyardBook$Place" "java/lang/Object") ∈ lw_tbl := lw_at lw_m10 10 rfl

/-! ChurchyardBook$Tree -/
set_option maxRecDepth 100000
def RX3 : String := "ChurchyardBook$Tree"
abbrev cX3_init : ByteArray := prog_17_method_1_code
def yX3_init : MethodName := ⟨RX3, "<init>", "()V"⟩
theorem dX3_init_0 : decode cX3_init 0 = .ok (.aload_n 0, 1) := by decide +kernel
theorem dX3_init_1 : decode cX3_init 1 = .ok (.invokespecial 1, 3) := by decide +kernel
theorem dX3_init_4 : decode cX3_init 4 = .ok (.return_, 1) := by decide +kernel
abbrev cX3_what : ByteArray := prog_17_method_2_code
def yX3_what : MethodName := ⟨RX3, "what", "()I"⟩
theorem dX3_what_0 : decode cX3_what 0 = .ok (.iconst 1, 1) := by decide +kernel
theorem dX3_what_1 : decode cX3_what 1 = .ok (.ireturn, 1) := by decide +kernel
theorem q89 : (Jvm.Cond.initialized "ChurchyardBook$Tree") ∈ lw_all := lw_g (lw_at lw_m1 3 rfl) rfl
theorem q133 : (Jvm.Cond.instantiable "ChurchyardBook$Tree" (0 : Nat)) ∈ lw_all := lw_g (lw_at lw_m1 47 rfl) rfl
theorem q135 : (Jvm.Cond.instanceMethod ({ cls := "ChurchyardBook$Tree", name := "<init>", desc := "()V" } : Jvm.MethodName)) ∈ lw_all := lw_g (lw_at lw_m1 49 rfl) rfl
theorem q136 : (Jvm.Cond.code ({ cls := "ChurchyardBook$Tree", name := "<init>", desc := "()V" } : Jvm.MethodName) prog_17_method_1_code (1 : Nat) (Option.none : Option Jvm.ClassFile.FieldType)) ∈ lw_all := lw_g (lw_at lw_m1 50 rfl) rfl
theorem q137 : (Jvm.Cond.methodLinkNest "ChurchyardBook$Tree" (1 : Nat) ({ cls := "ChurchyardBook$Place", name := "<init>", desc := "()V" } : Jvm.MethodName) "ChurchyardBook") ∈ lw_tbl := lw_at lw_m1 51 rfl
theorem q141 : (Jvm.Cond.superclass "ChurchyardBook$Tree" "ChurchyardBook$Place") ∈ lw_all := lw_g (lw_at lw_m1 55 rfl) rfl
theorem q419 : (Jvm.Cond.selects "ChurchyardBook$Tree" ({ cls := "java/lang/Object", name := "getClass", desc := "()Ljava/lang/Class;" } : Jvm.MethodName) ({ cls := "java/lang/Object", name := "getClass", desc := "()Ljava/lang/Class;" } : Jvm.MethodName)) ∈ lw_all := lw_g (lw_at lw_m2 93 rfl) rfl
theorem q1050 : (Jvm.Cond.selects "ChurchyardBook$Tree" ({ cls := "java/lang/Object", name := "equals", desc := "(Ljava/lang/Object;)Z" } : Jvm.MethodName) ({ cls := "java/lang/Object", name := "equals", desc := "(Ljava/lang/Object;)Z" } : Jvm.MethodName)) ∈ lw_all := lw_g (lw_at lw_m5 4 rfl) rfl
theorem q1627 : (Jvm.Cond.selects "ChurchyardBook$Tree" ({ cls := "ChurchyardBook$Place", name := "what", desc := "()I" } : Jvm.MethodName) ({ cls := "ChurchyardBook$Tree", name := "what", desc := "()I" } : Jvm.MethodName)) ∈ lw_all := lw_g (lw_at lw_m7 101 rfl) rfl
theorem q1628 : (Jvm.Cond.instanceMethod ({ cls := "ChurchyardBook$Tree", name := "what", desc := "()I" } : Jvm.MethodName)) ∈ lw_all := lw_g (lw_at lw_m7 102 rfl) rfl
theorem q1629 : (Jvm.Cond.code ({ cls := "ChurchyardBook$Tree", name := "what", desc := "()I" } : Jvm.MethodName) prog_17_method_2_code (1 : Nat) (Option.some Jvm.ClassFile.FieldType.int)) ∈ lw_all := lw_g (lw_at lw_m7 103 rfl) rfl
theorem q2261 : (Jvm.Cond.castable "ChurchyardBook$Tree" "java/lang/Object") ∈ lw_tbl := lw_at lw_m10 15 rfl
theorem q2282 : (Jvm.Cond.castable "ChurchyardBook$Tree" "ChurchyardBook$Place") ∈ lw_tbl := lw_at lw_m10 36 rfl

/-! ChurchyardBook$Way -/
set_option maxRecDepth 100000
def RX4 : String := "ChurchyardBook$Way"
abbrev cX4_init : ByteArray := prog_19_method_1_code
def yX4_init : MethodName := ⟨RX4, "<init>", "()V"⟩
theorem dX4_init_0 : decode cX4_init 0 = .ok (.aload_n 0, 1) := by decide +kernel
theorem dX4_init_1 : decode cX4_init 1 = .ok (.invokespecial 1, 3) := by decide +kernel
theorem dX4_init_4 : decode cX4_init 4 = .ok (.return_, 1) := by decide +kernel
abbrev cX4_what : ByteArray := prog_19_method_2_code
def yX4_what : MethodName := ⟨RX4, "what", "()I"⟩
theorem dX4_what_0 : decode cX4_what 0 = .ok (.iconst 2, 1) := by decide +kernel
theorem dX4_what_1 : decode cX4_what 1 = .ok (.ireturn, 1) := by decide +kernel
theorem q90 : (Jvm.Cond.initialized "ChurchyardBook$Way") ∈ lw_all := lw_g (lw_at lw_m1 4 rfl) rfl
theorem q143 : (Jvm.Cond.instantiable "ChurchyardBook$Way" (0 : Nat)) ∈ lw_all := lw_g (lw_at lw_m1 57 rfl) rfl
theorem q145 : (Jvm.Cond.instanceMethod ({ cls := "ChurchyardBook$Way", name := "<init>", desc := "()V" } : Jvm.MethodName)) ∈ lw_all := lw_g (lw_at lw_m1 59 rfl) rfl
theorem q146 : (Jvm.Cond.code ({ cls := "ChurchyardBook$Way", name := "<init>", desc := "()V" } : Jvm.MethodName) prog_19_method_1_code (1 : Nat) (Option.none : Option Jvm.ClassFile.FieldType)) ∈ lw_all := lw_g (lw_at lw_m1 60 rfl) rfl
theorem q147 : (Jvm.Cond.methodLinkNest "ChurchyardBook$Way" (1 : Nat) ({ cls := "ChurchyardBook$Place", name := "<init>", desc := "()V" } : Jvm.MethodName) "ChurchyardBook") ∈ lw_tbl := lw_at lw_m1 61 rfl
theorem q148 : (Jvm.Cond.superclass "ChurchyardBook$Way" "ChurchyardBook$Place") ∈ lw_all := lw_g (lw_at lw_m1 62 rfl) rfl
theorem q421 : (Jvm.Cond.selects "ChurchyardBook$Way" ({ cls := "java/lang/Object", name := "getClass", desc := "()Ljava/lang/Class;" } : Jvm.MethodName) ({ cls := "java/lang/Object", name := "getClass", desc := "()Ljava/lang/Class;" } : Jvm.MethodName)) ∈ lw_all := lw_g (lw_at lw_m2 95 rfl) rfl
theorem q1052 : (Jvm.Cond.selects "ChurchyardBook$Way" ({ cls := "java/lang/Object", name := "equals", desc := "(Ljava/lang/Object;)Z" } : Jvm.MethodName) ({ cls := "java/lang/Object", name := "equals", desc := "(Ljava/lang/Object;)Z" } : Jvm.MethodName)) ∈ lw_all := lw_g (lw_at lw_m5 6 rfl) rfl
theorem q1631 : (Jvm.Cond.selects "ChurchyardBook$Way" ({ cls := "ChurchyardBook$Place", name := "what", desc := "()I" } : Jvm.MethodName) ({ cls := "ChurchyardBook$Way", name := "what", desc := "()I" } : Jvm.MethodName)) ∈ lw_all := lw_g (lw_at lw_m7 105 rfl) rfl
theorem q1632 : (Jvm.Cond.instanceMethod ({ cls := "ChurchyardBook$Way", name := "what", desc := "()I" } : Jvm.MethodName)) ∈ lw_all := lw_g (lw_at lw_m7 106 rfl) rfl
theorem q1633 : (Jvm.Cond.code ({ cls := "ChurchyardBook$Way", name := "what", desc := "()I" } : Jvm.MethodName) prog_19_method_2_code (1 : Nat) (Option.some Jvm.ClassFile.FieldType.int)) ∈ lw_all := lw_g (lw_at lw_m7 107 rfl) rfl
theorem q2262 : (Jvm.Cond.castable "ChurchyardBook$Way" "java/lang/Object") ∈ lw_tbl := lw_at lw_m10 16 rfl
theorem q2283 : (Jvm.Cond.castable "ChurchyardBook$Way" "ChurchyardBook$Place") ∈ lw_tbl := lw_at lw_m10 37 rfl

/-! ChurchyardBook$Book -/
set_option maxRecDepth 100000
def RX5 : String := "ChurchyardBook$Book"
def TX5 : u_T := fun k => match k with
  | 0 => ("ChurchyardBook$Book", "fields", "Ljava/util/ArrayList;", true)
  | 1 => ("ChurchyardBook$Book", "graves", "Ljava/util/ArrayList;", true)
  | 2 => ("ChurchyardBook$Book", "persons", "Ljava/util/ArrayList;", true)
  | 3 => ("ChurchyardBook$Book", "today", "I", false)
  | 4 => ("ChurchyardBook$Book", "prices", "I", false)
  | _ => ("ChurchyardBook$Book", "this$0", "LChurchyardBook;", true)
def tyX5 : Nat → FieldType := fun k => match k with
  | 0 => .object "java/util/ArrayList"
  | 1 => .object "java/util/ArrayList"
  | 2 => .object "java/util/ArrayList"
  | 3 => .int
  | 4 => .int
  | _ => .object "ChurchyardBook"
abbrev wsX50 : List Cond := u_ws RX5 TX5 6
theorem nmX5 : ∀ a, a < 6 → ∀ b, b < 6 → a ≠ b → (TX5 a).2.1 ≠ (TX5 b).2.1 := by decide +kernel
theorem tyX5_ok : ∀ k, k < 6 → parseFieldDescriptor (TX5 k).2.2.1 = some (tyX5 k) := by decide +kernel
abbrev cX5_init : ByteArray := prog_2_method_1_code
def yX5_init : MethodName := ⟨RX5, "<init>", "(LChurchyardBook;)V"⟩
def dkwX5_init_1 : List UInt8 := [187, 0, 15, 89, 183, 0, 24, 181, 0, 25, 42, 187, 0, 15, 89, 183, 0, 24, 181, 0, 28, 177]
abbrev dktX5_init_1 : List UInt8 := dkwX5_init_1 ++ []
def dkwX5_init_0 : List UInt8 := [42, 43, 181, 0, 3, 42, 183, 0, 9, 42, 187, 0, 15, 89, 5, 183, 0, 17, 181, 0, 20, 42]
abbrev dktX5_init_0 : List UInt8 := dkwX5_init_0 ++ dktX5_init_1
theorem dksX5_init_0 : cX5_init.data.toList.drop 0 = dktX5_init_0 := by decide +kernel
theorem dksX5_init_1 : cX5_init.data.toList.drop 22 = dktX5_init_1 := dk_seg dksX5_init_0 22 rfl rfl
theorem dX5_init_0 : decode cX5_init 0 = .ok (.aload_n 0, 1) := dk_42 (dk_at dksX5_init_0 0 rfl rfl)
theorem dX5_init_1 : decode cX5_init 1 = .ok (.aload_n 1, 1) := dk_43 (dk_at dksX5_init_0 1 rfl rfl)
theorem dX5_init_2 : decode cX5_init 2 = .ok (.putfield 3, 3) := dk_181 0 3 (dk_at dksX5_init_0 2 rfl rfl)
theorem dX5_init_5 : decode cX5_init 5 = .ok (.aload_n 0, 1) := dk_42 (dk_at dksX5_init_0 5 rfl rfl)
theorem dX5_init_6 : decode cX5_init 6 = .ok (.invokespecial 9, 3) := dk_183 0 9 (dk_at dksX5_init_0 6 rfl rfl)
theorem dX5_init_9 : decode cX5_init 9 = .ok (.aload_n 0, 1) := dk_42 (dk_at dksX5_init_0 9 rfl rfl)
theorem dX5_init_10 : decode cX5_init 10 = .ok (.new 15, 3) := dk_187 0 15 (dk_at dksX5_init_0 10 rfl rfl)
theorem dX5_init_13 : decode cX5_init 13 = .ok (.dup, 1) := dk_89 (dk_at dksX5_init_0 13 rfl rfl)
theorem dX5_init_14 : decode cX5_init 14 = .ok (.iconst 2, 1) := dk_5 (dk_at dksX5_init_0 14 rfl rfl)
theorem dX5_init_15 : decode cX5_init 15 = .ok (.invokespecial 17, 3) := dk_183 0 17 (dk_at dksX5_init_0 15 rfl rfl)
theorem dX5_init_18 : decode cX5_init 18 = .ok (.putfield 20, 3) := dk_181 0 20 (dk_at dksX5_init_0 18 rfl rfl)
theorem dX5_init_21 : decode cX5_init 21 = .ok (.aload_n 0, 1) := dk_42 (dk_at dksX5_init_0 21 rfl rfl)
theorem dX5_init_22 : decode cX5_init 22 = .ok (.new 15, 3) := dk_187 0 15 (dk_at dksX5_init_1 0 rfl rfl)
theorem dX5_init_25 : decode cX5_init 25 = .ok (.dup, 1) := dk_89 (dk_at dksX5_init_1 3 rfl rfl)
theorem dX5_init_26 : decode cX5_init 26 = .ok (.invokespecial 24, 3) := dk_183 0 24 (dk_at dksX5_init_1 4 rfl rfl)
theorem dX5_init_29 : decode cX5_init 29 = .ok (.putfield 25, 3) := dk_181 0 25 (dk_at dksX5_init_1 7 rfl rfl)
theorem dX5_init_32 : decode cX5_init 32 = .ok (.aload_n 0, 1) := dk_42 (dk_at dksX5_init_1 10 rfl rfl)
theorem dX5_init_33 : decode cX5_init 33 = .ok (.new 15, 3) := dk_187 0 15 (dk_at dksX5_init_1 11 rfl rfl)
theorem dX5_init_36 : decode cX5_init 36 = .ok (.dup, 1) := dk_89 (dk_at dksX5_init_1 14 rfl rfl)
theorem dX5_init_37 : decode cX5_init 37 = .ok (.invokespecial 24, 3) := dk_183 0 24 (dk_at dksX5_init_1 15 rfl rfl)
theorem dX5_init_40 : decode cX5_init 40 = .ok (.putfield 28, 3) := dk_181 0 28 (dk_at dksX5_init_1 18 rfl rfl)
theorem dX5_init_43 : decode cX5_init 43 = .ok (.return_, 1) := dk_177 (dk_at dksX5_init_1 21 rfl rfl)
abbrev cX5_works : ByteArray := prog_2_method_43_code
def yX5_works : MethodName := ⟨RX5, "works", "(IIIIII)I"⟩
def dkwX5_works_13 : List UInt8 := [182, 1, 157, 172]
abbrev dktX5_works_13 : List UInt8 := dkwX5_works_13 ++ []
def dkwX5_works_12 : List UInt8 := [182, 1, 149, 172, 42, 28, 29, 21, 4, 21, 5, 182, 1, 152, 172, 42, 28, 182, 1, 155, 172, 42, 28]
abbrev dktX5_works_12 : List UInt8 := dkwX5_works_12 ++ dktX5_works_13
def dkwX5_works_11 : List UInt8 := [182, 1, 141, 172, 42, 28, 182, 1, 144, 172, 42, 28, 182, 1, 146, 172, 42, 28, 29, 21, 4, 21, 5]
abbrev dktX5_works_11 : List UInt8 := dkwX5_works_11 ++ dktX5_works_12
def dkwX5_works_10 : List UInt8 := [21, 4, 182, 1, 132, 172, 42, 28, 29, 182, 1, 135, 172, 42, 28, 29, 21, 4, 182, 1, 138, 172, 42, 28]
abbrev dktX5_works_10 : List UInt8 := dkwX5_works_10 ++ dktX5_works_11
def dkwX5_works_9 : List UInt8 := [182, 1, 123, 172, 42, 28, 29, 21, 4, 182, 1, 126, 172, 42, 28, 29, 182, 1, 129, 172, 42, 28, 29]
abbrev dktX5_works_9 : List UInt8 := dkwX5_works_9 ++ dktX5_works_10
def dkwX5_works_8 : List UInt8 := [29, 21, 4, 21, 5, 182, 1, 118, 172, 42, 28, 29, 21, 4, 21, 5, 21, 6, 182, 1, 120, 172, 42, 28]
abbrev dktX5_works_8 : List UInt8 := dkwX5_works_8 ++ dktX5_works_9
def dkwX5_works_7 : List UInt8 := [42, 28, 182, 1, 110, 172, 42, 28, 29, 21, 4, 182, 1, 112, 172, 42, 28, 29, 182, 1, 115, 172, 42, 28]
abbrev dktX5_works_7 : List UInt8 := dkwX5_works_7 ++ dktX5_works_8
def dkwX5_works_6 : List UInt8 := [170, 0, 0, 0, 0, 0, 0, 223, 0, 0, 0, 1, 0, 0, 0, 17, 0, 0, 0, 84, 0, 0, 0, 90, 0, 0, 0, 99, 0, 0, 0, 106, 0, 0, 0, 117, 0, 0, 0, 130, 0, 0, 0, 136, 0, 0, 0, 145, 0, 0, 0, 152, 0, 0, 0, 161, 0, 0, 0, 168, 0, 0, 0, 177, 0, 0, 0, 183, 0, 0, 0, 189, 0, 0, 0, 195, 0, 0, 0, 206, 0, 0, 0, 217]
abbrev dktX5_works_6 : List UInt8 := dkwX5_works_6 ++ dktX5_works_7
def dkwX5_works_5 : List UInt8 := [21, 7, 154, 0, 7, 4, 167, 0, 4, 3, 2, 184, 0, 43, 27]
abbrev dktX5_works_5 : List UInt8 := dkwX5_works_5 ++ dktX5_works_6
def dkwX5_works_4 : List UInt8 := [21, 4, 21, 5, 128, 21, 6, 128, 167, 0, 13, 29, 21, 4, 128, 21, 5, 128, 21, 6, 128, 54, 7]
abbrev dktX5_works_4 : List UInt8 := dkwX5_works_4 ++ dktX5_works_5
def dkwX5_works_3 : List UInt8 := [21, 6, 128, 167, 0, 41, 27, 6, 159, 0, 15, 27, 16, 8, 159, 0, 9, 27, 16, 10, 160, 0, 14]
abbrev dktX5_works_3 : List UInt8 := dkwX5_works_3 ++ dktX5_works_4
def dkwX5_works_2 : List UInt8 := [159, 0, 21, 27, 16, 7, 159, 0, 15, 27, 16, 9, 159, 0, 9, 27, 16, 11, 160, 0, 11, 21, 5]
abbrev dktX5_works_2 : List UInt8 := dkwX5_works_2 ++ dktX5_works_3
def dkwX5_works_1 : List UInt8 := [27, 7, 159, 0, 15, 27, 16, 15, 159, 0, 9, 27, 16, 16, 160, 0, 8, 21, 6, 167, 0, 72, 27, 5]
abbrev dktX5_works_1 : List UInt8 := dkwX5_works_1 ++ dktX5_works_2
def dkwX5_works_0 : List UInt8 := [27, 4, 161, 0, 9, 27, 16, 18, 164, 0, 7, 4, 167, 0, 103, 27, 8, 160, 0, 7, 3, 167, 0, 94]
abbrev dktX5_works_0 : List UInt8 := dkwX5_works_0 ++ dktX5_works_1
theorem dksX5_works_0 : cX5_works.data.toList.drop 0 = dktX5_works_0 := by decide +kernel
theorem dksX5_works_1 : cX5_works.data.toList.drop 24 = dktX5_works_1 := dk_seg dksX5_works_0 24 rfl rfl
theorem dksX5_works_2 : cX5_works.data.toList.drop 48 = dktX5_works_2 := dk_seg dksX5_works_1 24 rfl rfl
theorem dksX5_works_3 : cX5_works.data.toList.drop 71 = dktX5_works_3 := dk_seg dksX5_works_2 23 rfl rfl
theorem dksX5_works_4 : cX5_works.data.toList.drop 94 = dktX5_works_4 := dk_seg dksX5_works_3 23 rfl rfl
theorem dksX5_works_5 : cX5_works.data.toList.drop 117 = dktX5_works_5 := dk_seg dksX5_works_4 23 rfl rfl
theorem dksX5_works_6 : cX5_works.data.toList.drop 132 = dktX5_works_6 := dk_seg dksX5_works_5 15 rfl rfl
theorem dksX5_works_7 : cX5_works.data.toList.drop 216 = dktX5_works_7 := dk_seg dksX5_works_6 84 rfl rfl
theorem dksX5_works_8 : cX5_works.data.toList.drop 240 = dktX5_works_8 := dk_seg dksX5_works_7 24 rfl rfl
theorem dksX5_works_9 : cX5_works.data.toList.drop 264 = dktX5_works_9 := dk_seg dksX5_works_8 24 rfl rfl
theorem dksX5_works_10 : cX5_works.data.toList.drop 287 = dktX5_works_10 := dk_seg dksX5_works_9 23 rfl rfl
theorem dksX5_works_11 : cX5_works.data.toList.drop 311 = dktX5_works_11 := dk_seg dksX5_works_10 24 rfl rfl
theorem dksX5_works_12 : cX5_works.data.toList.drop 334 = dktX5_works_12 := dk_seg dksX5_works_11 23 rfl rfl
theorem dksX5_works_13 : cX5_works.data.toList.drop 357 = dktX5_works_13 := dk_seg dksX5_works_12 23 rfl rfl
theorem dX5_works_0 : decode cX5_works 0 = .ok (.iload_n 1, 1) := dk_27 (dk_at dksX5_works_0 0 rfl rfl)
theorem dX5_works_1 : decode cX5_works 1 = .ok (.iconst 1, 1) := dk_4 (dk_at dksX5_works_0 1 rfl rfl)
theorem dX5_works_2 : decode cX5_works 2 = .ok (.if_icmp .lt 9, 3) := dk_161 0 9 (dk_at dksX5_works_0 2 rfl rfl)
theorem dX5_works_5 : decode cX5_works 5 = .ok (.iload_n 1, 1) := dk_27 (dk_at dksX5_works_0 5 rfl rfl)
theorem dX5_works_6 : decode cX5_works 6 = .ok (.bipush 18, 2) := dk_16 18 (dk_at dksX5_works_0 6 rfl rfl)
theorem dX5_works_8 : decode cX5_works 8 = .ok (.if_icmp .le 7, 3) := dk_164 0 7 (dk_at dksX5_works_0 8 rfl rfl)
theorem dX5_works_11 : decode cX5_works 11 = .ok (.iconst 1, 1) := dk_4 (dk_at dksX5_works_0 11 rfl rfl)
theorem dX5_works_12 : decode cX5_works 12 = .ok (.goto 103, 3) := dk_167 0 103 (dk_at dksX5_works_0 12 rfl rfl)
theorem dX5_works_15 : decode cX5_works 15 = .ok (.iload_n 1, 1) := dk_27 (dk_at dksX5_works_0 15 rfl rfl)
theorem dX5_works_16 : decode cX5_works 16 = .ok (.iconst 5, 1) := dk_8 (dk_at dksX5_works_0 16 rfl rfl)
theorem dX5_works_17 : decode cX5_works 17 = .ok (.if_icmp .ne 7, 3) := dk_160 0 7 (dk_at dksX5_works_0 17 rfl rfl)
theorem dX5_works_20 : decode cX5_works 20 = .ok (.iconst 0, 1) := dk_3 (dk_at dksX5_works_0 20 rfl rfl)
theorem dX5_works_21 : decode cX5_works 21 = .ok (.goto 94, 3) := dk_167 0 94 (dk_at dksX5_works_0 21 rfl rfl)
theorem dX5_works_24 : decode cX5_works 24 = .ok (.iload_n 1, 1) := dk_27 (dk_at dksX5_works_1 0 rfl rfl)
theorem dX5_works_25 : decode cX5_works 25 = .ok (.iconst 4, 1) := dk_7 (dk_at dksX5_works_1 1 rfl rfl)
theorem dX5_works_26 : decode cX5_works 26 = .ok (.if_icmp .eq 15, 3) := dk_159 0 15 (dk_at dksX5_works_1 2 rfl rfl)
theorem dX5_works_29 : decode cX5_works 29 = .ok (.iload_n 1, 1) := dk_27 (dk_at dksX5_works_1 5 rfl rfl)
theorem dX5_works_30 : decode cX5_works 30 = .ok (.bipush 15, 2) := dk_16 15 (dk_at dksX5_works_1 6 rfl rfl)
theorem dX5_works_32 : decode cX5_works 32 = .ok (.if_icmp .eq 9, 3) := dk_159 0 9 (dk_at dksX5_works_1 8 rfl rfl)
theorem dX5_works_35 : decode cX5_works 35 = .ok (.iload_n 1, 1) := dk_27 (dk_at dksX5_works_1 11 rfl rfl)
theorem dX5_works_36 : decode cX5_works 36 = .ok (.bipush 16, 2) := dk_16 16 (dk_at dksX5_works_1 12 rfl rfl)
theorem dX5_works_38 : decode cX5_works 38 = .ok (.if_icmp .ne 8, 3) := dk_160 0 8 (dk_at dksX5_works_1 14 rfl rfl)
theorem dX5_works_41 : decode cX5_works 41 = .ok (.iload 6, 2) := dk_21 6 (dk_at dksX5_works_1 17 rfl rfl)
theorem dX5_works_43 : decode cX5_works 43 = .ok (.goto 72, 3) := dk_167 0 72 (dk_at dksX5_works_1 19 rfl rfl)
theorem dX5_works_46 : decode cX5_works 46 = .ok (.iload_n 1, 1) := dk_27 (dk_at dksX5_works_1 22 rfl rfl)
theorem dX5_works_47 : decode cX5_works 47 = .ok (.iconst 2, 1) := dk_5 (dk_at dksX5_works_1 23 rfl rfl)
theorem dX5_works_48 : decode cX5_works 48 = .ok (.if_icmp .eq 21, 3) := dk_159 0 21 (dk_at dksX5_works_2 0 rfl rfl)
theorem dX5_works_51 : decode cX5_works 51 = .ok (.iload_n 1, 1) := dk_27 (dk_at dksX5_works_2 3 rfl rfl)
theorem dX5_works_52 : decode cX5_works 52 = .ok (.bipush 7, 2) := dk_16 7 (dk_at dksX5_works_2 4 rfl rfl)
theorem dX5_works_54 : decode cX5_works 54 = .ok (.if_icmp .eq 15, 3) := dk_159 0 15 (dk_at dksX5_works_2 6 rfl rfl)
theorem dX5_works_57 : decode cX5_works 57 = .ok (.iload_n 1, 1) := dk_27 (dk_at dksX5_works_2 9 rfl rfl)
theorem dX5_works_58 : decode cX5_works 58 = .ok (.bipush 9, 2) := dk_16 9 (dk_at dksX5_works_2 10 rfl rfl)
theorem dX5_works_60 : decode cX5_works 60 = .ok (.if_icmp .eq 9, 3) := dk_159 0 9 (dk_at dksX5_works_2 12 rfl rfl)
theorem dX5_works_63 : decode cX5_works 63 = .ok (.iload_n 1, 1) := dk_27 (dk_at dksX5_works_2 15 rfl rfl)
theorem dX5_works_64 : decode cX5_works 64 = .ok (.bipush 11, 2) := dk_16 11 (dk_at dksX5_works_2 16 rfl rfl)
theorem dX5_works_66 : decode cX5_works 66 = .ok (.if_icmp .ne 11, 3) := dk_160 0 11 (dk_at dksX5_works_2 18 rfl rfl)
theorem dX5_works_69 : decode cX5_works 69 = .ok (.iload 5, 2) := dk_21 5 (dk_at dksX5_works_2 21 rfl rfl)
theorem dX5_works_71 : decode cX5_works 71 = .ok (.iload 6, 2) := dk_21 6 (dk_at dksX5_works_3 0 rfl rfl)
theorem dX5_works_73 : decode cX5_works 73 = .ok (.ior, 1) := dk_128 (dk_at dksX5_works_3 2 rfl rfl)
theorem dX5_works_74 : decode cX5_works 74 = .ok (.goto 41, 3) := dk_167 0 41 (dk_at dksX5_works_3 3 rfl rfl)
theorem dX5_works_77 : decode cX5_works 77 = .ok (.iload_n 1, 1) := dk_27 (dk_at dksX5_works_3 6 rfl rfl)
theorem dX5_works_78 : decode cX5_works 78 = .ok (.iconst 3, 1) := dk_6 (dk_at dksX5_works_3 7 rfl rfl)
theorem dX5_works_79 : decode cX5_works 79 = .ok (.if_icmp .eq 15, 3) := dk_159 0 15 (dk_at dksX5_works_3 8 rfl rfl)
theorem dX5_works_82 : decode cX5_works 82 = .ok (.iload_n 1, 1) := dk_27 (dk_at dksX5_works_3 11 rfl rfl)
theorem dX5_works_83 : decode cX5_works 83 = .ok (.bipush 8, 2) := dk_16 8 (dk_at dksX5_works_3 12 rfl rfl)
theorem dX5_works_85 : decode cX5_works 85 = .ok (.if_icmp .eq 9, 3) := dk_159 0 9 (dk_at dksX5_works_3 14 rfl rfl)
theorem dX5_works_88 : decode cX5_works 88 = .ok (.iload_n 1, 1) := dk_27 (dk_at dksX5_works_3 17 rfl rfl)
theorem dX5_works_89 : decode cX5_works 89 = .ok (.bipush 10, 2) := dk_16 10 (dk_at dksX5_works_3 18 rfl rfl)
theorem dX5_works_91 : decode cX5_works 91 = .ok (.if_icmp .ne 14, 3) := dk_160 0 14 (dk_at dksX5_works_3 20 rfl rfl)
theorem dX5_works_94 : decode cX5_works 94 = .ok (.iload 4, 2) := dk_21 4 (dk_at dksX5_works_4 0 rfl rfl)
theorem dX5_works_96 : decode cX5_works 96 = .ok (.iload 5, 2) := dk_21 5 (dk_at dksX5_works_4 2 rfl rfl)
theorem dX5_works_98 : decode cX5_works 98 = .ok (.ior, 1) := dk_128 (dk_at dksX5_works_4 4 rfl rfl)
theorem dX5_works_99 : decode cX5_works 99 = .ok (.iload 6, 2) := dk_21 6 (dk_at dksX5_works_4 5 rfl rfl)
theorem dX5_works_101 : decode cX5_works 101 = .ok (.ior, 1) := dk_128 (dk_at dksX5_works_4 7 rfl rfl)
theorem dX5_works_102 : decode cX5_works 102 = .ok (.goto 13, 3) := dk_167 0 13 (dk_at dksX5_works_4 8 rfl rfl)
theorem dX5_works_105 : decode cX5_works 105 = .ok (.iload_n 3, 1) := dk_29 (dk_at dksX5_works_4 11 rfl rfl)
theorem dX5_works_106 : decode cX5_works 106 = .ok (.iload 4, 2) := dk_21 4 (dk_at dksX5_works_4 12 rfl rfl)
theorem dX5_works_108 : decode cX5_works 108 = .ok (.ior, 1) := dk_128 (dk_at dksX5_works_4 14 rfl rfl)
theorem dX5_works_109 : decode cX5_works 109 = .ok (.iload 5, 2) := dk_21 5 (dk_at dksX5_works_4 15 rfl rfl)
theorem dX5_works_111 : decode cX5_works 111 = .ok (.ior, 1) := dk_128 (dk_at dksX5_works_4 17 rfl rfl)
theorem dX5_works_112 : decode cX5_works 112 = .ok (.iload 6, 2) := dk_21 6 (dk_at dksX5_works_4 18 rfl rfl)
theorem dX5_works_114 : decode cX5_works 114 = .ok (.ior, 1) := dk_128 (dk_at dksX5_works_4 20 rfl rfl)
theorem dX5_works_115 : decode cX5_works 115 = .ok (.istore 7, 2) := dk_54 7 (dk_at dksX5_works_4 21 rfl rfl)
theorem dX5_works_117 : decode cX5_works 117 = .ok (.iload 7, 2) := dk_21 7 (dk_at dksX5_works_5 0 rfl rfl)
theorem dX5_works_119 : decode cX5_works 119 = .ok (.ifCond .ne 7, 3) := dk_154 0 7 (dk_at dksX5_works_5 2 rfl rfl)
theorem dX5_works_122 : decode cX5_works 122 = .ok (.iconst 1, 1) := dk_4 (dk_at dksX5_works_5 5 rfl rfl)
theorem dX5_works_123 : decode cX5_works 123 = .ok (.goto 4, 3) := dk_167 0 4 (dk_at dksX5_works_5 6 rfl rfl)
theorem dX5_works_126 : decode cX5_works 126 = .ok (.iconst 0, 1) := dk_3 (dk_at dksX5_works_5 9 rfl rfl)
theorem dX5_works_127 : decode cX5_works 127 = .ok (.iconst (-1), 1) := dk_2 (dk_at dksX5_works_5 10 rfl rfl)
theorem dX5_works_128 : decode cX5_works 128 = .ok (.invokestatic 43, 3) := dk_184 0 43 (dk_at dksX5_works_5 11 rfl rfl)
theorem dX5_works_131 : decode cX5_works 131 = .ok (.iload_n 1, 1) := dk_27 (dk_at dksX5_works_5 14 rfl rfl)
theorem dX5_works_132 : decode cX5_works 132 = .ok (.tableswitch 223 1 17 #[84, 90, 99, 106, 117, 130, 136, 145, 152, 161, 168, 177, 183, 189, 195, 206, 217], 84) := by decide +kernel
theorem dX5_works_216 : decode cX5_works 216 = .ok (.aload_n 0, 1) := dk_42 (dk_at dksX5_works_7 0 rfl rfl)
theorem dX5_works_217 : decode cX5_works 217 = .ok (.iload_n 2, 1) := dk_28 (dk_at dksX5_works_7 1 rfl rfl)
theorem dX5_works_218 : decode cX5_works 218 = .ok (.invokevirtual 366, 3) := dk_182 1 110 (dk_at dksX5_works_7 2 rfl rfl)
theorem dX5_works_221 : decode cX5_works 221 = .ok (.ireturn, 1) := dk_172 (dk_at dksX5_works_7 5 rfl rfl)
theorem dX5_works_222 : decode cX5_works 222 = .ok (.aload_n 0, 1) := dk_42 (dk_at dksX5_works_7 6 rfl rfl)
theorem dX5_works_223 : decode cX5_works 223 = .ok (.iload_n 2, 1) := dk_28 (dk_at dksX5_works_7 7 rfl rfl)
theorem dX5_works_224 : decode cX5_works 224 = .ok (.iload_n 3, 1) := dk_29 (dk_at dksX5_works_7 8 rfl rfl)
theorem dX5_works_225 : decode cX5_works 225 = .ok (.iload 4, 2) := dk_21 4 (dk_at dksX5_works_7 9 rfl rfl)
theorem dX5_works_227 : decode cX5_works 227 = .ok (.invokevirtual 368, 3) := dk_182 1 112 (dk_at dksX5_works_7 11 rfl rfl)
theorem dX5_works_230 : decode cX5_works 230 = .ok (.ireturn, 1) := dk_172 (dk_at dksX5_works_7 14 rfl rfl)
theorem dX5_works_231 : decode cX5_works 231 = .ok (.aload_n 0, 1) := dk_42 (dk_at dksX5_works_7 15 rfl rfl)
theorem dX5_works_232 : decode cX5_works 232 = .ok (.iload_n 2, 1) := dk_28 (dk_at dksX5_works_7 16 rfl rfl)
theorem dX5_works_233 : decode cX5_works 233 = .ok (.iload_n 3, 1) := dk_29 (dk_at dksX5_works_7 17 rfl rfl)
theorem dX5_works_234 : decode cX5_works 234 = .ok (.invokevirtual 371, 3) := dk_182 1 115 (dk_at dksX5_works_7 18 rfl rfl)
theorem dX5_works_237 : decode cX5_works 237 = .ok (.ireturn, 1) := dk_172 (dk_at dksX5_works_7 21 rfl rfl)
theorem dX5_works_238 : decode cX5_works 238 = .ok (.aload_n 0, 1) := dk_42 (dk_at dksX5_works_7 22 rfl rfl)
theorem dX5_works_239 : decode cX5_works 239 = .ok (.iload_n 2, 1) := dk_28 (dk_at dksX5_works_7 23 rfl rfl)
theorem dX5_works_240 : decode cX5_works 240 = .ok (.iload_n 3, 1) := dk_29 (dk_at dksX5_works_8 0 rfl rfl)
theorem dX5_works_241 : decode cX5_works 241 = .ok (.iload 4, 2) := dk_21 4 (dk_at dksX5_works_8 1 rfl rfl)
theorem dX5_works_243 : decode cX5_works 243 = .ok (.iload 5, 2) := dk_21 5 (dk_at dksX5_works_8 3 rfl rfl)
theorem dX5_works_245 : decode cX5_works 245 = .ok (.invokevirtual 374, 3) := dk_182 1 118 (dk_at dksX5_works_8 5 rfl rfl)
theorem dX5_works_248 : decode cX5_works 248 = .ok (.ireturn, 1) := dk_172 (dk_at dksX5_works_8 8 rfl rfl)
theorem dX5_works_249 : decode cX5_works 249 = .ok (.aload_n 0, 1) := dk_42 (dk_at dksX5_works_8 9 rfl rfl)
theorem dX5_works_250 : decode cX5_works 250 = .ok (.iload_n 2, 1) := dk_28 (dk_at dksX5_works_8 10 rfl rfl)
theorem dX5_works_251 : decode cX5_works 251 = .ok (.iload_n 3, 1) := dk_29 (dk_at dksX5_works_8 11 rfl rfl)
theorem dX5_works_252 : decode cX5_works 252 = .ok (.iload 4, 2) := dk_21 4 (dk_at dksX5_works_8 12 rfl rfl)
theorem dX5_works_254 : decode cX5_works 254 = .ok (.iload 5, 2) := dk_21 5 (dk_at dksX5_works_8 14 rfl rfl)
theorem dX5_works_256 : decode cX5_works 256 = .ok (.iload 6, 2) := dk_21 6 (dk_at dksX5_works_8 16 rfl rfl)
theorem dX5_works_258 : decode cX5_works 258 = .ok (.invokevirtual 376, 3) := dk_182 1 120 (dk_at dksX5_works_8 18 rfl rfl)
theorem dX5_works_261 : decode cX5_works 261 = .ok (.ireturn, 1) := dk_172 (dk_at dksX5_works_8 21 rfl rfl)
theorem dX5_works_262 : decode cX5_works 262 = .ok (.aload_n 0, 1) := dk_42 (dk_at dksX5_works_8 22 rfl rfl)
theorem dX5_works_263 : decode cX5_works 263 = .ok (.iload_n 2, 1) := dk_28 (dk_at dksX5_works_8 23 rfl rfl)
theorem dX5_works_264 : decode cX5_works 264 = .ok (.invokevirtual 379, 3) := dk_182 1 123 (dk_at dksX5_works_9 0 rfl rfl)
theorem dX5_works_267 : decode cX5_works 267 = .ok (.ireturn, 1) := dk_172 (dk_at dksX5_works_9 3 rfl rfl)
theorem dX5_works_268 : decode cX5_works 268 = .ok (.aload_n 0, 1) := dk_42 (dk_at dksX5_works_9 4 rfl rfl)
theorem dX5_works_269 : decode cX5_works 269 = .ok (.iload_n 2, 1) := dk_28 (dk_at dksX5_works_9 5 rfl rfl)
theorem dX5_works_270 : decode cX5_works 270 = .ok (.iload_n 3, 1) := dk_29 (dk_at dksX5_works_9 6 rfl rfl)
theorem dX5_works_271 : decode cX5_works 271 = .ok (.iload 4, 2) := dk_21 4 (dk_at dksX5_works_9 7 rfl rfl)
theorem dX5_works_273 : decode cX5_works 273 = .ok (.invokevirtual 382, 3) := dk_182 1 126 (dk_at dksX5_works_9 9 rfl rfl)
theorem dX5_works_276 : decode cX5_works 276 = .ok (.ireturn, 1) := dk_172 (dk_at dksX5_works_9 12 rfl rfl)
theorem dX5_works_277 : decode cX5_works 277 = .ok (.aload_n 0, 1) := dk_42 (dk_at dksX5_works_9 13 rfl rfl)
theorem dX5_works_278 : decode cX5_works 278 = .ok (.iload_n 2, 1) := dk_28 (dk_at dksX5_works_9 14 rfl rfl)
theorem dX5_works_279 : decode cX5_works 279 = .ok (.iload_n 3, 1) := dk_29 (dk_at dksX5_works_9 15 rfl rfl)
theorem dX5_works_280 : decode cX5_works 280 = .ok (.invokevirtual 385, 3) := dk_182 1 129 (dk_at dksX5_works_9 16 rfl rfl)
theorem dX5_works_283 : decode cX5_works 283 = .ok (.ireturn, 1) := dk_172 (dk_at dksX5_works_9 19 rfl rfl)
theorem dX5_works_284 : decode cX5_works 284 = .ok (.aload_n 0, 1) := dk_42 (dk_at dksX5_works_9 20 rfl rfl)
theorem dX5_works_285 : decode cX5_works 285 = .ok (.iload_n 2, 1) := dk_28 (dk_at dksX5_works_9 21 rfl rfl)
theorem dX5_works_286 : decode cX5_works 286 = .ok (.iload_n 3, 1) := dk_29 (dk_at dksX5_works_9 22 rfl rfl)
theorem dX5_works_287 : decode cX5_works 287 = .ok (.iload 4, 2) := dk_21 4 (dk_at dksX5_works_10 0 rfl rfl)
theorem dX5_works_289 : decode cX5_works 289 = .ok (.invokevirtual 388, 3) := dk_182 1 132 (dk_at dksX5_works_10 2 rfl rfl)
theorem dX5_works_292 : decode cX5_works 292 = .ok (.ireturn, 1) := dk_172 (dk_at dksX5_works_10 5 rfl rfl)
theorem dX5_works_293 : decode cX5_works 293 = .ok (.aload_n 0, 1) := dk_42 (dk_at dksX5_works_10 6 rfl rfl)
theorem dX5_works_294 : decode cX5_works 294 = .ok (.iload_n 2, 1) := dk_28 (dk_at dksX5_works_10 7 rfl rfl)
theorem dX5_works_295 : decode cX5_works 295 = .ok (.iload_n 3, 1) := dk_29 (dk_at dksX5_works_10 8 rfl rfl)
theorem dX5_works_296 : decode cX5_works 296 = .ok (.invokevirtual 391, 3) := dk_182 1 135 (dk_at dksX5_works_10 9 rfl rfl)
theorem dX5_works_299 : decode cX5_works 299 = .ok (.ireturn, 1) := dk_172 (dk_at dksX5_works_10 12 rfl rfl)
theorem dX5_works_300 : decode cX5_works 300 = .ok (.aload_n 0, 1) := dk_42 (dk_at dksX5_works_10 13 rfl rfl)
theorem dX5_works_301 : decode cX5_works 301 = .ok (.iload_n 2, 1) := dk_28 (dk_at dksX5_works_10 14 rfl rfl)
theorem dX5_works_302 : decode cX5_works 302 = .ok (.iload_n 3, 1) := dk_29 (dk_at dksX5_works_10 15 rfl rfl)
theorem dX5_works_303 : decode cX5_works 303 = .ok (.iload 4, 2) := dk_21 4 (dk_at dksX5_works_10 16 rfl rfl)
theorem dX5_works_305 : decode cX5_works 305 = .ok (.invokevirtual 394, 3) := dk_182 1 138 (dk_at dksX5_works_10 18 rfl rfl)
theorem dX5_works_308 : decode cX5_works 308 = .ok (.ireturn, 1) := dk_172 (dk_at dksX5_works_10 21 rfl rfl)
theorem dX5_works_309 : decode cX5_works 309 = .ok (.aload_n 0, 1) := dk_42 (dk_at dksX5_works_10 22 rfl rfl)
theorem dX5_works_310 : decode cX5_works 310 = .ok (.iload_n 2, 1) := dk_28 (dk_at dksX5_works_10 23 rfl rfl)
theorem dX5_works_311 : decode cX5_works 311 = .ok (.invokevirtual 397, 3) := dk_182 1 141 (dk_at dksX5_works_11 0 rfl rfl)
theorem dX5_works_314 : decode cX5_works 314 = .ok (.ireturn, 1) := dk_172 (dk_at dksX5_works_11 3 rfl rfl)
theorem dX5_works_315 : decode cX5_works 315 = .ok (.aload_n 0, 1) := dk_42 (dk_at dksX5_works_11 4 rfl rfl)
theorem dX5_works_316 : decode cX5_works 316 = .ok (.iload_n 2, 1) := dk_28 (dk_at dksX5_works_11 5 rfl rfl)
theorem dX5_works_317 : decode cX5_works 317 = .ok (.invokevirtual 400, 3) := dk_182 1 144 (dk_at dksX5_works_11 6 rfl rfl)
theorem dX5_works_320 : decode cX5_works 320 = .ok (.ireturn, 1) := dk_172 (dk_at dksX5_works_11 9 rfl rfl)
theorem dX5_works_321 : decode cX5_works 321 = .ok (.aload_n 0, 1) := dk_42 (dk_at dksX5_works_11 10 rfl rfl)
theorem dX5_works_322 : decode cX5_works 322 = .ok (.iload_n 2, 1) := dk_28 (dk_at dksX5_works_11 11 rfl rfl)
theorem dX5_works_323 : decode cX5_works 323 = .ok (.invokevirtual 402, 3) := dk_182 1 146 (dk_at dksX5_works_11 12 rfl rfl)
theorem dX5_works_326 : decode cX5_works 326 = .ok (.ireturn, 1) := dk_172 (dk_at dksX5_works_11 15 rfl rfl)
theorem dX5_works_327 : decode cX5_works 327 = .ok (.aload_n 0, 1) := dk_42 (dk_at dksX5_works_11 16 rfl rfl)
theorem dX5_works_328 : decode cX5_works 328 = .ok (.iload_n 2, 1) := dk_28 (dk_at dksX5_works_11 17 rfl rfl)
theorem dX5_works_329 : decode cX5_works 329 = .ok (.iload_n 3, 1) := dk_29 (dk_at dksX5_works_11 18 rfl rfl)
theorem dX5_works_330 : decode cX5_works 330 = .ok (.iload 4, 2) := dk_21 4 (dk_at dksX5_works_11 19 rfl rfl)
theorem dX5_works_332 : decode cX5_works 332 = .ok (.iload 5, 2) := dk_21 5 (dk_at dksX5_works_11 21 rfl rfl)
theorem dX5_works_334 : decode cX5_works 334 = .ok (.invokevirtual 405, 3) := dk_182 1 149 (dk_at dksX5_works_12 0 rfl rfl)
theorem dX5_works_337 : decode cX5_works 337 = .ok (.ireturn, 1) := dk_172 (dk_at dksX5_works_12 3 rfl rfl)
theorem dX5_works_338 : decode cX5_works 338 = .ok (.aload_n 0, 1) := dk_42 (dk_at dksX5_works_12 4 rfl rfl)
theorem dX5_works_339 : decode cX5_works 339 = .ok (.iload_n 2, 1) := dk_28 (dk_at dksX5_works_12 5 rfl rfl)
theorem dX5_works_340 : decode cX5_works 340 = .ok (.iload_n 3, 1) := dk_29 (dk_at dksX5_works_12 6 rfl rfl)
theorem dX5_works_341 : decode cX5_works 341 = .ok (.iload 4, 2) := dk_21 4 (dk_at dksX5_works_12 7 rfl rfl)
theorem dX5_works_343 : decode cX5_works 343 = .ok (.iload 5, 2) := dk_21 5 (dk_at dksX5_works_12 9 rfl rfl)
theorem dX5_works_345 : decode cX5_works 345 = .ok (.invokevirtual 408, 3) := dk_182 1 152 (dk_at dksX5_works_12 11 rfl rfl)
theorem dX5_works_348 : decode cX5_works 348 = .ok (.ireturn, 1) := dk_172 (dk_at dksX5_works_12 14 rfl rfl)
theorem dX5_works_349 : decode cX5_works 349 = .ok (.aload_n 0, 1) := dk_42 (dk_at dksX5_works_12 15 rfl rfl)
theorem dX5_works_350 : decode cX5_works 350 = .ok (.iload_n 2, 1) := dk_28 (dk_at dksX5_works_12 16 rfl rfl)
theorem dX5_works_351 : decode cX5_works 351 = .ok (.invokevirtual 411, 3) := dk_182 1 155 (dk_at dksX5_works_12 17 rfl rfl)
theorem dX5_works_354 : decode cX5_works 354 = .ok (.ireturn, 1) := dk_172 (dk_at dksX5_works_12 20 rfl rfl)
theorem dX5_works_355 : decode cX5_works 355 = .ok (.aload_n 0, 1) := dk_42 (dk_at dksX5_works_12 21 rfl rfl)
theorem dX5_works_356 : decode cX5_works 356 = .ok (.iload_n 2, 1) := dk_28 (dk_at dksX5_works_12 22 rfl rfl)
theorem dX5_works_357 : decode cX5_works 357 = .ok (.invokevirtual 413, 3) := dk_182 1 157 (dk_at dksX5_works_13 0 rfl rfl)
theorem dX5_works_360 : decode cX5_works 360 = .ok (.ireturn, 1) := dk_172 (dk_at dksX5_works_13 3 rfl rfl)
abbrev cX5_field : ByteArray := prog_2_method_10_code
def yX5_field : MethodName := ⟨RX5, "field", "(I)I"⟩
def dkwX5_field_2 : List UInt8 := [42, 180, 0, 20, 182, 0, 31, 4, 100, 172]
abbrev dktX5_field_2 : List UInt8 := dkwX5_field_2 ++ []
def dkwX5_field_1 : List UInt8 := [167, 0, 4, 3, 2, 184, 0, 43, 42, 180, 0, 20, 187, 0, 47, 89, 27, 183, 0, 76, 182, 0, 77, 87]
abbrev dktX5_field_1 : List UInt8 := dkwX5_field_1 ++ dktX5_field_2
def dkwX5_field_0 : List UInt8 := [27, 155, 0, 24, 27, 5, 163, 0, 19, 42, 180, 0, 20, 182, 0, 31, 16, 8, 162, 0, 7, 4]
abbrev dktX5_field_0 : List UInt8 := dkwX5_field_0 ++ dktX5_field_1
theorem dksX5_field_0 : cX5_field.data.toList.drop 0 = dktX5_field_0 := by decide +kernel
theorem dksX5_field_1 : cX5_field.data.toList.drop 22 = dktX5_field_1 := dk_seg dksX5_field_0 22 rfl rfl
theorem dksX5_field_2 : cX5_field.data.toList.drop 46 = dktX5_field_2 := dk_seg dksX5_field_1 24 rfl rfl
theorem dX5_field_0 : decode cX5_field 0 = .ok (.iload_n 1, 1) := dk_27 (dk_at dksX5_field_0 0 rfl rfl)
theorem dX5_field_1 : decode cX5_field 1 = .ok (.ifCond .lt 24, 3) := dk_155 0 24 (dk_at dksX5_field_0 1 rfl rfl)
theorem dX5_field_4 : decode cX5_field 4 = .ok (.iload_n 1, 1) := dk_27 (dk_at dksX5_field_0 4 rfl rfl)
theorem dX5_field_5 : decode cX5_field 5 = .ok (.iconst 2, 1) := dk_5 (dk_at dksX5_field_0 5 rfl rfl)
theorem dX5_field_6 : decode cX5_field 6 = .ok (.if_icmp .gt 19, 3) := dk_163 0 19 (dk_at dksX5_field_0 6 rfl rfl)
theorem dX5_field_9 : decode cX5_field 9 = .ok (.aload_n 0, 1) := dk_42 (dk_at dksX5_field_0 9 rfl rfl)
theorem dX5_field_10 : decode cX5_field 10 = .ok (.getfield 20, 3) := dk_180 0 20 (dk_at dksX5_field_0 10 rfl rfl)
theorem dX5_field_13 : decode cX5_field 13 = .ok (.invokevirtual 31, 3) := dk_182 0 31 (dk_at dksX5_field_0 13 rfl rfl)
theorem dX5_field_16 : decode cX5_field 16 = .ok (.bipush 8, 2) := dk_16 8 (dk_at dksX5_field_0 16 rfl rfl)
theorem dX5_field_18 : decode cX5_field 18 = .ok (.if_icmp .ge 7, 3) := dk_162 0 7 (dk_at dksX5_field_0 18 rfl rfl)
theorem dX5_field_21 : decode cX5_field 21 = .ok (.iconst 1, 1) := dk_4 (dk_at dksX5_field_0 21 rfl rfl)
theorem dX5_field_22 : decode cX5_field 22 = .ok (.goto 4, 3) := dk_167 0 4 (dk_at dksX5_field_1 0 rfl rfl)
theorem dX5_field_25 : decode cX5_field 25 = .ok (.iconst 0, 1) := dk_3 (dk_at dksX5_field_1 3 rfl rfl)
theorem dX5_field_26 : decode cX5_field 26 = .ok (.iconst (-1), 1) := dk_2 (dk_at dksX5_field_1 4 rfl rfl)
theorem dX5_field_27 : decode cX5_field 27 = .ok (.invokestatic 43, 3) := dk_184 0 43 (dk_at dksX5_field_1 5 rfl rfl)
theorem dX5_field_30 : decode cX5_field 30 = .ok (.aload_n 0, 1) := dk_42 (dk_at dksX5_field_1 8 rfl rfl)
theorem dX5_field_31 : decode cX5_field 31 = .ok (.getfield 20, 3) := dk_180 0 20 (dk_at dksX5_field_1 9 rfl rfl)
theorem dX5_field_34 : decode cX5_field 34 = .ok (.new 47, 3) := dk_187 0 47 (dk_at dksX5_field_1 12 rfl rfl)
theorem dX5_field_37 : decode cX5_field 37 = .ok (.dup, 1) := dk_89 (dk_at dksX5_field_1 15 rfl rfl)
theorem dX5_field_38 : decode cX5_field 38 = .ok (.iload_n 1, 1) := dk_27 (dk_at dksX5_field_1 16 rfl rfl)
theorem dX5_field_39 : decode cX5_field 39 = .ok (.invokespecial 76, 3) := dk_183 0 76 (dk_at dksX5_field_1 17 rfl rfl)
theorem dX5_field_42 : decode cX5_field 42 = .ok (.invokevirtual 77, 3) := dk_182 0 77 (dk_at dksX5_field_1 20 rfl rfl)
theorem dX5_field_45 : decode cX5_field 45 = .ok (.pop, 1) := dk_87 (dk_at dksX5_field_1 23 rfl rfl)
theorem dX5_field_46 : decode cX5_field 46 = .ok (.aload_n 0, 1) := dk_42 (dk_at dksX5_field_2 0 rfl rfl)
theorem dX5_field_47 : decode cX5_field 47 = .ok (.getfield 20, 3) := dk_180 0 20 (dk_at dksX5_field_2 1 rfl rfl)
theorem dX5_field_50 : decode cX5_field 50 = .ok (.invokevirtual 31, 3) := dk_182 0 31 (dk_at dksX5_field_2 4 rfl rfl)
theorem dX5_field_53 : decode cX5_field 53 = .ok (.iconst 1, 1) := dk_4 (dk_at dksX5_field_2 7 rfl rfl)
theorem dX5_field_54 : decode cX5_field 54 = .ok (.isub, 1) := dk_100 (dk_at dksX5_field_2 8 rfl rfl)
theorem dX5_field_55 : decode cX5_field 55 = .ok (.ireturn, 1) := dk_172 (dk_at dksX5_field_2 9 rfl rfl)
abbrev cX5_newRow : ByteArray := prog_2_method_11_code
def yX5_newRow : MethodName := ⟨RX5, "newRow", "(III)I"⟩
def dkwX5_newRow_5 : List UInt8 := [25, 4, 180, 0, 49, 4, 100, 172]
abbrev dktX5_newRow_5 : List UInt8 := dkwX5_newRow_5 ++ []
def dkwX5_newRow_4 : List UInt8 := [58, 5, 187, 0, 59, 89, 16, 251, 183, 0, 61, 191, 25, 4, 89, 180, 0, 49, 4, 96, 181, 0, 49]
abbrev dktX5_newRow_4 : List UInt8 := dkwX5_newRow_4 ++ dktX5_newRow_5
def dkwX5_newRow_3 : List UInt8 := [2, 184, 0, 43, 25, 4, 180, 0, 53, 25, 4, 180, 0, 49, 28, 29, 184, 0, 81, 83, 167, 0, 15]
abbrev dktX5_newRow_3 : List UInt8 := dkwX5_newRow_3 ++ dktX5_newRow_4
def dkwX5_newRow_2 : List UInt8 := [163, 0, 23, 25, 4, 180, 0, 49, 16, 12, 162, 0, 13, 29, 16, 30, 163, 0, 7, 4, 167, 0, 4, 3]
abbrev dktX5_newRow_2 : List UInt8 := dkwX5_newRow_2 ++ dktX5_newRow_3
def dkwX5_newRow_1 : List UInt8 := [184, 0, 43, 42, 180, 0, 20, 27, 182, 0, 35, 192, 0, 47, 58, 4, 28, 155, 0, 28, 28, 6]
abbrev dktX5_newRow_1 : List UInt8 := dkwX5_newRow_1 ++ dktX5_newRow_2
def dkwX5_newRow_0 : List UInt8 := [27, 155, 0, 18, 27, 42, 180, 0, 20, 182, 0, 31, 162, 0, 7, 4, 167, 0, 4, 3, 16, 254]
abbrev dktX5_newRow_0 : List UInt8 := dkwX5_newRow_0 ++ dktX5_newRow_1
theorem dksX5_newRow_0 : cX5_newRow.data.toList.drop 0 = dktX5_newRow_0 := by decide +kernel
theorem dksX5_newRow_1 : cX5_newRow.data.toList.drop 22 = dktX5_newRow_1 := dk_seg dksX5_newRow_0 22 rfl rfl
theorem dksX5_newRow_2 : cX5_newRow.data.toList.drop 44 = dktX5_newRow_2 := dk_seg dksX5_newRow_1 22 rfl rfl
theorem dksX5_newRow_3 : cX5_newRow.data.toList.drop 68 = dktX5_newRow_3 := dk_seg dksX5_newRow_2 24 rfl rfl
theorem dksX5_newRow_4 : cX5_newRow.data.toList.drop 91 = dktX5_newRow_4 := dk_seg dksX5_newRow_3 23 rfl rfl
theorem dksX5_newRow_5 : cX5_newRow.data.toList.drop 114 = dktX5_newRow_5 := dk_seg dksX5_newRow_4 23 rfl rfl
theorem dX5_newRow_0 : decode cX5_newRow 0 = .ok (.iload_n 1, 1) := dk_27 (dk_at dksX5_newRow_0 0 rfl rfl)
theorem dX5_newRow_1 : decode cX5_newRow 1 = .ok (.ifCond .lt 18, 3) := dk_155 0 18 (dk_at dksX5_newRow_0 1 rfl rfl)
theorem dX5_newRow_4 : decode cX5_newRow 4 = .ok (.iload_n 1, 1) := dk_27 (dk_at dksX5_newRow_0 4 rfl rfl)
theorem dX5_newRow_5 : decode cX5_newRow 5 = .ok (.aload_n 0, 1) := dk_42 (dk_at dksX5_newRow_0 5 rfl rfl)
theorem dX5_newRow_6 : decode cX5_newRow 6 = .ok (.getfield 20, 3) := dk_180 0 20 (dk_at dksX5_newRow_0 6 rfl rfl)
theorem dX5_newRow_9 : decode cX5_newRow 9 = .ok (.invokevirtual 31, 3) := dk_182 0 31 (dk_at dksX5_newRow_0 9 rfl rfl)
theorem dX5_newRow_12 : decode cX5_newRow 12 = .ok (.if_icmp .ge 7, 3) := dk_162 0 7 (dk_at dksX5_newRow_0 12 rfl rfl)
theorem dX5_newRow_15 : decode cX5_newRow 15 = .ok (.iconst 1, 1) := dk_4 (dk_at dksX5_newRow_0 15 rfl rfl)
theorem dX5_newRow_16 : decode cX5_newRow 16 = .ok (.goto 4, 3) := dk_167 0 4 (dk_at dksX5_newRow_0 16 rfl rfl)
theorem dX5_newRow_19 : decode cX5_newRow 19 = .ok (.iconst 0, 1) := dk_3 (dk_at dksX5_newRow_0 19 rfl rfl)
theorem dX5_newRow_20 : decode cX5_newRow 20 = .ok (.bipush (-2), 2) := dk_16 254 (dk_at dksX5_newRow_0 20 rfl rfl)
theorem dX5_newRow_22 : decode cX5_newRow 22 = .ok (.invokestatic 43, 3) := dk_184 0 43 (dk_at dksX5_newRow_1 0 rfl rfl)
theorem dX5_newRow_25 : decode cX5_newRow 25 = .ok (.aload_n 0, 1) := dk_42 (dk_at dksX5_newRow_1 3 rfl rfl)
theorem dX5_newRow_26 : decode cX5_newRow 26 = .ok (.getfield 20, 3) := dk_180 0 20 (dk_at dksX5_newRow_1 4 rfl rfl)
theorem dX5_newRow_29 : decode cX5_newRow 29 = .ok (.iload_n 1, 1) := dk_27 (dk_at dksX5_newRow_1 7 rfl rfl)
theorem dX5_newRow_30 : decode cX5_newRow 30 = .ok (.invokevirtual 35, 3) := dk_182 0 35 (dk_at dksX5_newRow_1 8 rfl rfl)
theorem dX5_newRow_33 : decode cX5_newRow 33 = .ok (.checkcast 47, 3) := dk_192 0 47 (dk_at dksX5_newRow_1 11 rfl rfl)
theorem dX5_newRow_36 : decode cX5_newRow 36 = .ok (.astore 4, 2) := dk_58 4 (dk_at dksX5_newRow_1 14 rfl rfl)
theorem dX5_newRow_38 : decode cX5_newRow 38 = .ok (.iload_n 2, 1) := dk_28 (dk_at dksX5_newRow_1 16 rfl rfl)
theorem dX5_newRow_39 : decode cX5_newRow 39 = .ok (.ifCond .lt 28, 3) := dk_155 0 28 (dk_at dksX5_newRow_1 17 rfl rfl)
theorem dX5_newRow_42 : decode cX5_newRow 42 = .ok (.iload_n 2, 1) := dk_28 (dk_at dksX5_newRow_1 20 rfl rfl)
theorem dX5_newRow_43 : decode cX5_newRow 43 = .ok (.iconst 3, 1) := dk_6 (dk_at dksX5_newRow_1 21 rfl rfl)
theorem dX5_newRow_44 : decode cX5_newRow 44 = .ok (.if_icmp .gt 23, 3) := dk_163 0 23 (dk_at dksX5_newRow_2 0 rfl rfl)
theorem dX5_newRow_47 : decode cX5_newRow 47 = .ok (.aload 4, 2) := dk_25 4 (dk_at dksX5_newRow_2 3 rfl rfl)
theorem dX5_newRow_49 : decode cX5_newRow 49 = .ok (.getfield 49, 3) := dk_180 0 49 (dk_at dksX5_newRow_2 5 rfl rfl)
theorem dX5_newRow_52 : decode cX5_newRow 52 = .ok (.bipush 12, 2) := dk_16 12 (dk_at dksX5_newRow_2 8 rfl rfl)
theorem dX5_newRow_54 : decode cX5_newRow 54 = .ok (.if_icmp .ge 13, 3) := dk_162 0 13 (dk_at dksX5_newRow_2 10 rfl rfl)
theorem dX5_newRow_57 : decode cX5_newRow 57 = .ok (.iload_n 3, 1) := dk_29 (dk_at dksX5_newRow_2 13 rfl rfl)
theorem dX5_newRow_58 : decode cX5_newRow 58 = .ok (.bipush 30, 2) := dk_16 30 (dk_at dksX5_newRow_2 14 rfl rfl)
theorem dX5_newRow_60 : decode cX5_newRow 60 = .ok (.if_icmp .gt 7, 3) := dk_163 0 7 (dk_at dksX5_newRow_2 16 rfl rfl)
theorem dX5_newRow_63 : decode cX5_newRow 63 = .ok (.iconst 1, 1) := dk_4 (dk_at dksX5_newRow_2 19 rfl rfl)
theorem dX5_newRow_64 : decode cX5_newRow 64 = .ok (.goto 4, 3) := dk_167 0 4 (dk_at dksX5_newRow_2 20 rfl rfl)
theorem dX5_newRow_67 : decode cX5_newRow 67 = .ok (.iconst 0, 1) := dk_3 (dk_at dksX5_newRow_2 23 rfl rfl)
theorem dX5_newRow_68 : decode cX5_newRow 68 = .ok (.iconst (-1), 1) := dk_2 (dk_at dksX5_newRow_3 0 rfl rfl)
theorem dX5_newRow_69 : decode cX5_newRow 69 = .ok (.invokestatic 43, 3) := dk_184 0 43 (dk_at dksX5_newRow_3 1 rfl rfl)
theorem dX5_newRow_72 : decode cX5_newRow 72 = .ok (.aload 4, 2) := dk_25 4 (dk_at dksX5_newRow_3 4 rfl rfl)
theorem dX5_newRow_74 : decode cX5_newRow 74 = .ok (.getfield 53, 3) := dk_180 0 53 (dk_at dksX5_newRow_3 6 rfl rfl)
theorem dX5_newRow_77 : decode cX5_newRow 77 = .ok (.aload 4, 2) := dk_25 4 (dk_at dksX5_newRow_3 9 rfl rfl)
theorem dX5_newRow_79 : decode cX5_newRow 79 = .ok (.getfield 49, 3) := dk_180 0 49 (dk_at dksX5_newRow_3 11 rfl rfl)
theorem dX5_newRow_82 : decode cX5_newRow 82 = .ok (.iload_n 2, 1) := dk_28 (dk_at dksX5_newRow_3 14 rfl rfl)
theorem dX5_newRow_83 : decode cX5_newRow 83 = .ok (.iload_n 3, 1) := dk_29 (dk_at dksX5_newRow_3 15 rfl rfl)
theorem dX5_newRow_84 : decode cX5_newRow 84 = .ok (.invokestatic 81, 3) := dk_184 0 81 (dk_at dksX5_newRow_3 16 rfl rfl)
theorem dX5_newRow_87 : decode cX5_newRow 87 = .ok (.aastore, 1) := dk_83 (dk_at dksX5_newRow_3 19 rfl rfl)
theorem dX5_newRow_88 : decode cX5_newRow 88 = .ok (.goto 15, 3) := dk_167 0 15 (dk_at dksX5_newRow_3 20 rfl rfl)
theorem dX5_newRow_91 : decode cX5_newRow 91 = .ok (.astore 5, 2) := dk_58 5 (dk_at dksX5_newRow_4 0 rfl rfl)
theorem dX5_newRow_93 : decode cX5_newRow 93 = .ok (.new 59, 3) := dk_187 0 59 (dk_at dksX5_newRow_4 2 rfl rfl)
theorem dX5_newRow_96 : decode cX5_newRow 96 = .ok (.dup, 1) := dk_89 (dk_at dksX5_newRow_4 5 rfl rfl)
theorem dX5_newRow_97 : decode cX5_newRow 97 = .ok (.bipush (-5), 2) := dk_16 251 (dk_at dksX5_newRow_4 6 rfl rfl)
theorem dX5_newRow_99 : decode cX5_newRow 99 = .ok (.invokespecial 61, 3) := dk_183 0 61 (dk_at dksX5_newRow_4 8 rfl rfl)
theorem dX5_newRow_102 : decode cX5_newRow 102 = .ok (.athrow, 1) := dk_191 (dk_at dksX5_newRow_4 11 rfl rfl)
theorem dX5_newRow_103 : decode cX5_newRow 103 = .ok (.aload 4, 2) := dk_25 4 (dk_at dksX5_newRow_4 12 rfl rfl)
theorem dX5_newRow_105 : decode cX5_newRow 105 = .ok (.dup, 1) := dk_89 (dk_at dksX5_newRow_4 14 rfl rfl)
theorem dX5_newRow_106 : decode cX5_newRow 106 = .ok (.getfield 49, 3) := dk_180 0 49 (dk_at dksX5_newRow_4 15 rfl rfl)
theorem dX5_newRow_109 : decode cX5_newRow 109 = .ok (.iconst 1, 1) := dk_4 (dk_at dksX5_newRow_4 18 rfl rfl)
theorem dX5_newRow_110 : decode cX5_newRow 110 = .ok (.iadd, 1) := dk_96 (dk_at dksX5_newRow_4 19 rfl rfl)
theorem dX5_newRow_111 : decode cX5_newRow 111 = .ok (.putfield 49, 3) := dk_181 0 49 (dk_at dksX5_newRow_4 20 rfl rfl)
theorem dX5_newRow_114 : decode cX5_newRow 114 = .ok (.aload 4, 2) := dk_25 4 (dk_at dksX5_newRow_5 0 rfl rfl)
theorem dX5_newRow_116 : decode cX5_newRow 116 = .ok (.getfield 49, 3) := dk_180 0 49 (dk_at dksX5_newRow_5 2 rfl rfl)
theorem dX5_newRow_119 : decode cX5_newRow 119 = .ok (.iconst 1, 1) := dk_4 (dk_at dksX5_newRow_5 5 rfl rfl)
theorem dX5_newRow_120 : decode cX5_newRow 120 = .ok (.isub, 1) := dk_100 (dk_at dksX5_newRow_5 6 rfl rfl)
theorem dX5_newRow_121 : decode cX5_newRow 121 = .ok (.ireturn, 1) := dk_172 (dk_at dksX5_newRow_5 7 rfl rfl)
abbrev cX5_tear : ByteArray := prog_2_method_12_code
def yX5_tear : MethodName := ⟨RX5, "tear", "(II)I"⟩
def dkwX5_tear_3 : List UInt8 := [180, 0, 53, 28, 1, 83, 3, 172]
abbrev dktX5_tear_3 : List UInt8 := dkwX5_tear_3 ++ []
def dkwX5_tear_2 : List UInt8 := [16, 250, 184, 0, 43, 132, 6, 1, 167, 255, 221, 42, 180, 0, 20, 27, 182, 0, 35, 192, 0, 47]
abbrev dktX5_tear_2 : List UInt8 := dkwX5_tear_2 ++ dktX5_tear_3
def dkwX5_tear_1 : List UInt8 := [162, 0, 34, 25, 4, 21, 6, 50, 58, 7, 25, 7, 193, 0, 39, 154, 0, 7, 4, 167, 0, 4, 3]
abbrev dktX5_tear_1 : List UInt8 := dkwX5_tear_1 ++ dktX5_tear_2
def dkwX5_tear_0 : List UInt8 := [42, 27, 28, 182, 0, 87, 78, 45, 58, 4, 25, 4, 190, 54, 5, 3, 54, 6, 21, 6, 21, 5]
abbrev dktX5_tear_0 : List UInt8 := dkwX5_tear_0 ++ dktX5_tear_1
theorem dksX5_tear_0 : cX5_tear.data.toList.drop 0 = dktX5_tear_0 := by decide +kernel
theorem dksX5_tear_1 : cX5_tear.data.toList.drop 22 = dktX5_tear_1 := dk_seg dksX5_tear_0 22 rfl rfl
theorem dksX5_tear_2 : cX5_tear.data.toList.drop 45 = dktX5_tear_2 := dk_seg dksX5_tear_1 23 rfl rfl
theorem dksX5_tear_3 : cX5_tear.data.toList.drop 67 = dktX5_tear_3 := dk_seg dksX5_tear_2 22 rfl rfl
theorem dX5_tear_0 : decode cX5_tear 0 = .ok (.aload_n 0, 1) := dk_42 (dk_at dksX5_tear_0 0 rfl rfl)
theorem dX5_tear_1 : decode cX5_tear 1 = .ok (.iload_n 1, 1) := dk_27 (dk_at dksX5_tear_0 1 rfl rfl)
theorem dX5_tear_2 : decode cX5_tear 2 = .ok (.iload_n 2, 1) := dk_28 (dk_at dksX5_tear_0 2 rfl rfl)
theorem dX5_tear_3 : decode cX5_tear 3 = .ok (.invokevirtual 87, 3) := dk_182 0 87 (dk_at dksX5_tear_0 3 rfl rfl)
theorem dX5_tear_6 : decode cX5_tear 6 = .ok (.astore_n 3, 1) := dk_78 (dk_at dksX5_tear_0 6 rfl rfl)
theorem dX5_tear_7 : decode cX5_tear 7 = .ok (.aload_n 3, 1) := dk_45 (dk_at dksX5_tear_0 7 rfl rfl)
theorem dX5_tear_8 : decode cX5_tear 8 = .ok (.astore 4, 2) := dk_58 4 (dk_at dksX5_tear_0 8 rfl rfl)
theorem dX5_tear_10 : decode cX5_tear 10 = .ok (.aload 4, 2) := dk_25 4 (dk_at dksX5_tear_0 10 rfl rfl)
theorem dX5_tear_12 : decode cX5_tear 12 = .ok (.arraylength, 1) := dk_190 (dk_at dksX5_tear_0 12 rfl rfl)
theorem dX5_tear_13 : decode cX5_tear 13 = .ok (.istore 5, 2) := dk_54 5 (dk_at dksX5_tear_0 13 rfl rfl)
theorem dX5_tear_15 : decode cX5_tear 15 = .ok (.iconst 0, 1) := dk_3 (dk_at dksX5_tear_0 15 rfl rfl)
theorem dX5_tear_16 : decode cX5_tear 16 = .ok (.istore 6, 2) := dk_54 6 (dk_at dksX5_tear_0 16 rfl rfl)
theorem dX5_tear_18 : decode cX5_tear 18 = .ok (.iload 6, 2) := dk_21 6 (dk_at dksX5_tear_0 18 rfl rfl)
theorem dX5_tear_20 : decode cX5_tear 20 = .ok (.iload 5, 2) := dk_21 5 (dk_at dksX5_tear_0 20 rfl rfl)
theorem dX5_tear_22 : decode cX5_tear 22 = .ok (.if_icmp .ge 34, 3) := dk_162 0 34 (dk_at dksX5_tear_1 0 rfl rfl)
theorem dX5_tear_25 : decode cX5_tear 25 = .ok (.aload 4, 2) := dk_25 4 (dk_at dksX5_tear_1 3 rfl rfl)
theorem dX5_tear_27 : decode cX5_tear 27 = .ok (.iload 6, 2) := dk_21 6 (dk_at dksX5_tear_1 5 rfl rfl)
theorem dX5_tear_29 : decode cX5_tear 29 = .ok (.aaload, 1) := dk_50 (dk_at dksX5_tear_1 7 rfl rfl)
theorem dX5_tear_30 : decode cX5_tear 30 = .ok (.astore 7, 2) := dk_58 7 (dk_at dksX5_tear_1 8 rfl rfl)
theorem dX5_tear_32 : decode cX5_tear 32 = .ok (.aload 7, 2) := dk_25 7 (dk_at dksX5_tear_1 10 rfl rfl)
theorem dX5_tear_34 : decode cX5_tear 34 = .ok (.instanceof 39, 3) := dk_193 0 39 (dk_at dksX5_tear_1 12 rfl rfl)
theorem dX5_tear_37 : decode cX5_tear 37 = .ok (.ifCond .ne 7, 3) := dk_154 0 7 (dk_at dksX5_tear_1 15 rfl rfl)
theorem dX5_tear_40 : decode cX5_tear 40 = .ok (.iconst 1, 1) := dk_4 (dk_at dksX5_tear_1 18 rfl rfl)
theorem dX5_tear_41 : decode cX5_tear 41 = .ok (.goto 4, 3) := dk_167 0 4 (dk_at dksX5_tear_1 19 rfl rfl)
theorem dX5_tear_44 : decode cX5_tear 44 = .ok (.iconst 0, 1) := dk_3 (dk_at dksX5_tear_1 22 rfl rfl)
theorem dX5_tear_45 : decode cX5_tear 45 = .ok (.bipush (-6), 2) := dk_16 250 (dk_at dksX5_tear_2 0 rfl rfl)
theorem dX5_tear_47 : decode cX5_tear 47 = .ok (.invokestatic 43, 3) := dk_184 0 43 (dk_at dksX5_tear_2 2 rfl rfl)
theorem dX5_tear_50 : decode cX5_tear 50 = .ok (.iinc 6 1, 3) := dk_132 6 1 (dk_at dksX5_tear_2 5 rfl rfl)
theorem dX5_tear_53 : decode cX5_tear 53 = .ok (.goto (-35), 3) := dk_167 255 221 (dk_at dksX5_tear_2 8 rfl rfl)
theorem dX5_tear_56 : decode cX5_tear 56 = .ok (.aload_n 0, 1) := dk_42 (dk_at dksX5_tear_2 11 rfl rfl)
theorem dX5_tear_57 : decode cX5_tear 57 = .ok (.getfield 20, 3) := dk_180 0 20 (dk_at dksX5_tear_2 12 rfl rfl)
theorem dX5_tear_60 : decode cX5_tear 60 = .ok (.iload_n 1, 1) := dk_27 (dk_at dksX5_tear_2 15 rfl rfl)
theorem dX5_tear_61 : decode cX5_tear 61 = .ok (.invokevirtual 35, 3) := dk_182 0 35 (dk_at dksX5_tear_2 16 rfl rfl)
theorem dX5_tear_64 : decode cX5_tear 64 = .ok (.checkcast 47, 3) := dk_192 0 47 (dk_at dksX5_tear_2 19 rfl rfl)
theorem dX5_tear_67 : decode cX5_tear 67 = .ok (.getfield 53, 3) := dk_180 0 53 (dk_at dksX5_tear_3 0 rfl rfl)
theorem dX5_tear_70 : decode cX5_tear 70 = .ok (.iload_n 2, 1) := dk_28 (dk_at dksX5_tear_3 3 rfl rfl)
theorem dX5_tear_71 : decode cX5_tear 71 = .ok (.aconst_null, 1) := dk_1 (dk_at dksX5_tear_3 4 rfl rfl)
theorem dX5_tear_72 : decode cX5_tear 72 = .ok (.aastore, 1) := dk_83 (dk_at dksX5_tear_3 5 rfl rfl)
theorem dX5_tear_73 : decode cX5_tear 73 = .ok (.iconst 0, 1) := dk_3 (dk_at dksX5_tear_3 6 rfl rfl)
theorem dX5_tear_74 : decode cX5_tear 74 = .ok (.ireturn, 1) := dk_172 (dk_at dksX5_tear_3 7 rfl rfl)
abbrev cX5_row : ByteArray := prog_2_method_4_code
def yX5_row : MethodName := ⟨RX5, "row", "(II)[LChurchyardBook$Place;"⟩
def dkwX5_row_4 : List UInt8 := [45, 180, 0, 53, 28, 50, 176]
abbrev dktX5_row_4 : List UInt8 := dkwX5_row_4 ++ []
def dkwX5_row_3 : List UInt8 := [167, 0, 4, 3, 16, 253, 184, 0, 43, 167, 0, 15, 58, 4, 187, 0, 59, 89, 16, 253, 183, 0, 61, 191]
abbrev dktX5_row_3 : List UInt8 := dkwX5_row_3 ++ dktX5_row_4
def dkwX5_row_2 : List UInt8 := [162, 0, 7, 4, 167, 0, 4, 3, 16, 254, 184, 0, 43, 45, 180, 0, 53, 28, 50, 190, 155, 0, 7, 4]
abbrev dktX5_row_2 : List UInt8 := dkwX5_row_2 ++ dktX5_row_3
def dkwX5_row_1 : List UInt8 := [184, 0, 43, 42, 180, 0, 20, 27, 182, 0, 35, 192, 0, 47, 78, 28, 155, 0, 15, 28, 45, 180, 0, 49]
abbrev dktX5_row_1 : List UInt8 := dkwX5_row_1 ++ dktX5_row_2
def dkwX5_row_0 : List UInt8 := [27, 155, 0, 18, 27, 42, 180, 0, 20, 182, 0, 31, 162, 0, 7, 4, 167, 0, 4, 3, 16, 254]
abbrev dktX5_row_0 : List UInt8 := dkwX5_row_0 ++ dktX5_row_1
theorem dksX5_row_0 : cX5_row.data.toList.drop 0 = dktX5_row_0 := by decide +kernel
theorem dksX5_row_1 : cX5_row.data.toList.drop 22 = dktX5_row_1 := dk_seg dksX5_row_0 22 rfl rfl
theorem dksX5_row_2 : cX5_row.data.toList.drop 46 = dktX5_row_2 := dk_seg dksX5_row_1 24 rfl rfl
theorem dksX5_row_3 : cX5_row.data.toList.drop 70 = dktX5_row_3 := dk_seg dksX5_row_2 24 rfl rfl
theorem dksX5_row_4 : cX5_row.data.toList.drop 94 = dktX5_row_4 := dk_seg dksX5_row_3 24 rfl rfl
theorem dX5_row_0 : decode cX5_row 0 = .ok (.iload_n 1, 1) := dk_27 (dk_at dksX5_row_0 0 rfl rfl)
theorem dX5_row_1 : decode cX5_row 1 = .ok (.ifCond .lt 18, 3) := dk_155 0 18 (dk_at dksX5_row_0 1 rfl rfl)
theorem dX5_row_4 : decode cX5_row 4 = .ok (.iload_n 1, 1) := dk_27 (dk_at dksX5_row_0 4 rfl rfl)
theorem dX5_row_5 : decode cX5_row 5 = .ok (.aload_n 0, 1) := dk_42 (dk_at dksX5_row_0 5 rfl rfl)
theorem dX5_row_6 : decode cX5_row 6 = .ok (.getfield 20, 3) := dk_180 0 20 (dk_at dksX5_row_0 6 rfl rfl)
theorem dX5_row_9 : decode cX5_row 9 = .ok (.invokevirtual 31, 3) := dk_182 0 31 (dk_at dksX5_row_0 9 rfl rfl)
theorem dX5_row_12 : decode cX5_row 12 = .ok (.if_icmp .ge 7, 3) := dk_162 0 7 (dk_at dksX5_row_0 12 rfl rfl)
theorem dX5_row_15 : decode cX5_row 15 = .ok (.iconst 1, 1) := dk_4 (dk_at dksX5_row_0 15 rfl rfl)
theorem dX5_row_16 : decode cX5_row 16 = .ok (.goto 4, 3) := dk_167 0 4 (dk_at dksX5_row_0 16 rfl rfl)
theorem dX5_row_19 : decode cX5_row 19 = .ok (.iconst 0, 1) := dk_3 (dk_at dksX5_row_0 19 rfl rfl)
theorem dX5_row_20 : decode cX5_row 20 = .ok (.bipush (-2), 2) := dk_16 254 (dk_at dksX5_row_0 20 rfl rfl)
theorem dX5_row_22 : decode cX5_row 22 = .ok (.invokestatic 43, 3) := dk_184 0 43 (dk_at dksX5_row_1 0 rfl rfl)
theorem dX5_row_25 : decode cX5_row 25 = .ok (.aload_n 0, 1) := dk_42 (dk_at dksX5_row_1 3 rfl rfl)
theorem dX5_row_26 : decode cX5_row 26 = .ok (.getfield 20, 3) := dk_180 0 20 (dk_at dksX5_row_1 4 rfl rfl)
theorem dX5_row_29 : decode cX5_row 29 = .ok (.iload_n 1, 1) := dk_27 (dk_at dksX5_row_1 7 rfl rfl)
theorem dX5_row_30 : decode cX5_row 30 = .ok (.invokevirtual 35, 3) := dk_182 0 35 (dk_at dksX5_row_1 8 rfl rfl)
theorem dX5_row_33 : decode cX5_row 33 = .ok (.checkcast 47, 3) := dk_192 0 47 (dk_at dksX5_row_1 11 rfl rfl)
theorem dX5_row_36 : decode cX5_row 36 = .ok (.astore_n 3, 1) := dk_78 (dk_at dksX5_row_1 14 rfl rfl)
theorem dX5_row_37 : decode cX5_row 37 = .ok (.iload_n 2, 1) := dk_28 (dk_at dksX5_row_1 15 rfl rfl)
theorem dX5_row_38 : decode cX5_row 38 = .ok (.ifCond .lt 15, 3) := dk_155 0 15 (dk_at dksX5_row_1 16 rfl rfl)
theorem dX5_row_41 : decode cX5_row 41 = .ok (.iload_n 2, 1) := dk_28 (dk_at dksX5_row_1 19 rfl rfl)
theorem dX5_row_42 : decode cX5_row 42 = .ok (.aload_n 3, 1) := dk_45 (dk_at dksX5_row_1 20 rfl rfl)
theorem dX5_row_43 : decode cX5_row 43 = .ok (.getfield 49, 3) := dk_180 0 49 (dk_at dksX5_row_1 21 rfl rfl)
theorem dX5_row_46 : decode cX5_row 46 = .ok (.if_icmp .ge 7, 3) := dk_162 0 7 (dk_at dksX5_row_2 0 rfl rfl)
theorem dX5_row_49 : decode cX5_row 49 = .ok (.iconst 1, 1) := dk_4 (dk_at dksX5_row_2 3 rfl rfl)
theorem dX5_row_50 : decode cX5_row 50 = .ok (.goto 4, 3) := dk_167 0 4 (dk_at dksX5_row_2 4 rfl rfl)
theorem dX5_row_53 : decode cX5_row 53 = .ok (.iconst 0, 1) := dk_3 (dk_at dksX5_row_2 7 rfl rfl)
theorem dX5_row_54 : decode cX5_row 54 = .ok (.bipush (-2), 2) := dk_16 254 (dk_at dksX5_row_2 8 rfl rfl)
theorem dX5_row_56 : decode cX5_row 56 = .ok (.invokestatic 43, 3) := dk_184 0 43 (dk_at dksX5_row_2 10 rfl rfl)
theorem dX5_row_59 : decode cX5_row 59 = .ok (.aload_n 3, 1) := dk_45 (dk_at dksX5_row_2 13 rfl rfl)
theorem dX5_row_60 : decode cX5_row 60 = .ok (.getfield 53, 3) := dk_180 0 53 (dk_at dksX5_row_2 14 rfl rfl)
theorem dX5_row_63 : decode cX5_row 63 = .ok (.iload_n 2, 1) := dk_28 (dk_at dksX5_row_2 17 rfl rfl)
theorem dX5_row_64 : decode cX5_row 64 = .ok (.aaload, 1) := dk_50 (dk_at dksX5_row_2 18 rfl rfl)
theorem dX5_row_65 : decode cX5_row 65 = .ok (.arraylength, 1) := dk_190 (dk_at dksX5_row_2 19 rfl rfl)
theorem dX5_row_66 : decode cX5_row 66 = .ok (.ifCond .lt 7, 3) := dk_155 0 7 (dk_at dksX5_row_2 20 rfl rfl)
theorem dX5_row_69 : decode cX5_row 69 = .ok (.iconst 1, 1) := dk_4 (dk_at dksX5_row_2 23 rfl rfl)
theorem dX5_row_70 : decode cX5_row 70 = .ok (.goto 4, 3) := dk_167 0 4 (dk_at dksX5_row_3 0 rfl rfl)
theorem dX5_row_73 : decode cX5_row 73 = .ok (.iconst 0, 1) := dk_3 (dk_at dksX5_row_3 3 rfl rfl)
theorem dX5_row_74 : decode cX5_row 74 = .ok (.bipush (-3), 2) := dk_16 253 (dk_at dksX5_row_3 4 rfl rfl)
theorem dX5_row_76 : decode cX5_row 76 = .ok (.invokestatic 43, 3) := dk_184 0 43 (dk_at dksX5_row_3 6 rfl rfl)
theorem dX5_row_79 : decode cX5_row 79 = .ok (.goto 15, 3) := dk_167 0 15 (dk_at dksX5_row_3 9 rfl rfl)
theorem dX5_row_82 : decode cX5_row 82 = .ok (.astore 4, 2) := dk_58 4 (dk_at dksX5_row_3 12 rfl rfl)
theorem dX5_row_84 : decode cX5_row 84 = .ok (.new 59, 3) := dk_187 0 59 (dk_at dksX5_row_3 14 rfl rfl)
theorem dX5_row_87 : decode cX5_row 87 = .ok (.dup, 1) := dk_89 (dk_at dksX5_row_3 17 rfl rfl)
theorem dX5_row_88 : decode cX5_row 88 = .ok (.bipush (-3), 2) := dk_16 253 (dk_at dksX5_row_3 18 rfl rfl)
theorem dX5_row_90 : decode cX5_row 90 = .ok (.invokespecial 61, 3) := dk_183 0 61 (dk_at dksX5_row_3 20 rfl rfl)
theorem dX5_row_93 : decode cX5_row 93 = .ok (.athrow, 1) := dk_191 (dk_at dksX5_row_3 23 rfl rfl)
theorem dX5_row_94 : decode cX5_row 94 = .ok (.aload_n 3, 1) := dk_45 (dk_at dksX5_row_4 0 rfl rfl)
theorem dX5_row_95 : decode cX5_row 95 = .ok (.getfield 53, 3) := dk_180 0 53 (dk_at dksX5_row_4 1 rfl rfl)
theorem dX5_row_98 : decode cX5_row 98 = .ok (.iload_n 2, 1) := dk_28 (dk_at dksX5_row_4 4 rfl rfl)
theorem dX5_row_99 : decode cX5_row 99 = .ok (.aaload, 1) := dk_50 (dk_at dksX5_row_4 5 rfl rfl)
theorem dX5_row_100 : decode cX5_row 100 = .ok (.areturn, 1) := dk_176 (dk_at dksX5_row_4 6 rfl rfl)
abbrev cX5_place : ByteArray := prog_2_method_13_code
def yX5_place : MethodName := ⟨RX5, "place", "(IIII)I"⟩
def dkwX5_place_5 : List UInt8 := [180, 0, 3, 180, 0, 102, 167, 0, 10, 42, 180, 0, 3, 180, 0, 106, 182, 0, 110, 3, 172]
abbrev dktX5_place_5 : List UInt8 := dkwX5_place_5 ++ []
def dkwX5_place_4 : List UInt8 := [184, 0, 43, 42, 25, 5, 29, 4, 21, 4, 154, 0, 7, 1, 167, 0, 26, 21, 4, 4, 160, 0, 13, 42]
abbrev dktX5_place_4 : List UInt8 := dkwX5_place_4 ++ dktX5_place_5
def dkwX5_place_3 : List UInt8 := [154, 0, 19, 42, 25, 5, 29, 4, 96, 182, 0, 98, 154, 0, 7, 4, 167, 0, 4, 3, 16, 249]
abbrev dktX5_place_3 : List UInt8 := dkwX5_place_3 ++ dktX5_place_4
def dkwX5_place_2 : List UInt8 := [167, 0, 4, 3, 16, 250, 184, 0, 43, 21, 4, 4, 160, 0, 27, 42, 25, 5, 29, 4, 100, 182, 0, 98]
abbrev dktX5_place_2 : List UInt8 := dkwX5_place_2 ++ dktX5_place_3
def dkwX5_place_1 : List UInt8 := [5, 163, 0, 7, 4, 167, 0, 4, 3, 2, 184, 0, 43, 42, 25, 6, 182, 0, 94, 154, 0, 7, 4]
abbrev dktX5_place_1 : List UInt8 := dkwX5_place_1 ++ dktX5_place_2
def dkwX5_place_0 : List UInt8 := [42, 27, 28, 182, 0, 87, 58, 5, 42, 25, 5, 29, 182, 0, 90, 58, 6, 21, 4, 155, 0, 13, 21, 4]
abbrev dktX5_place_0 : List UInt8 := dkwX5_place_0 ++ dktX5_place_1
theorem dksX5_place_0 : cX5_place.data.toList.drop 0 = dktX5_place_0 := by decide +kernel
theorem dksX5_place_1 : cX5_place.data.toList.drop 24 = dktX5_place_1 := dk_seg dksX5_place_0 24 rfl rfl
theorem dksX5_place_2 : cX5_place.data.toList.drop 47 = dktX5_place_2 := dk_seg dksX5_place_1 23 rfl rfl
theorem dksX5_place_3 : cX5_place.data.toList.drop 71 = dktX5_place_3 := dk_seg dksX5_place_2 24 rfl rfl
theorem dksX5_place_4 : cX5_place.data.toList.drop 93 = dktX5_place_4 := dk_seg dksX5_place_3 22 rfl rfl
theorem dksX5_place_5 : cX5_place.data.toList.drop 117 = dktX5_place_5 := dk_seg dksX5_place_4 24 rfl rfl
theorem dX5_place_0 : decode cX5_place 0 = .ok (.aload_n 0, 1) := dk_42 (dk_at dksX5_place_0 0 rfl rfl)
theorem dX5_place_1 : decode cX5_place 1 = .ok (.iload_n 1, 1) := dk_27 (dk_at dksX5_place_0 1 rfl rfl)
theorem dX5_place_2 : decode cX5_place 2 = .ok (.iload_n 2, 1) := dk_28 (dk_at dksX5_place_0 2 rfl rfl)
theorem dX5_place_3 : decode cX5_place 3 = .ok (.invokevirtual 87, 3) := dk_182 0 87 (dk_at dksX5_place_0 3 rfl rfl)
theorem dX5_place_6 : decode cX5_place 6 = .ok (.astore 5, 2) := dk_58 5 (dk_at dksX5_place_0 6 rfl rfl)
theorem dX5_place_8 : decode cX5_place 8 = .ok (.aload_n 0, 1) := dk_42 (dk_at dksX5_place_0 8 rfl rfl)
theorem dX5_place_9 : decode cX5_place 9 = .ok (.aload 5, 2) := dk_25 5 (dk_at dksX5_place_0 9 rfl rfl)
theorem dX5_place_11 : decode cX5_place 11 = .ok (.iload_n 3, 1) := dk_29 (dk_at dksX5_place_0 11 rfl rfl)
theorem dX5_place_12 : decode cX5_place 12 = .ok (.invokevirtual 90, 3) := dk_182 0 90 (dk_at dksX5_place_0 12 rfl rfl)
theorem dX5_place_15 : decode cX5_place 15 = .ok (.astore 6, 2) := dk_58 6 (dk_at dksX5_place_0 15 rfl rfl)
theorem dX5_place_17 : decode cX5_place 17 = .ok (.iload 4, 2) := dk_21 4 (dk_at dksX5_place_0 17 rfl rfl)
theorem dX5_place_19 : decode cX5_place 19 = .ok (.ifCond .lt 13, 3) := dk_155 0 13 (dk_at dksX5_place_0 19 rfl rfl)
theorem dX5_place_22 : decode cX5_place 22 = .ok (.iload 4, 2) := dk_21 4 (dk_at dksX5_place_0 22 rfl rfl)
theorem dX5_place_24 : decode cX5_place 24 = .ok (.iconst 2, 1) := dk_5 (dk_at dksX5_place_1 0 rfl rfl)
theorem dX5_place_25 : decode cX5_place 25 = .ok (.if_icmp .gt 7, 3) := dk_163 0 7 (dk_at dksX5_place_1 1 rfl rfl)
theorem dX5_place_28 : decode cX5_place 28 = .ok (.iconst 1, 1) := dk_4 (dk_at dksX5_place_1 4 rfl rfl)
theorem dX5_place_29 : decode cX5_place 29 = .ok (.goto 4, 3) := dk_167 0 4 (dk_at dksX5_place_1 5 rfl rfl)
theorem dX5_place_32 : decode cX5_place 32 = .ok (.iconst 0, 1) := dk_3 (dk_at dksX5_place_1 8 rfl rfl)
theorem dX5_place_33 : decode cX5_place 33 = .ok (.iconst (-1), 1) := dk_2 (dk_at dksX5_place_1 9 rfl rfl)
theorem dX5_place_34 : decode cX5_place 34 = .ok (.invokestatic 43, 3) := dk_184 0 43 (dk_at dksX5_place_1 10 rfl rfl)
theorem dX5_place_37 : decode cX5_place 37 = .ok (.aload_n 0, 1) := dk_42 (dk_at dksX5_place_1 13 rfl rfl)
theorem dX5_place_38 : decode cX5_place 38 = .ok (.aload 6, 2) := dk_25 6 (dk_at dksX5_place_1 14 rfl rfl)
theorem dX5_place_40 : decode cX5_place 40 = .ok (.invokevirtual 94, 3) := dk_182 0 94 (dk_at dksX5_place_1 16 rfl rfl)
theorem dX5_place_43 : decode cX5_place 43 = .ok (.ifCond .ne 7, 3) := dk_154 0 7 (dk_at dksX5_place_1 19 rfl rfl)
theorem dX5_place_46 : decode cX5_place 46 = .ok (.iconst 1, 1) := dk_4 (dk_at dksX5_place_1 22 rfl rfl)
theorem dX5_place_47 : decode cX5_place 47 = .ok (.goto 4, 3) := dk_167 0 4 (dk_at dksX5_place_2 0 rfl rfl)
theorem dX5_place_50 : decode cX5_place 50 = .ok (.iconst 0, 1) := dk_3 (dk_at dksX5_place_2 3 rfl rfl)
theorem dX5_place_51 : decode cX5_place 51 = .ok (.bipush (-6), 2) := dk_16 250 (dk_at dksX5_place_2 4 rfl rfl)
theorem dX5_place_53 : decode cX5_place 53 = .ok (.invokestatic 43, 3) := dk_184 0 43 (dk_at dksX5_place_2 6 rfl rfl)
theorem dX5_place_56 : decode cX5_place 56 = .ok (.iload 4, 2) := dk_21 4 (dk_at dksX5_place_2 9 rfl rfl)
theorem dX5_place_58 : decode cX5_place 58 = .ok (.iconst 1, 1) := dk_4 (dk_at dksX5_place_2 11 rfl rfl)
theorem dX5_place_59 : decode cX5_place 59 = .ok (.if_icmp .ne 27, 3) := dk_160 0 27 (dk_at dksX5_place_2 12 rfl rfl)
theorem dX5_place_62 : decode cX5_place 62 = .ok (.aload_n 0, 1) := dk_42 (dk_at dksX5_place_2 15 rfl rfl)
theorem dX5_place_63 : decode cX5_place 63 = .ok (.aload 5, 2) := dk_25 5 (dk_at dksX5_place_2 16 rfl rfl)
theorem dX5_place_65 : decode cX5_place 65 = .ok (.iload_n 3, 1) := dk_29 (dk_at dksX5_place_2 18 rfl rfl)
theorem dX5_place_66 : decode cX5_place 66 = .ok (.iconst 1, 1) := dk_4 (dk_at dksX5_place_2 19 rfl rfl)
theorem dX5_place_67 : decode cX5_place 67 = .ok (.isub, 1) := dk_100 (dk_at dksX5_place_2 20 rfl rfl)
theorem dX5_place_68 : decode cX5_place 68 = .ok (.invokevirtual 98, 3) := dk_182 0 98 (dk_at dksX5_place_2 21 rfl rfl)
theorem dX5_place_71 : decode cX5_place 71 = .ok (.ifCond .ne 19, 3) := dk_154 0 19 (dk_at dksX5_place_3 0 rfl rfl)
theorem dX5_place_74 : decode cX5_place 74 = .ok (.aload_n 0, 1) := dk_42 (dk_at dksX5_place_3 3 rfl rfl)
theorem dX5_place_75 : decode cX5_place 75 = .ok (.aload 5, 2) := dk_25 5 (dk_at dksX5_place_3 4 rfl rfl)
theorem dX5_place_77 : decode cX5_place 77 = .ok (.iload_n 3, 1) := dk_29 (dk_at dksX5_place_3 6 rfl rfl)
theorem dX5_place_78 : decode cX5_place 78 = .ok (.iconst 1, 1) := dk_4 (dk_at dksX5_place_3 7 rfl rfl)
theorem dX5_place_79 : decode cX5_place 79 = .ok (.iadd, 1) := dk_96 (dk_at dksX5_place_3 8 rfl rfl)
theorem dX5_place_80 : decode cX5_place 80 = .ok (.invokevirtual 98, 3) := dk_182 0 98 (dk_at dksX5_place_3 9 rfl rfl)
theorem dX5_place_83 : decode cX5_place 83 = .ok (.ifCond .ne 7, 3) := dk_154 0 7 (dk_at dksX5_place_3 12 rfl rfl)
theorem dX5_place_86 : decode cX5_place 86 = .ok (.iconst 1, 1) := dk_4 (dk_at dksX5_place_3 15 rfl rfl)
theorem dX5_place_87 : decode cX5_place 87 = .ok (.goto 4, 3) := dk_167 0 4 (dk_at dksX5_place_3 16 rfl rfl)
theorem dX5_place_90 : decode cX5_place 90 = .ok (.iconst 0, 1) := dk_3 (dk_at dksX5_place_3 19 rfl rfl)
theorem dX5_place_91 : decode cX5_place 91 = .ok (.bipush (-7), 2) := dk_16 249 (dk_at dksX5_place_3 20 rfl rfl)
theorem dX5_place_93 : decode cX5_place 93 = .ok (.invokestatic 43, 3) := dk_184 0 43 (dk_at dksX5_place_4 0 rfl rfl)
theorem dX5_place_96 : decode cX5_place 96 = .ok (.aload_n 0, 1) := dk_42 (dk_at dksX5_place_4 3 rfl rfl)
theorem dX5_place_97 : decode cX5_place 97 = .ok (.aload 5, 2) := dk_25 5 (dk_at dksX5_place_4 4 rfl rfl)
theorem dX5_place_99 : decode cX5_place 99 = .ok (.iload_n 3, 1) := dk_29 (dk_at dksX5_place_4 6 rfl rfl)
theorem dX5_place_100 : decode cX5_place 100 = .ok (.iconst 1, 1) := dk_4 (dk_at dksX5_place_4 7 rfl rfl)
theorem dX5_place_101 : decode cX5_place 101 = .ok (.iload 4, 2) := dk_21 4 (dk_at dksX5_place_4 8 rfl rfl)
theorem dX5_place_103 : decode cX5_place 103 = .ok (.ifCond .ne 7, 3) := dk_154 0 7 (dk_at dksX5_place_4 10 rfl rfl)
theorem dX5_place_106 : decode cX5_place 106 = .ok (.aconst_null, 1) := dk_1 (dk_at dksX5_place_4 13 rfl rfl)
theorem dX5_place_107 : decode cX5_place 107 = .ok (.goto 26, 3) := dk_167 0 26 (dk_at dksX5_place_4 14 rfl rfl)
theorem dX5_place_110 : decode cX5_place 110 = .ok (.iload 4, 2) := dk_21 4 (dk_at dksX5_place_4 17 rfl rfl)
theorem dX5_place_112 : decode cX5_place 112 = .ok (.iconst 1, 1) := dk_4 (dk_at dksX5_place_4 19 rfl rfl)
theorem dX5_place_113 : decode cX5_place 113 = .ok (.if_icmp .ne 13, 3) := dk_160 0 13 (dk_at dksX5_place_4 20 rfl rfl)
theorem dX5_place_116 : decode cX5_place 116 = .ok (.aload_n 0, 1) := dk_42 (dk_at dksX5_place_4 23 rfl rfl)
theorem dX5_place_117 : decode cX5_place 117 = .ok (.getfield 3, 3) := dk_180 0 3 (dk_at dksX5_place_5 0 rfl rfl)
theorem dX5_place_120 : decode cX5_place 120 = .ok (.getfield 102, 3) := dk_180 0 102 (dk_at dksX5_place_5 3 rfl rfl)
theorem dX5_place_123 : decode cX5_place 123 = .ok (.goto 10, 3) := dk_167 0 10 (dk_at dksX5_place_5 6 rfl rfl)
theorem dX5_place_126 : decode cX5_place 126 = .ok (.aload_n 0, 1) := dk_42 (dk_at dksX5_place_5 9 rfl rfl)
theorem dX5_place_127 : decode cX5_place 127 = .ok (.getfield 3, 3) := dk_180 0 3 (dk_at dksX5_place_5 10 rfl rfl)
theorem dX5_place_130 : decode cX5_place 130 = .ok (.getfield 106, 3) := dk_180 0 106 (dk_at dksX5_place_5 13 rfl rfl)
theorem dX5_place_133 : decode cX5_place 133 = .ok (.invokevirtual 110, 3) := dk_182 0 110 (dk_at dksX5_place_5 16 rfl rfl)
theorem dX5_place_136 : decode cX5_place 136 = .ok (.iconst 0, 1) := dk_3 (dk_at dksX5_place_5 19 rfl rfl)
theorem dX5_place_137 : decode cX5_place 137 = .ok (.ireturn, 1) := dk_172 (dk_at dksX5_place_5 20 rfl rfl)
abbrev cX5_at : ByteArray := prog_2_method_5_code
def yX5_at : MethodName := ⟨RX5, "at", "([LChurchyardBook$Place;I)LChurchyardBook$Place;"⟩
def dkwX5_at_0 : List UInt8 := [43, 28, 50, 176, 78, 187, 0, 59, 89, 16, 252, 183, 0, 61, 191]
abbrev dktX5_at_0 : List UInt8 := dkwX5_at_0 ++ []
theorem dksX5_at_0 : cX5_at.data.toList.drop 0 = dktX5_at_0 := by decide +kernel
theorem dX5_at_0 : decode cX5_at 0 = .ok (.aload_n 1, 1) := dk_43 (dk_at dksX5_at_0 0 rfl rfl)
theorem dX5_at_1 : decode cX5_at 1 = .ok (.iload_n 2, 1) := dk_28 (dk_at dksX5_at_0 1 rfl rfl)
theorem dX5_at_2 : decode cX5_at 2 = .ok (.aaload, 1) := dk_50 (dk_at dksX5_at_0 2 rfl rfl)
theorem dX5_at_3 : decode cX5_at 3 = .ok (.areturn, 1) := dk_176 (dk_at dksX5_at_0 3 rfl rfl)
theorem dX5_at_4 : decode cX5_at 4 = .ok (.astore_n 3, 1) := dk_78 (dk_at dksX5_at_0 4 rfl rfl)
theorem dX5_at_5 : decode cX5_at 5 = .ok (.new 59, 3) := dk_187 0 59 (dk_at dksX5_at_0 5 rfl rfl)
theorem dX5_at_8 : decode cX5_at 8 = .ok (.dup, 1) := dk_89 (dk_at dksX5_at_0 8 rfl rfl)
theorem dX5_at_9 : decode cX5_at 9 = .ok (.bipush (-4), 2) := dk_16 252 (dk_at dksX5_at_0 9 rfl rfl)
theorem dX5_at_11 : decode cX5_at 11 = .ok (.invokespecial 61, 3) := dk_183 0 61 (dk_at dksX5_at_0 11 rfl rfl)
theorem dX5_at_14 : decode cX5_at 14 = .ok (.athrow, 1) := dk_191 (dk_at dksX5_at_0 14 rfl rfl)
abbrev cX5_isGrave : ByteArray := prog_2_method_6_code
def yX5_isGrave : MethodName := ⟨RX5, "isGrave", "(LChurchyardBook$Place;)Z"⟩
def dkwX5_isGrave_0 : List UInt8 := [43, 192, 0, 39, 77, 44, 198, 0, 7, 4, 167, 0, 4, 3, 172, 77, 3, 172]
abbrev dktX5_isGrave_0 : List UInt8 := dkwX5_isGrave_0 ++ []
theorem dksX5_isGrave_0 : cX5_isGrave.data.toList.drop 0 = dktX5_isGrave_0 := by decide +kernel
theorem dX5_isGrave_0 : decode cX5_isGrave 0 = .ok (.aload_n 1, 1) := dk_43 (dk_at dksX5_isGrave_0 0 rfl rfl)
theorem dX5_isGrave_1 : decode cX5_isGrave 1 = .ok (.checkcast 39, 3) := dk_192 0 39 (dk_at dksX5_isGrave_0 1 rfl rfl)
theorem dX5_isGrave_4 : decode cX5_isGrave 4 = .ok (.astore_n 2, 1) := dk_77 (dk_at dksX5_isGrave_0 4 rfl rfl)
theorem dX5_isGrave_5 : decode cX5_isGrave 5 = .ok (.aload_n 2, 1) := dk_44 (dk_at dksX5_isGrave_0 5 rfl rfl)
theorem dX5_isGrave_6 : decode cX5_isGrave 6 = .ok (.ifnull 7, 3) := dk_198 0 7 (dk_at dksX5_isGrave_0 6 rfl rfl)
theorem dX5_isGrave_9 : decode cX5_isGrave 9 = .ok (.iconst 1, 1) := dk_4 (dk_at dksX5_isGrave_0 9 rfl rfl)
theorem dX5_isGrave_10 : decode cX5_isGrave 10 = .ok (.goto 4, 3) := dk_167 0 4 (dk_at dksX5_isGrave_0 10 rfl rfl)
theorem dX5_isGrave_13 : decode cX5_isGrave 13 = .ok (.iconst 0, 1) := dk_3 (dk_at dksX5_isGrave_0 13 rfl rfl)
theorem dX5_isGrave_14 : decode cX5_isGrave 14 = .ok (.ireturn, 1) := dk_172 (dk_at dksX5_isGrave_0 14 rfl rfl)
theorem dX5_isGrave_15 : decode cX5_isGrave 15 = .ok (.astore_n 2, 1) := dk_77 (dk_at dksX5_isGrave_0 15 rfl rfl)
theorem dX5_isGrave_16 : decode cX5_isGrave 16 = .ok (.iconst 0, 1) := dk_3 (dk_at dksX5_isGrave_0 16 rfl rfl)
theorem dX5_isGrave_17 : decode cX5_isGrave 17 = .ok (.ireturn, 1) := dk_172 (dk_at dksX5_isGrave_0 17 rfl rfl)
abbrev cX5_shuns : ByteArray := prog_2_method_8_code
def yX5_shuns : MethodName := ⟨RX5, "shuns", "([LChurchyardBook$Place;I)Z"⟩
def dkwX5_shuns_1 : List UInt8 := [192, 0, 68, 185, 0, 70, 1, 0, 153, 0, 7, 4, 167, 0, 4, 3, 172]
abbrev dktX5_shuns_1 : List UInt8 := dkwX5_shuns_1 ++ []
def dkwX5_shuns_0 : List UInt8 := [28, 155, 0, 36, 28, 43, 190, 162, 0, 30, 43, 28, 50, 193, 0, 68, 153, 0, 21, 43, 28, 50]
abbrev dktX5_shuns_0 : List UInt8 := dkwX5_shuns_0 ++ dktX5_shuns_1
theorem dksX5_shuns_0 : cX5_shuns.data.toList.drop 0 = dktX5_shuns_0 := by decide +kernel
theorem dksX5_shuns_1 : cX5_shuns.data.toList.drop 22 = dktX5_shuns_1 := dk_seg dksX5_shuns_0 22 rfl rfl
theorem dX5_shuns_0 : decode cX5_shuns 0 = .ok (.iload_n 2, 1) := dk_28 (dk_at dksX5_shuns_0 0 rfl rfl)
theorem dX5_shuns_1 : decode cX5_shuns 1 = .ok (.ifCond .lt 36, 3) := dk_155 0 36 (dk_at dksX5_shuns_0 1 rfl rfl)
theorem dX5_shuns_4 : decode cX5_shuns 4 = .ok (.iload_n 2, 1) := dk_28 (dk_at dksX5_shuns_0 4 rfl rfl)
theorem dX5_shuns_5 : decode cX5_shuns 5 = .ok (.aload_n 1, 1) := dk_43 (dk_at dksX5_shuns_0 5 rfl rfl)
theorem dX5_shuns_6 : decode cX5_shuns 6 = .ok (.arraylength, 1) := dk_190 (dk_at dksX5_shuns_0 6 rfl rfl)
theorem dX5_shuns_7 : decode cX5_shuns 7 = .ok (.if_icmp .ge 30, 3) := dk_162 0 30 (dk_at dksX5_shuns_0 7 rfl rfl)
theorem dX5_shuns_10 : decode cX5_shuns 10 = .ok (.aload_n 1, 1) := dk_43 (dk_at dksX5_shuns_0 10 rfl rfl)
theorem dX5_shuns_11 : decode cX5_shuns 11 = .ok (.iload_n 2, 1) := dk_28 (dk_at dksX5_shuns_0 11 rfl rfl)
theorem dX5_shuns_12 : decode cX5_shuns 12 = .ok (.aaload, 1) := dk_50 (dk_at dksX5_shuns_0 12 rfl rfl)
theorem dX5_shuns_13 : decode cX5_shuns 13 = .ok (.instanceof 68, 3) := dk_193 0 68 (dk_at dksX5_shuns_0 13 rfl rfl)
theorem dX5_shuns_16 : decode cX5_shuns 16 = .ok (.ifCond .eq 21, 3) := dk_153 0 21 (dk_at dksX5_shuns_0 16 rfl rfl)
theorem dX5_shuns_19 : decode cX5_shuns 19 = .ok (.aload_n 1, 1) := dk_43 (dk_at dksX5_shuns_0 19 rfl rfl)
theorem dX5_shuns_20 : decode cX5_shuns 20 = .ok (.iload_n 2, 1) := dk_28 (dk_at dksX5_shuns_0 20 rfl rfl)
theorem dX5_shuns_21 : decode cX5_shuns 21 = .ok (.aaload, 1) := dk_50 (dk_at dksX5_shuns_0 21 rfl rfl)
theorem dX5_shuns_22 : decode cX5_shuns 22 = .ok (.checkcast 68, 3) := dk_192 0 68 (dk_at dksX5_shuns_1 0 rfl rfl)
theorem dX5_shuns_25 : decode cX5_shuns 25 = .ok (.invokeinterface 70 1, 5) := by decide +kernel
theorem dX5_shuns_30 : decode cX5_shuns 30 = .ok (.ifCond .eq 7, 3) := dk_153 0 7 (dk_at dksX5_shuns_1 8 rfl rfl)
theorem dX5_shuns_33 : decode cX5_shuns 33 = .ok (.iconst 1, 1) := dk_4 (dk_at dksX5_shuns_1 11 rfl rfl)
theorem dX5_shuns_34 : decode cX5_shuns 34 = .ok (.goto 4, 3) := dk_167 0 4 (dk_at dksX5_shuns_1 12 rfl rfl)
theorem dX5_shuns_37 : decode cX5_shuns 37 = .ok (.iconst 0, 1) := dk_3 (dk_at dksX5_shuns_1 15 rfl rfl)
theorem dX5_shuns_38 : decode cX5_shuns 38 = .ok (.ireturn, 1) := dk_172 (dk_at dksX5_shuns_1 16 rfl rfl)
abbrev cX5_store : ByteArray := prog_2_method_9_code
def yX5_store : MethodName := ⟨RX5, "store", "([LChurchyardBook$Place;IILChurchyardBook$Place;)V"⟩
def dkwX5_store_1 : List UInt8 := [167, 0, 15, 58, 5, 187, 0, 59, 89, 16, 248, 183, 0, 61, 191, 177]
abbrev dktX5_store_1 : List UInt8 := dkwX5_store_1 ++ []
def dkwX5_store_0 : List UInt8 := [28, 54, 5, 21, 5, 28, 29, 96, 162, 0, 15, 43, 21, 5, 25, 4, 83, 132, 5, 1, 167, 255, 239]
abbrev dktX5_store_0 : List UInt8 := dkwX5_store_0 ++ dktX5_store_1
theorem dksX5_store_0 : cX5_store.data.toList.drop 0 = dktX5_store_0 := by decide +kernel
theorem dksX5_store_1 : cX5_store.data.toList.drop 23 = dktX5_store_1 := dk_seg dksX5_store_0 23 rfl rfl
theorem dX5_store_0 : decode cX5_store 0 = .ok (.iload_n 2, 1) := dk_28 (dk_at dksX5_store_0 0 rfl rfl)
theorem dX5_store_1 : decode cX5_store 1 = .ok (.istore 5, 2) := dk_54 5 (dk_at dksX5_store_0 1 rfl rfl)
theorem dX5_store_3 : decode cX5_store 3 = .ok (.iload 5, 2) := dk_21 5 (dk_at dksX5_store_0 3 rfl rfl)
theorem dX5_store_5 : decode cX5_store 5 = .ok (.iload_n 2, 1) := dk_28 (dk_at dksX5_store_0 5 rfl rfl)
theorem dX5_store_6 : decode cX5_store 6 = .ok (.iload_n 3, 1) := dk_29 (dk_at dksX5_store_0 6 rfl rfl)
theorem dX5_store_7 : decode cX5_store 7 = .ok (.iadd, 1) := dk_96 (dk_at dksX5_store_0 7 rfl rfl)
theorem dX5_store_8 : decode cX5_store 8 = .ok (.if_icmp .ge 15, 3) := dk_162 0 15 (dk_at dksX5_store_0 8 rfl rfl)
theorem dX5_store_11 : decode cX5_store 11 = .ok (.aload_n 1, 1) := dk_43 (dk_at dksX5_store_0 11 rfl rfl)
theorem dX5_store_12 : decode cX5_store 12 = .ok (.iload 5, 2) := dk_21 5 (dk_at dksX5_store_0 12 rfl rfl)
theorem dX5_store_14 : decode cX5_store 14 = .ok (.aload 4, 2) := dk_25 4 (dk_at dksX5_store_0 14 rfl rfl)
theorem dX5_store_16 : decode cX5_store 16 = .ok (.aastore, 1) := dk_83 (dk_at dksX5_store_0 16 rfl rfl)
theorem dX5_store_17 : decode cX5_store 17 = .ok (.iinc 5 1, 3) := dk_132 5 1 (dk_at dksX5_store_0 17 rfl rfl)
theorem dX5_store_20 : decode cX5_store 20 = .ok (.goto (-17), 3) := dk_167 255 239 (dk_at dksX5_store_0 20 rfl rfl)
theorem dX5_store_23 : decode cX5_store 23 = .ok (.goto 15, 3) := dk_167 0 15 (dk_at dksX5_store_1 0 rfl rfl)
theorem dX5_store_26 : decode cX5_store 26 = .ok (.astore 5, 2) := dk_58 5 (dk_at dksX5_store_1 3 rfl rfl)
theorem dX5_store_28 : decode cX5_store 28 = .ok (.new 59, 3) := dk_187 0 59 (dk_at dksX5_store_1 5 rfl rfl)
theorem dX5_store_31 : decode cX5_store 31 = .ok (.dup, 1) := dk_89 (dk_at dksX5_store_1 8 rfl rfl)
theorem dX5_store_32 : decode cX5_store 32 = .ok (.bipush (-8), 2) := dk_16 248 (dk_at dksX5_store_1 9 rfl rfl)
theorem dX5_store_34 : decode cX5_store 34 = .ok (.invokespecial 61, 3) := dk_183 0 61 (dk_at dksX5_store_1 11 rfl rfl)
theorem dX5_store_37 : decode cX5_store 37 = .ok (.athrow, 1) := dk_191 (dk_at dksX5_store_1 14 rfl rfl)
theorem dX5_store_38 : decode cX5_store 38 = .ok (.return_, 1) := dk_177 (dk_at dksX5_store_1 15 rfl rfl)
abbrev cX5_newGrave : ByteArray := prog_2_method_15_code
def yX5_newGrave : MethodName := ⟨RX5, "newGrave", "(IIIII)I"⟩
def dkwX5_newGrave_5 : List UInt8 := [25, 7, 180, 0, 132, 172]
abbrev dktX5_newGrave_5 : List UInt8 := dkwX5_newGrave_5 ++ []
def dkwX5_newGrave_4 : List UInt8 := [58, 7, 42, 25, 6, 29, 21, 5, 25, 7, 182, 0, 110, 42, 180, 0, 25, 25, 7, 182, 0, 77, 87]
abbrev dktX5_newGrave_4 : List UInt8 := dkwX5_newGrave_4 ++ dktX5_newGrave_5
def dkwX5_newGrave_3 : List UInt8 := [28, 29, 21, 4, 21, 5, 42, 180, 0, 20, 27, 182, 0, 35, 192, 0, 47, 180, 0, 125, 184, 0, 128]
abbrev dktX5_newGrave_3 : List UInt8 := dkwX5_newGrave_3 ++ dktX5_newGrave_4
def dkwX5_newGrave_2 : List UInt8 := [182, 0, 87, 58, 6, 42, 25, 6, 29, 21, 4, 21, 5, 182, 0, 121, 42, 180, 0, 25, 182, 0, 31, 27]
abbrev dktX5_newGrave_2 : List UInt8 := dkwX5_newGrave_2 ++ dktX5_newGrave_3
def dkwX5_newGrave_1 : List UInt8 := [180, 0, 25, 182, 0, 31, 17, 0, 150, 162, 0, 7, 4, 167, 0, 4, 3, 2, 184, 0, 43, 42, 27, 28]
abbrev dktX5_newGrave_1 : List UInt8 := dkwX5_newGrave_1 ++ dktX5_newGrave_2
def dkwX5_newGrave_0 : List UInt8 := [21, 4, 4, 161, 0, 37, 21, 4, 16, 6, 163, 0, 30, 21, 4, 21, 5, 184, 0, 117, 153, 0, 20, 42]
abbrev dktX5_newGrave_0 : List UInt8 := dkwX5_newGrave_0 ++ dktX5_newGrave_1
theorem dksX5_newGrave_0 : cX5_newGrave.data.toList.drop 0 = dktX5_newGrave_0 := by decide +kernel
theorem dksX5_newGrave_1 : cX5_newGrave.data.toList.drop 24 = dktX5_newGrave_1 := dk_seg dksX5_newGrave_0 24 rfl rfl
theorem dksX5_newGrave_2 : cX5_newGrave.data.toList.drop 48 = dktX5_newGrave_2 := dk_seg dksX5_newGrave_1 24 rfl rfl
theorem dksX5_newGrave_3 : cX5_newGrave.data.toList.drop 72 = dktX5_newGrave_3 := dk_seg dksX5_newGrave_2 24 rfl rfl
theorem dksX5_newGrave_4 : cX5_newGrave.data.toList.drop 95 = dktX5_newGrave_4 := dk_seg dksX5_newGrave_3 23 rfl rfl
theorem dksX5_newGrave_5 : cX5_newGrave.data.toList.drop 118 = dktX5_newGrave_5 := dk_seg dksX5_newGrave_4 23 rfl rfl
theorem dX5_newGrave_0 : decode cX5_newGrave 0 = .ok (.iload 4, 2) := dk_21 4 (dk_at dksX5_newGrave_0 0 rfl rfl)
theorem dX5_newGrave_2 : decode cX5_newGrave 2 = .ok (.iconst 1, 1) := dk_4 (dk_at dksX5_newGrave_0 2 rfl rfl)
theorem dX5_newGrave_3 : decode cX5_newGrave 3 = .ok (.if_icmp .lt 37, 3) := dk_161 0 37 (dk_at dksX5_newGrave_0 3 rfl rfl)
theorem dX5_newGrave_6 : decode cX5_newGrave 6 = .ok (.iload 4, 2) := dk_21 4 (dk_at dksX5_newGrave_0 6 rfl rfl)
theorem dX5_newGrave_8 : decode cX5_newGrave 8 = .ok (.bipush 6, 2) := dk_16 6 (dk_at dksX5_newGrave_0 8 rfl rfl)
theorem dX5_newGrave_10 : decode cX5_newGrave 10 = .ok (.if_icmp .gt 30, 3) := dk_163 0 30 (dk_at dksX5_newGrave_0 10 rfl rfl)
theorem dX5_newGrave_13 : decode cX5_newGrave 13 = .ok (.iload 4, 2) := dk_21 4 (dk_at dksX5_newGrave_0 13 rfl rfl)
theorem dX5_newGrave_15 : decode cX5_newGrave 15 = .ok (.iload 5, 2) := dk_21 5 (dk_at dksX5_newGrave_0 15 rfl rfl)
theorem dX5_newGrave_17 : decode cX5_newGrave 17 = .ok (.invokestatic 117, 3) := dk_184 0 117 (dk_at dksX5_newGrave_0 17 rfl rfl)
theorem dX5_newGrave_20 : decode cX5_newGrave 20 = .ok (.ifCond .eq 20, 3) := dk_153 0 20 (dk_at dksX5_newGrave_0 20 rfl rfl)
theorem dX5_newGrave_23 : decode cX5_newGrave 23 = .ok (.aload_n 0, 1) := dk_42 (dk_at dksX5_newGrave_0 23 rfl rfl)
theorem dX5_newGrave_24 : decode cX5_newGrave 24 = .ok (.getfield 25, 3) := dk_180 0 25 (dk_at dksX5_newGrave_1 0 rfl rfl)
theorem dX5_newGrave_27 : decode cX5_newGrave 27 = .ok (.invokevirtual 31, 3) := dk_182 0 31 (dk_at dksX5_newGrave_1 3 rfl rfl)
theorem dX5_newGrave_30 : decode cX5_newGrave 30 = .ok (.sipush 150, 3) := dk_17 0 150 (dk_at dksX5_newGrave_1 6 rfl rfl)
theorem dX5_newGrave_33 : decode cX5_newGrave 33 = .ok (.if_icmp .ge 7, 3) := dk_162 0 7 (dk_at dksX5_newGrave_1 9 rfl rfl)
theorem dX5_newGrave_36 : decode cX5_newGrave 36 = .ok (.iconst 1, 1) := dk_4 (dk_at dksX5_newGrave_1 12 rfl rfl)
theorem dX5_newGrave_37 : decode cX5_newGrave 37 = .ok (.goto 4, 3) := dk_167 0 4 (dk_at dksX5_newGrave_1 13 rfl rfl)
theorem dX5_newGrave_40 : decode cX5_newGrave 40 = .ok (.iconst 0, 1) := dk_3 (dk_at dksX5_newGrave_1 16 rfl rfl)
theorem dX5_newGrave_41 : decode cX5_newGrave 41 = .ok (.iconst (-1), 1) := dk_2 (dk_at dksX5_newGrave_1 17 rfl rfl)
theorem dX5_newGrave_42 : decode cX5_newGrave 42 = .ok (.invokestatic 43, 3) := dk_184 0 43 (dk_at dksX5_newGrave_1 18 rfl rfl)
theorem dX5_newGrave_45 : decode cX5_newGrave 45 = .ok (.aload_n 0, 1) := dk_42 (dk_at dksX5_newGrave_1 21 rfl rfl)
theorem dX5_newGrave_46 : decode cX5_newGrave 46 = .ok (.iload_n 1, 1) := dk_27 (dk_at dksX5_newGrave_1 22 rfl rfl)
theorem dX5_newGrave_47 : decode cX5_newGrave 47 = .ok (.iload_n 2, 1) := dk_28 (dk_at dksX5_newGrave_1 23 rfl rfl)
theorem dX5_newGrave_48 : decode cX5_newGrave 48 = .ok (.invokevirtual 87, 3) := dk_182 0 87 (dk_at dksX5_newGrave_2 0 rfl rfl)
theorem dX5_newGrave_51 : decode cX5_newGrave 51 = .ok (.astore 6, 2) := dk_58 6 (dk_at dksX5_newGrave_2 3 rfl rfl)
theorem dX5_newGrave_53 : decode cX5_newGrave 53 = .ok (.aload_n 0, 1) := dk_42 (dk_at dksX5_newGrave_2 5 rfl rfl)
theorem dX5_newGrave_54 : decode cX5_newGrave 54 = .ok (.aload 6, 2) := dk_25 6 (dk_at dksX5_newGrave_2 6 rfl rfl)
theorem dX5_newGrave_56 : decode cX5_newGrave 56 = .ok (.iload_n 3, 1) := dk_29 (dk_at dksX5_newGrave_2 8 rfl rfl)
theorem dX5_newGrave_57 : decode cX5_newGrave 57 = .ok (.iload 4, 2) := dk_21 4 (dk_at dksX5_newGrave_2 9 rfl rfl)
theorem dX5_newGrave_59 : decode cX5_newGrave 59 = .ok (.iload 5, 2) := dk_21 5 (dk_at dksX5_newGrave_2 11 rfl rfl)
theorem dX5_newGrave_61 : decode cX5_newGrave 61 = .ok (.invokevirtual 121, 3) := dk_182 0 121 (dk_at dksX5_newGrave_2 13 rfl rfl)
theorem dX5_newGrave_64 : decode cX5_newGrave 64 = .ok (.aload_n 0, 1) := dk_42 (dk_at dksX5_newGrave_2 16 rfl rfl)
theorem dX5_newGrave_65 : decode cX5_newGrave 65 = .ok (.getfield 25, 3) := dk_180 0 25 (dk_at dksX5_newGrave_2 17 rfl rfl)
theorem dX5_newGrave_68 : decode cX5_newGrave 68 = .ok (.invokevirtual 31, 3) := dk_182 0 31 (dk_at dksX5_newGrave_2 20 rfl rfl)
theorem dX5_newGrave_71 : decode cX5_newGrave 71 = .ok (.iload_n 1, 1) := dk_27 (dk_at dksX5_newGrave_2 23 rfl rfl)
theorem dX5_newGrave_72 : decode cX5_newGrave 72 = .ok (.iload_n 2, 1) := dk_28 (dk_at dksX5_newGrave_3 0 rfl rfl)
theorem dX5_newGrave_73 : decode cX5_newGrave 73 = .ok (.iload_n 3, 1) := dk_29 (dk_at dksX5_newGrave_3 1 rfl rfl)
theorem dX5_newGrave_74 : decode cX5_newGrave 74 = .ok (.iload 4, 2) := dk_21 4 (dk_at dksX5_newGrave_3 2 rfl rfl)
theorem dX5_newGrave_76 : decode cX5_newGrave 76 = .ok (.iload 5, 2) := dk_21 5 (dk_at dksX5_newGrave_3 4 rfl rfl)
theorem dX5_newGrave_78 : decode cX5_newGrave 78 = .ok (.aload_n 0, 1) := dk_42 (dk_at dksX5_newGrave_3 6 rfl rfl)
theorem dX5_newGrave_79 : decode cX5_newGrave 79 = .ok (.getfield 20, 3) := dk_180 0 20 (dk_at dksX5_newGrave_3 7 rfl rfl)
theorem dX5_newGrave_82 : decode cX5_newGrave 82 = .ok (.iload_n 1, 1) := dk_27 (dk_at dksX5_newGrave_3 10 rfl rfl)
theorem dX5_newGrave_83 : decode cX5_newGrave 83 = .ok (.invokevirtual 35, 3) := dk_182 0 35 (dk_at dksX5_newGrave_3 11 rfl rfl)
theorem dX5_newGrave_86 : decode cX5_newGrave 86 = .ok (.checkcast 47, 3) := dk_192 0 47 (dk_at dksX5_newGrave_3 14 rfl rfl)
theorem dX5_newGrave_89 : decode cX5_newGrave 89 = .ok (.getfield 125, 3) := dk_180 0 125 (dk_at dksX5_newGrave_3 17 rfl rfl)
theorem dX5_newGrave_92 : decode cX5_newGrave 92 = .ok (.invokestatic 128, 3) := dk_184 0 128 (dk_at dksX5_newGrave_3 20 rfl rfl)
theorem dX5_newGrave_95 : decode cX5_newGrave 95 = .ok (.astore 7, 2) := dk_58 7 (dk_at dksX5_newGrave_4 0 rfl rfl)
theorem dX5_newGrave_97 : decode cX5_newGrave 97 = .ok (.aload_n 0, 1) := dk_42 (dk_at dksX5_newGrave_4 2 rfl rfl)
theorem dX5_newGrave_98 : decode cX5_newGrave 98 = .ok (.aload 6, 2) := dk_25 6 (dk_at dksX5_newGrave_4 3 rfl rfl)
theorem dX5_newGrave_100 : decode cX5_newGrave 100 = .ok (.iload_n 3, 1) := dk_29 (dk_at dksX5_newGrave_4 5 rfl rfl)
theorem dX5_newGrave_101 : decode cX5_newGrave 101 = .ok (.iload 5, 2) := dk_21 5 (dk_at dksX5_newGrave_4 6 rfl rfl)
theorem dX5_newGrave_103 : decode cX5_newGrave 103 = .ok (.aload 7, 2) := dk_25 7 (dk_at dksX5_newGrave_4 8 rfl rfl)
theorem dX5_newGrave_105 : decode cX5_newGrave 105 = .ok (.invokevirtual 110, 3) := dk_182 0 110 (dk_at dksX5_newGrave_4 10 rfl rfl)
theorem dX5_newGrave_108 : decode cX5_newGrave 108 = .ok (.aload_n 0, 1) := dk_42 (dk_at dksX5_newGrave_4 13 rfl rfl)
theorem dX5_newGrave_109 : decode cX5_newGrave 109 = .ok (.getfield 25, 3) := dk_180 0 25 (dk_at dksX5_newGrave_4 14 rfl rfl)
theorem dX5_newGrave_112 : decode cX5_newGrave 112 = .ok (.aload 7, 2) := dk_25 7 (dk_at dksX5_newGrave_4 17 rfl rfl)
theorem dX5_newGrave_114 : decode cX5_newGrave 114 = .ok (.invokevirtual 77, 3) := dk_182 0 77 (dk_at dksX5_newGrave_4 19 rfl rfl)
theorem dX5_newGrave_117 : decode cX5_newGrave 117 = .ok (.pop, 1) := dk_87 (dk_at dksX5_newGrave_4 22 rfl rfl)
theorem dX5_newGrave_118 : decode cX5_newGrave 118 = .ok (.aload 7, 2) := dk_25 7 (dk_at dksX5_newGrave_5 0 rfl rfl)
theorem dX5_newGrave_120 : decode cX5_newGrave 120 = .ok (.getfield 132, 3) := dk_180 0 132 (dk_at dksX5_newGrave_5 2 rfl rfl)
theorem dX5_newGrave_123 : decode cX5_newGrave 123 = .ok (.ireturn, 1) := dk_172 (dk_at dksX5_newGrave_5 5 rfl rfl)
abbrev cX5_asks : ByteArray := prog_2_method_14_code
def yX5_asks : MethodName := ⟨RX5, "asks", "([LChurchyardBook$Place;III)V"⟩
def dkwX5_asks_3 : List UInt8 := [154, 0, 7, 4, 167, 0, 4, 3, 16, 249, 184, 0, 43, 177]
abbrev dktX5_asks_3 : List UInt8 := dkwX5_asks_3 ++ []
def dkwX5_asks_2 : List UInt8 := [159, 0, 26, 42, 43, 28, 4, 100, 182, 0, 114, 154, 0, 19, 42, 43, 28, 21, 4, 96, 182, 0, 114]
abbrev dktX5_asks_2 : List UInt8 := dkwX5_asks_2 ++ dktX5_asks_3
def dkwX5_asks_1 : List UInt8 := [167, 0, 4, 3, 16, 250, 184, 0, 43, 132, 5, 1, 167, 255, 224, 29, 7, 159, 0, 31, 29, 8]
abbrev dktX5_asks_1 : List UInt8 := dkwX5_asks_1 ++ dktX5_asks_2
def dkwX5_asks_0 : List UInt8 := [3, 54, 5, 21, 5, 21, 4, 162, 0, 31, 42, 43, 28, 21, 5, 96, 182, 0, 90, 199, 0, 7, 4]
abbrev dktX5_asks_0 : List UInt8 := dkwX5_asks_0 ++ dktX5_asks_1
theorem dksX5_asks_0 : cX5_asks.data.toList.drop 0 = dktX5_asks_0 := by decide +kernel
theorem dksX5_asks_1 : cX5_asks.data.toList.drop 23 = dktX5_asks_1 := dk_seg dksX5_asks_0 23 rfl rfl
theorem dksX5_asks_2 : cX5_asks.data.toList.drop 45 = dktX5_asks_2 := dk_seg dksX5_asks_1 22 rfl rfl
theorem dksX5_asks_3 : cX5_asks.data.toList.drop 68 = dktX5_asks_3 := dk_seg dksX5_asks_2 23 rfl rfl
theorem dX5_asks_0 : decode cX5_asks 0 = .ok (.iconst 0, 1) := dk_3 (dk_at dksX5_asks_0 0 rfl rfl)
theorem dX5_asks_1 : decode cX5_asks 1 = .ok (.istore 5, 2) := dk_54 5 (dk_at dksX5_asks_0 1 rfl rfl)
theorem dX5_asks_3 : decode cX5_asks 3 = .ok (.iload 5, 2) := dk_21 5 (dk_at dksX5_asks_0 3 rfl rfl)
theorem dX5_asks_5 : decode cX5_asks 5 = .ok (.iload 4, 2) := dk_21 4 (dk_at dksX5_asks_0 5 rfl rfl)
theorem dX5_asks_7 : decode cX5_asks 7 = .ok (.if_icmp .ge 31, 3) := dk_162 0 31 (dk_at dksX5_asks_0 7 rfl rfl)
theorem dX5_asks_10 : decode cX5_asks 10 = .ok (.aload_n 0, 1) := dk_42 (dk_at dksX5_asks_0 10 rfl rfl)
theorem dX5_asks_11 : decode cX5_asks 11 = .ok (.aload_n 1, 1) := dk_43 (dk_at dksX5_asks_0 11 rfl rfl)
theorem dX5_asks_12 : decode cX5_asks 12 = .ok (.iload_n 2, 1) := dk_28 (dk_at dksX5_asks_0 12 rfl rfl)
theorem dX5_asks_13 : decode cX5_asks 13 = .ok (.iload 5, 2) := dk_21 5 (dk_at dksX5_asks_0 13 rfl rfl)
theorem dX5_asks_15 : decode cX5_asks 15 = .ok (.iadd, 1) := dk_96 (dk_at dksX5_asks_0 15 rfl rfl)
theorem dX5_asks_16 : decode cX5_asks 16 = .ok (.invokevirtual 90, 3) := dk_182 0 90 (dk_at dksX5_asks_0 16 rfl rfl)
theorem dX5_asks_19 : decode cX5_asks 19 = .ok (.ifnonnull 7, 3) := dk_199 0 7 (dk_at dksX5_asks_0 19 rfl rfl)
theorem dX5_asks_22 : decode cX5_asks 22 = .ok (.iconst 1, 1) := dk_4 (dk_at dksX5_asks_0 22 rfl rfl)
theorem dX5_asks_23 : decode cX5_asks 23 = .ok (.goto 4, 3) := dk_167 0 4 (dk_at dksX5_asks_1 0 rfl rfl)
theorem dX5_asks_26 : decode cX5_asks 26 = .ok (.iconst 0, 1) := dk_3 (dk_at dksX5_asks_1 3 rfl rfl)
theorem dX5_asks_27 : decode cX5_asks 27 = .ok (.bipush (-6), 2) := dk_16 250 (dk_at dksX5_asks_1 4 rfl rfl)
theorem dX5_asks_29 : decode cX5_asks 29 = .ok (.invokestatic 43, 3) := dk_184 0 43 (dk_at dksX5_asks_1 6 rfl rfl)
theorem dX5_asks_32 : decode cX5_asks 32 = .ok (.iinc 5 1, 3) := dk_132 5 1 (dk_at dksX5_asks_1 9 rfl rfl)
theorem dX5_asks_35 : decode cX5_asks 35 = .ok (.goto (-32), 3) := dk_167 255 224 (dk_at dksX5_asks_1 12 rfl rfl)
theorem dX5_asks_38 : decode cX5_asks 38 = .ok (.iload_n 3, 1) := dk_29 (dk_at dksX5_asks_1 15 rfl rfl)
theorem dX5_asks_39 : decode cX5_asks 39 = .ok (.iconst 4, 1) := dk_7 (dk_at dksX5_asks_1 16 rfl rfl)
theorem dX5_asks_40 : decode cX5_asks 40 = .ok (.if_icmp .eq 31, 3) := dk_159 0 31 (dk_at dksX5_asks_1 17 rfl rfl)
theorem dX5_asks_43 : decode cX5_asks 43 = .ok (.iload_n 3, 1) := dk_29 (dk_at dksX5_asks_1 20 rfl rfl)
theorem dX5_asks_44 : decode cX5_asks 44 = .ok (.iconst 5, 1) := dk_8 (dk_at dksX5_asks_1 21 rfl rfl)
theorem dX5_asks_45 : decode cX5_asks 45 = .ok (.if_icmp .eq 26, 3) := dk_159 0 26 (dk_at dksX5_asks_2 0 rfl rfl)
theorem dX5_asks_48 : decode cX5_asks 48 = .ok (.aload_n 0, 1) := dk_42 (dk_at dksX5_asks_2 3 rfl rfl)
theorem dX5_asks_49 : decode cX5_asks 49 = .ok (.aload_n 1, 1) := dk_43 (dk_at dksX5_asks_2 4 rfl rfl)
theorem dX5_asks_50 : decode cX5_asks 50 = .ok (.iload_n 2, 1) := dk_28 (dk_at dksX5_asks_2 5 rfl rfl)
theorem dX5_asks_51 : decode cX5_asks 51 = .ok (.iconst 1, 1) := dk_4 (dk_at dksX5_asks_2 6 rfl rfl)
theorem dX5_asks_52 : decode cX5_asks 52 = .ok (.isub, 1) := dk_100 (dk_at dksX5_asks_2 7 rfl rfl)
theorem dX5_asks_53 : decode cX5_asks 53 = .ok (.invokevirtual 114, 3) := dk_182 0 114 (dk_at dksX5_asks_2 8 rfl rfl)
theorem dX5_asks_56 : decode cX5_asks 56 = .ok (.ifCond .ne 19, 3) := dk_154 0 19 (dk_at dksX5_asks_2 11 rfl rfl)
theorem dX5_asks_59 : decode cX5_asks 59 = .ok (.aload_n 0, 1) := dk_42 (dk_at dksX5_asks_2 14 rfl rfl)
theorem dX5_asks_60 : decode cX5_asks 60 = .ok (.aload_n 1, 1) := dk_43 (dk_at dksX5_asks_2 15 rfl rfl)
theorem dX5_asks_61 : decode cX5_asks 61 = .ok (.iload_n 2, 1) := dk_28 (dk_at dksX5_asks_2 16 rfl rfl)
theorem dX5_asks_62 : decode cX5_asks 62 = .ok (.iload 4, 2) := dk_21 4 (dk_at dksX5_asks_2 17 rfl rfl)
theorem dX5_asks_64 : decode cX5_asks 64 = .ok (.iadd, 1) := dk_96 (dk_at dksX5_asks_2 19 rfl rfl)
theorem dX5_asks_65 : decode cX5_asks 65 = .ok (.invokevirtual 114, 3) := dk_182 0 114 (dk_at dksX5_asks_2 20 rfl rfl)
theorem dX5_asks_68 : decode cX5_asks 68 = .ok (.ifCond .ne 7, 3) := dk_154 0 7 (dk_at dksX5_asks_3 0 rfl rfl)
theorem dX5_asks_71 : decode cX5_asks 71 = .ok (.iconst 1, 1) := dk_4 (dk_at dksX5_asks_3 3 rfl rfl)
theorem dX5_asks_72 : decode cX5_asks 72 = .ok (.goto 4, 3) := dk_167 0 4 (dk_at dksX5_asks_3 4 rfl rfl)
theorem dX5_asks_75 : decode cX5_asks 75 = .ok (.iconst 0, 1) := dk_3 (dk_at dksX5_asks_3 7 rfl rfl)
theorem dX5_asks_76 : decode cX5_asks 76 = .ok (.bipush (-7), 2) := dk_16 249 (dk_at dksX5_asks_3 8 rfl rfl)
theorem dX5_asks_78 : decode cX5_asks 78 = .ok (.invokestatic 43, 3) := dk_184 0 43 (dk_at dksX5_asks_3 10 rfl rfl)
theorem dX5_asks_81 : decode cX5_asks 81 = .ok (.return_, 1) := dk_177 (dk_at dksX5_asks_3 13 rfl rfl)
abbrev cX5_isTree : ByteArray := prog_2_method_7_code
def yX5_isTree : MethodName := ⟨RX5, "isTree", "([LChurchyardBook$Place;I)Z"⟩
def dkwX5_isTree_1 : List UInt8 := [172]
abbrev dktX5_isTree_1 : List UInt8 := dkwX5_isTree_1 ++ []
def dkwX5_isTree_0 : List UInt8 := [28, 155, 0, 22, 28, 43, 190, 162, 0, 16, 43, 28, 50, 193, 0, 66, 153, 0, 7, 4, 167, 0, 4, 3]
abbrev dktX5_isTree_0 : List UInt8 := dkwX5_isTree_0 ++ dktX5_isTree_1
theorem dksX5_isTree_0 : cX5_isTree.data.toList.drop 0 = dktX5_isTree_0 := by decide +kernel
theorem dksX5_isTree_1 : cX5_isTree.data.toList.drop 24 = dktX5_isTree_1 := dk_seg dksX5_isTree_0 24 rfl rfl
theorem dX5_isTree_0 : decode cX5_isTree 0 = .ok (.iload_n 2, 1) := dk_28 (dk_at dksX5_isTree_0 0 rfl rfl)
theorem dX5_isTree_1 : decode cX5_isTree 1 = .ok (.ifCond .lt 22, 3) := dk_155 0 22 (dk_at dksX5_isTree_0 1 rfl rfl)
theorem dX5_isTree_4 : decode cX5_isTree 4 = .ok (.iload_n 2, 1) := dk_28 (dk_at dksX5_isTree_0 4 rfl rfl)
theorem dX5_isTree_5 : decode cX5_isTree 5 = .ok (.aload_n 1, 1) := dk_43 (dk_at dksX5_isTree_0 5 rfl rfl)
theorem dX5_isTree_6 : decode cX5_isTree 6 = .ok (.arraylength, 1) := dk_190 (dk_at dksX5_isTree_0 6 rfl rfl)
theorem dX5_isTree_7 : decode cX5_isTree 7 = .ok (.if_icmp .ge 16, 3) := dk_162 0 16 (dk_at dksX5_isTree_0 7 rfl rfl)
theorem dX5_isTree_10 : decode cX5_isTree 10 = .ok (.aload_n 1, 1) := dk_43 (dk_at dksX5_isTree_0 10 rfl rfl)
theorem dX5_isTree_11 : decode cX5_isTree 11 = .ok (.iload_n 2, 1) := dk_28 (dk_at dksX5_isTree_0 11 rfl rfl)
theorem dX5_isTree_12 : decode cX5_isTree 12 = .ok (.aaload, 1) := dk_50 (dk_at dksX5_isTree_0 12 rfl rfl)
theorem dX5_isTree_13 : decode cX5_isTree 13 = .ok (.instanceof 66, 3) := dk_193 0 66 (dk_at dksX5_isTree_0 13 rfl rfl)
theorem dX5_isTree_16 : decode cX5_isTree 16 = .ok (.ifCond .eq 7, 3) := dk_153 0 7 (dk_at dksX5_isTree_0 16 rfl rfl)
theorem dX5_isTree_19 : decode cX5_isTree 19 = .ok (.iconst 1, 1) := dk_4 (dk_at dksX5_isTree_0 19 rfl rfl)
theorem dX5_isTree_20 : decode cX5_isTree 20 = .ok (.goto 4, 3) := dk_167 0 4 (dk_at dksX5_isTree_0 20 rfl rfl)
theorem dX5_isTree_23 : decode cX5_isTree 23 = .ok (.iconst 0, 1) := dk_3 (dk_at dksX5_isTree_0 23 rfl rfl)
theorem dX5_isTree_24 : decode cX5_isTree 24 = .ok (.ireturn, 1) := dk_172 (dk_at dksX5_isTree_1 0 rfl rfl)
abbrev cX5_newPerson : ByteArray := prog_2_method_18_code
def yX5_newPerson : MethodName := ⟨RX5, "newPerson", "(I)I"⟩
def dkwX5_newPerson_2 : List UInt8 := [182, 0, 31, 27, 183, 0, 153, 182, 0, 77, 87, 42, 180, 0, 28, 182, 0, 31, 4, 100, 172]
abbrev dktX5_newPerson_2 : List UInt8 := dkwX5_newPerson_2 ++ []
def dkwX5_newPerson_1 : List UInt8 := [162, 0, 7, 4, 167, 0, 4, 3, 2, 184, 0, 43, 42, 180, 0, 28, 187, 0, 41, 89, 42, 180, 0, 28]
abbrev dktX5_newPerson_1 : List UInt8 := dkwX5_newPerson_1 ++ dktX5_newPerson_2
def dkwX5_newPerson_0 : List UInt8 := [27, 42, 180, 0, 149, 163, 0, 26, 27, 18, 152, 161, 0, 20, 42, 180, 0, 28, 182, 0, 31, 17, 0, 150]
abbrev dktX5_newPerson_0 : List UInt8 := dkwX5_newPerson_0 ++ dktX5_newPerson_1
theorem dksX5_newPerson_0 : cX5_newPerson.data.toList.drop 0 = dktX5_newPerson_0 := by decide +kernel
theorem dksX5_newPerson_1 : cX5_newPerson.data.toList.drop 24 = dktX5_newPerson_1 := dk_seg dksX5_newPerson_0 24 rfl rfl
theorem dksX5_newPerson_2 : cX5_newPerson.data.toList.drop 48 = dktX5_newPerson_2 := dk_seg dksX5_newPerson_1 24 rfl rfl
theorem dX5_newPerson_0 : decode cX5_newPerson 0 = .ok (.iload_n 1, 1) := dk_27 (dk_at dksX5_newPerson_0 0 rfl rfl)
theorem dX5_newPerson_1 : decode cX5_newPerson 1 = .ok (.aload_n 0, 1) := dk_42 (dk_at dksX5_newPerson_0 1 rfl rfl)
theorem dX5_newPerson_2 : decode cX5_newPerson 2 = .ok (.getfield 149, 3) := dk_180 0 149 (dk_at dksX5_newPerson_0 2 rfl rfl)
theorem dX5_newPerson_5 : decode cX5_newPerson 5 = .ok (.if_icmp .gt 26, 3) := dk_163 0 26 (dk_at dksX5_newPerson_0 5 rfl rfl)
theorem dX5_newPerson_8 : decode cX5_newPerson 8 = .ok (.iload_n 1, 1) := dk_27 (dk_at dksX5_newPerson_0 8 rfl rfl)
theorem dX5_newPerson_9 : decode cX5_newPerson 9 = .ok (.ldc 152, 2) := dk_18 152 (dk_at dksX5_newPerson_0 9 rfl rfl)
theorem dX5_newPerson_11 : decode cX5_newPerson 11 = .ok (.if_icmp .lt 20, 3) := dk_161 0 20 (dk_at dksX5_newPerson_0 11 rfl rfl)
theorem dX5_newPerson_14 : decode cX5_newPerson 14 = .ok (.aload_n 0, 1) := dk_42 (dk_at dksX5_newPerson_0 14 rfl rfl)
theorem dX5_newPerson_15 : decode cX5_newPerson 15 = .ok (.getfield 28, 3) := dk_180 0 28 (dk_at dksX5_newPerson_0 15 rfl rfl)
theorem dX5_newPerson_18 : decode cX5_newPerson 18 = .ok (.invokevirtual 31, 3) := dk_182 0 31 (dk_at dksX5_newPerson_0 18 rfl rfl)
theorem dX5_newPerson_21 : decode cX5_newPerson 21 = .ok (.sipush 150, 3) := dk_17 0 150 (dk_at dksX5_newPerson_0 21 rfl rfl)
theorem dX5_newPerson_24 : decode cX5_newPerson 24 = .ok (.if_icmp .ge 7, 3) := dk_162 0 7 (dk_at dksX5_newPerson_1 0 rfl rfl)
theorem dX5_newPerson_27 : decode cX5_newPerson 27 = .ok (.iconst 1, 1) := dk_4 (dk_at dksX5_newPerson_1 3 rfl rfl)
theorem dX5_newPerson_28 : decode cX5_newPerson 28 = .ok (.goto 4, 3) := dk_167 0 4 (dk_at dksX5_newPerson_1 4 rfl rfl)
theorem dX5_newPerson_31 : decode cX5_newPerson 31 = .ok (.iconst 0, 1) := dk_3 (dk_at dksX5_newPerson_1 7 rfl rfl)
theorem dX5_newPerson_32 : decode cX5_newPerson 32 = .ok (.iconst (-1), 1) := dk_2 (dk_at dksX5_newPerson_1 8 rfl rfl)
theorem dX5_newPerson_33 : decode cX5_newPerson 33 = .ok (.invokestatic 43, 3) := dk_184 0 43 (dk_at dksX5_newPerson_1 9 rfl rfl)
theorem dX5_newPerson_36 : decode cX5_newPerson 36 = .ok (.aload_n 0, 1) := dk_42 (dk_at dksX5_newPerson_1 12 rfl rfl)
theorem dX5_newPerson_37 : decode cX5_newPerson 37 = .ok (.getfield 28, 3) := dk_180 0 28 (dk_at dksX5_newPerson_1 13 rfl rfl)
theorem dX5_newPerson_40 : decode cX5_newPerson 40 = .ok (.new 41, 3) := dk_187 0 41 (dk_at dksX5_newPerson_1 16 rfl rfl)
theorem dX5_newPerson_43 : decode cX5_newPerson 43 = .ok (.dup, 1) := dk_89 (dk_at dksX5_newPerson_1 19 rfl rfl)
theorem dX5_newPerson_44 : decode cX5_newPerson 44 = .ok (.aload_n 0, 1) := dk_42 (dk_at dksX5_newPerson_1 20 rfl rfl)
theorem dX5_newPerson_45 : decode cX5_newPerson 45 = .ok (.getfield 28, 3) := dk_180 0 28 (dk_at dksX5_newPerson_1 21 rfl rfl)
theorem dX5_newPerson_48 : decode cX5_newPerson 48 = .ok (.invokevirtual 31, 3) := dk_182 0 31 (dk_at dksX5_newPerson_2 0 rfl rfl)
theorem dX5_newPerson_51 : decode cX5_newPerson 51 = .ok (.iload_n 1, 1) := dk_27 (dk_at dksX5_newPerson_2 3 rfl rfl)
theorem dX5_newPerson_52 : decode cX5_newPerson 52 = .ok (.invokespecial 153, 3) := dk_183 0 153 (dk_at dksX5_newPerson_2 4 rfl rfl)
theorem dX5_newPerson_55 : decode cX5_newPerson 55 = .ok (.invokevirtual 77, 3) := dk_182 0 77 (dk_at dksX5_newPerson_2 7 rfl rfl)
theorem dX5_newPerson_58 : decode cX5_newPerson 58 = .ok (.pop, 1) := dk_87 (dk_at dksX5_newPerson_2 10 rfl rfl)
theorem dX5_newPerson_59 : decode cX5_newPerson 59 = .ok (.aload_n 0, 1) := dk_42 (dk_at dksX5_newPerson_2 11 rfl rfl)
theorem dX5_newPerson_60 : decode cX5_newPerson 60 = .ok (.getfield 28, 3) := dk_180 0 28 (dk_at dksX5_newPerson_2 12 rfl rfl)
theorem dX5_newPerson_63 : decode cX5_newPerson 63 = .ok (.invokevirtual 31, 3) := dk_182 0 31 (dk_at dksX5_newPerson_2 15 rfl rfl)
theorem dX5_newPerson_66 : decode cX5_newPerson 66 = .ok (.iconst 1, 1) := dk_4 (dk_at dksX5_newPerson_2 18 rfl rfl)
theorem dX5_newPerson_67 : decode cX5_newPerson 67 = .ok (.isub, 1) := dk_100 (dk_at dksX5_newPerson_2 19 rfl rfl)
theorem dX5_newPerson_68 : decode cX5_newPerson 68 = .ok (.ireturn, 1) := dk_172 (dk_at dksX5_newPerson_2 20 rfl rfl)
abbrev cX5_kin : ByteArray := prog_2_method_19_code
def yX5_kin : MethodName := ⟨RX5, "kin", "(III)I"⟩
def dkwX5_kin_7 : List UInt8 := [25, 4, 181, 0, 174, 3, 172]
abbrev dktX5_kin_7 : List UInt8 := dkwX5_kin_7 ++ []
def dkwX5_kin_6 : List UInt8 := [184, 0, 43, 25, 5, 180, 0, 171, 199, 0, 13, 25, 5, 25, 4, 181, 0, 171, 167, 0, 10, 25, 5]
abbrev dktX5_kin_6 : List UInt8 := dkwX5_kin_6 ++ dktX5_kin_7
def dkwX5_kin_5 : List UInt8 := [25, 5, 180, 0, 171, 198, 0, 11, 25, 5, 180, 0, 174, 199, 0, 7, 4, 167, 0, 4, 3, 2]
abbrev dktX5_kin_5 : List UInt8 := dkwX5_kin_5 ++ dktX5_kin_6
def dkwX5_kin_4 : List UInt8 := [25, 4, 25, 5, 182, 0, 164, 154, 0, 36, 25, 4, 180, 0, 168, 25, 5, 180, 0, 168, 162, 0, 23]
abbrev dktX5_kin_4 : List UInt8 := dkwX5_kin_4 ++ dktX5_kin_5
def dkwX5_kin_3 : List UInt8 := [167, 0, 4, 3, 2, 184, 0, 43, 25, 4, 25, 5, 181, 0, 160, 25, 5, 25, 4, 181, 0, 160, 3, 172]
abbrev dktX5_kin_3 : List UInt8 := dkwX5_kin_3 ++ dktX5_kin_4
def dkwX5_kin_2 : List UInt8 := [184, 0, 43, 28, 154, 0, 44, 25, 4, 180, 0, 160, 199, 0, 15, 25, 5, 180, 0, 160, 199, 0, 7, 4]
abbrev dktX5_kin_2 : List UInt8 := dkwX5_kin_2 ++ dktX5_kin_3
def dkwX5_kin_1 : List UInt8 := [25, 4, 25, 5, 165, 0, 16, 28, 153, 0, 8, 28, 4, 160, 0, 7, 4, 167, 0, 4, 3, 2]
abbrev dktX5_kin_1 : List UInt8 := dkwX5_kin_1 ++ dktX5_kin_2
def dkwX5_kin_0 : List UInt8 := [42, 27, 182, 0, 156, 58, 4, 42, 29, 182, 0, 156, 58, 5, 25, 4, 198, 0, 28, 25, 5, 198, 0, 23]
abbrev dktX5_kin_0 : List UInt8 := dkwX5_kin_0 ++ dktX5_kin_1
theorem dksX5_kin_0 : cX5_kin.data.toList.drop 0 = dktX5_kin_0 := by decide +kernel
theorem dksX5_kin_1 : cX5_kin.data.toList.drop 24 = dktX5_kin_1 := dk_seg dksX5_kin_0 24 rfl rfl
theorem dksX5_kin_2 : cX5_kin.data.toList.drop 46 = dktX5_kin_2 := dk_seg dksX5_kin_1 22 rfl rfl
theorem dksX5_kin_3 : cX5_kin.data.toList.drop 70 = dktX5_kin_3 := dk_seg dksX5_kin_2 24 rfl rfl
theorem dksX5_kin_4 : cX5_kin.data.toList.drop 94 = dktX5_kin_4 := dk_seg dksX5_kin_3 24 rfl rfl
theorem dksX5_kin_5 : cX5_kin.data.toList.drop 117 = dktX5_kin_5 := dk_seg dksX5_kin_4 23 rfl rfl
theorem dksX5_kin_6 : cX5_kin.data.toList.drop 139 = dktX5_kin_6 := dk_seg dksX5_kin_5 22 rfl rfl
theorem dksX5_kin_7 : cX5_kin.data.toList.drop 162 = dktX5_kin_7 := dk_seg dksX5_kin_6 23 rfl rfl
theorem dX5_kin_0 : decode cX5_kin 0 = .ok (.aload_n 0, 1) := dk_42 (dk_at dksX5_kin_0 0 rfl rfl)
theorem dX5_kin_1 : decode cX5_kin 1 = .ok (.iload_n 1, 1) := dk_27 (dk_at dksX5_kin_0 1 rfl rfl)
theorem dX5_kin_2 : decode cX5_kin 2 = .ok (.invokevirtual 156, 3) := dk_182 0 156 (dk_at dksX5_kin_0 2 rfl rfl)
theorem dX5_kin_5 : decode cX5_kin 5 = .ok (.astore 4, 2) := dk_58 4 (dk_at dksX5_kin_0 5 rfl rfl)
theorem dX5_kin_7 : decode cX5_kin 7 = .ok (.aload_n 0, 1) := dk_42 (dk_at dksX5_kin_0 7 rfl rfl)
theorem dX5_kin_8 : decode cX5_kin 8 = .ok (.iload_n 3, 1) := dk_29 (dk_at dksX5_kin_0 8 rfl rfl)
theorem dX5_kin_9 : decode cX5_kin 9 = .ok (.invokevirtual 156, 3) := dk_182 0 156 (dk_at dksX5_kin_0 9 rfl rfl)
theorem dX5_kin_12 : decode cX5_kin 12 = .ok (.astore 5, 2) := dk_58 5 (dk_at dksX5_kin_0 12 rfl rfl)
theorem dX5_kin_14 : decode cX5_kin 14 = .ok (.aload 4, 2) := dk_25 4 (dk_at dksX5_kin_0 14 rfl rfl)
theorem dX5_kin_16 : decode cX5_kin 16 = .ok (.ifnull 28, 3) := dk_198 0 28 (dk_at dksX5_kin_0 16 rfl rfl)
theorem dX5_kin_19 : decode cX5_kin 19 = .ok (.aload 5, 2) := dk_25 5 (dk_at dksX5_kin_0 19 rfl rfl)
theorem dX5_kin_21 : decode cX5_kin 21 = .ok (.ifnull 23, 3) := dk_198 0 23 (dk_at dksX5_kin_0 21 rfl rfl)
theorem dX5_kin_24 : decode cX5_kin 24 = .ok (.aload 4, 2) := dk_25 4 (dk_at dksX5_kin_1 0 rfl rfl)
theorem dX5_kin_26 : decode cX5_kin 26 = .ok (.aload 5, 2) := dk_25 5 (dk_at dksX5_kin_1 2 rfl rfl)
theorem dX5_kin_28 : decode cX5_kin 28 = .ok (.if_acmp .eq 16, 3) := dk_165 0 16 (dk_at dksX5_kin_1 4 rfl rfl)
theorem dX5_kin_31 : decode cX5_kin 31 = .ok (.iload_n 2, 1) := dk_28 (dk_at dksX5_kin_1 7 rfl rfl)
theorem dX5_kin_32 : decode cX5_kin 32 = .ok (.ifCond .eq 8, 3) := dk_153 0 8 (dk_at dksX5_kin_1 8 rfl rfl)
theorem dX5_kin_35 : decode cX5_kin 35 = .ok (.iload_n 2, 1) := dk_28 (dk_at dksX5_kin_1 11 rfl rfl)
theorem dX5_kin_36 : decode cX5_kin 36 = .ok (.iconst 1, 1) := dk_4 (dk_at dksX5_kin_1 12 rfl rfl)
theorem dX5_kin_37 : decode cX5_kin 37 = .ok (.if_icmp .ne 7, 3) := dk_160 0 7 (dk_at dksX5_kin_1 13 rfl rfl)
theorem dX5_kin_40 : decode cX5_kin 40 = .ok (.iconst 1, 1) := dk_4 (dk_at dksX5_kin_1 16 rfl rfl)
theorem dX5_kin_41 : decode cX5_kin 41 = .ok (.goto 4, 3) := dk_167 0 4 (dk_at dksX5_kin_1 17 rfl rfl)
theorem dX5_kin_44 : decode cX5_kin 44 = .ok (.iconst 0, 1) := dk_3 (dk_at dksX5_kin_1 20 rfl rfl)
theorem dX5_kin_45 : decode cX5_kin 45 = .ok (.iconst (-1), 1) := dk_2 (dk_at dksX5_kin_1 21 rfl rfl)
theorem dX5_kin_46 : decode cX5_kin 46 = .ok (.invokestatic 43, 3) := dk_184 0 43 (dk_at dksX5_kin_2 0 rfl rfl)
theorem dX5_kin_49 : decode cX5_kin 49 = .ok (.iload_n 2, 1) := dk_28 (dk_at dksX5_kin_2 3 rfl rfl)
theorem dX5_kin_50 : decode cX5_kin 50 = .ok (.ifCond .ne 44, 3) := dk_154 0 44 (dk_at dksX5_kin_2 4 rfl rfl)
theorem dX5_kin_53 : decode cX5_kin 53 = .ok (.aload 4, 2) := dk_25 4 (dk_at dksX5_kin_2 7 rfl rfl)
theorem dX5_kin_55 : decode cX5_kin 55 = .ok (.getfield 160, 3) := dk_180 0 160 (dk_at dksX5_kin_2 9 rfl rfl)
theorem dX5_kin_58 : decode cX5_kin 58 = .ok (.ifnonnull 15, 3) := dk_199 0 15 (dk_at dksX5_kin_2 12 rfl rfl)
theorem dX5_kin_61 : decode cX5_kin 61 = .ok (.aload 5, 2) := dk_25 5 (dk_at dksX5_kin_2 15 rfl rfl)
theorem dX5_kin_63 : decode cX5_kin 63 = .ok (.getfield 160, 3) := dk_180 0 160 (dk_at dksX5_kin_2 17 rfl rfl)
theorem dX5_kin_66 : decode cX5_kin 66 = .ok (.ifnonnull 7, 3) := dk_199 0 7 (dk_at dksX5_kin_2 20 rfl rfl)
theorem dX5_kin_69 : decode cX5_kin 69 = .ok (.iconst 1, 1) := dk_4 (dk_at dksX5_kin_2 23 rfl rfl)
theorem dX5_kin_70 : decode cX5_kin 70 = .ok (.goto 4, 3) := dk_167 0 4 (dk_at dksX5_kin_3 0 rfl rfl)
theorem dX5_kin_73 : decode cX5_kin 73 = .ok (.iconst 0, 1) := dk_3 (dk_at dksX5_kin_3 3 rfl rfl)
theorem dX5_kin_74 : decode cX5_kin 74 = .ok (.iconst (-1), 1) := dk_2 (dk_at dksX5_kin_3 4 rfl rfl)
theorem dX5_kin_75 : decode cX5_kin 75 = .ok (.invokestatic 43, 3) := dk_184 0 43 (dk_at dksX5_kin_3 5 rfl rfl)
theorem dX5_kin_78 : decode cX5_kin 78 = .ok (.aload 4, 2) := dk_25 4 (dk_at dksX5_kin_3 8 rfl rfl)
theorem dX5_kin_80 : decode cX5_kin 80 = .ok (.aload 5, 2) := dk_25 5 (dk_at dksX5_kin_3 10 rfl rfl)
theorem dX5_kin_82 : decode cX5_kin 82 = .ok (.putfield 160, 3) := dk_181 0 160 (dk_at dksX5_kin_3 12 rfl rfl)
theorem dX5_kin_85 : decode cX5_kin 85 = .ok (.aload 5, 2) := dk_25 5 (dk_at dksX5_kin_3 15 rfl rfl)
theorem dX5_kin_87 : decode cX5_kin 87 = .ok (.aload 4, 2) := dk_25 4 (dk_at dksX5_kin_3 17 rfl rfl)
theorem dX5_kin_89 : decode cX5_kin 89 = .ok (.putfield 160, 3) := dk_181 0 160 (dk_at dksX5_kin_3 19 rfl rfl)
theorem dX5_kin_92 : decode cX5_kin 92 = .ok (.iconst 0, 1) := dk_3 (dk_at dksX5_kin_3 22 rfl rfl)
theorem dX5_kin_93 : decode cX5_kin 93 = .ok (.ireturn, 1) := dk_172 (dk_at dksX5_kin_3 23 rfl rfl)
theorem dX5_kin_94 : decode cX5_kin 94 = .ok (.aload 4, 2) := dk_25 4 (dk_at dksX5_kin_4 0 rfl rfl)
theorem dX5_kin_96 : decode cX5_kin 96 = .ok (.aload 5, 2) := dk_25 5 (dk_at dksX5_kin_4 2 rfl rfl)
theorem dX5_kin_98 : decode cX5_kin 98 = .ok (.invokevirtual 164, 3) := dk_182 0 164 (dk_at dksX5_kin_4 4 rfl rfl)
theorem dX5_kin_101 : decode cX5_kin 101 = .ok (.ifCond .ne 36, 3) := dk_154 0 36 (dk_at dksX5_kin_4 7 rfl rfl)
theorem dX5_kin_104 : decode cX5_kin 104 = .ok (.aload 4, 2) := dk_25 4 (dk_at dksX5_kin_4 10 rfl rfl)
theorem dX5_kin_106 : decode cX5_kin 106 = .ok (.getfield 168, 3) := dk_180 0 168 (dk_at dksX5_kin_4 12 rfl rfl)
theorem dX5_kin_109 : decode cX5_kin 109 = .ok (.aload 5, 2) := dk_25 5 (dk_at dksX5_kin_4 15 rfl rfl)
theorem dX5_kin_111 : decode cX5_kin 111 = .ok (.getfield 168, 3) := dk_180 0 168 (dk_at dksX5_kin_4 17 rfl rfl)
theorem dX5_kin_114 : decode cX5_kin 114 = .ok (.if_icmp .ge 23, 3) := dk_162 0 23 (dk_at dksX5_kin_4 20 rfl rfl)
theorem dX5_kin_117 : decode cX5_kin 117 = .ok (.aload 5, 2) := dk_25 5 (dk_at dksX5_kin_5 0 rfl rfl)
theorem dX5_kin_119 : decode cX5_kin 119 = .ok (.getfield 171, 3) := dk_180 0 171 (dk_at dksX5_kin_5 2 rfl rfl)
theorem dX5_kin_122 : decode cX5_kin 122 = .ok (.ifnull 11, 3) := dk_198 0 11 (dk_at dksX5_kin_5 5 rfl rfl)
theorem dX5_kin_125 : decode cX5_kin 125 = .ok (.aload 5, 2) := dk_25 5 (dk_at dksX5_kin_5 8 rfl rfl)
theorem dX5_kin_127 : decode cX5_kin 127 = .ok (.getfield 174, 3) := dk_180 0 174 (dk_at dksX5_kin_5 10 rfl rfl)
theorem dX5_kin_130 : decode cX5_kin 130 = .ok (.ifnonnull 7, 3) := dk_199 0 7 (dk_at dksX5_kin_5 13 rfl rfl)
theorem dX5_kin_133 : decode cX5_kin 133 = .ok (.iconst 1, 1) := dk_4 (dk_at dksX5_kin_5 16 rfl rfl)
theorem dX5_kin_134 : decode cX5_kin 134 = .ok (.goto 4, 3) := dk_167 0 4 (dk_at dksX5_kin_5 17 rfl rfl)
theorem dX5_kin_137 : decode cX5_kin 137 = .ok (.iconst 0, 1) := dk_3 (dk_at dksX5_kin_5 20 rfl rfl)
theorem dX5_kin_138 : decode cX5_kin 138 = .ok (.iconst (-1), 1) := dk_2 (dk_at dksX5_kin_5 21 rfl rfl)
theorem dX5_kin_139 : decode cX5_kin 139 = .ok (.invokestatic 43, 3) := dk_184 0 43 (dk_at dksX5_kin_6 0 rfl rfl)
theorem dX5_kin_142 : decode cX5_kin 142 = .ok (.aload 5, 2) := dk_25 5 (dk_at dksX5_kin_6 3 rfl rfl)
theorem dX5_kin_144 : decode cX5_kin 144 = .ok (.getfield 171, 3) := dk_180 0 171 (dk_at dksX5_kin_6 5 rfl rfl)
theorem dX5_kin_147 : decode cX5_kin 147 = .ok (.ifnonnull 13, 3) := dk_199 0 13 (dk_at dksX5_kin_6 8 rfl rfl)
theorem dX5_kin_150 : decode cX5_kin 150 = .ok (.aload 5, 2) := dk_25 5 (dk_at dksX5_kin_6 11 rfl rfl)
theorem dX5_kin_152 : decode cX5_kin 152 = .ok (.aload 4, 2) := dk_25 4 (dk_at dksX5_kin_6 13 rfl rfl)
theorem dX5_kin_154 : decode cX5_kin 154 = .ok (.putfield 171, 3) := dk_181 0 171 (dk_at dksX5_kin_6 15 rfl rfl)
theorem dX5_kin_157 : decode cX5_kin 157 = .ok (.goto 10, 3) := dk_167 0 10 (dk_at dksX5_kin_6 18 rfl rfl)
theorem dX5_kin_160 : decode cX5_kin 160 = .ok (.aload 5, 2) := dk_25 5 (dk_at dksX5_kin_6 21 rfl rfl)
theorem dX5_kin_162 : decode cX5_kin 162 = .ok (.aload 4, 2) := dk_25 4 (dk_at dksX5_kin_7 0 rfl rfl)
theorem dX5_kin_164 : decode cX5_kin 164 = .ok (.putfield 174, 3) := dk_181 0 174 (dk_at dksX5_kin_7 2 rfl rfl)
theorem dX5_kin_167 : decode cX5_kin 167 = .ok (.iconst 0, 1) := dk_3 (dk_at dksX5_kin_7 5 rfl rfl)
theorem dX5_kin_168 : decode cX5_kin 168 = .ok (.ireturn, 1) := dk_172 (dk_at dksX5_kin_7 6 rfl rfl)
abbrev cX5_person : ByteArray := prog_2_method_3_code
def yX5_person : MethodName := ⟨RX5, "person", "(I)LChurchyardBook$Person;"⟩
def dkwX5_person_1 : List UInt8 := [182, 0, 35, 192, 0, 41, 176]
abbrev dktX5_person_1 : List UInt8 := dkwX5_person_1 ++ []
def dkwX5_person_0 : List UInt8 := [27, 155, 0, 14, 27, 42, 180, 0, 28, 182, 0, 31, 161, 0, 7, 1, 167, 0, 14, 42, 180, 0, 28, 27]
abbrev dktX5_person_0 : List UInt8 := dkwX5_person_0 ++ dktX5_person_1
theorem dksX5_person_0 : cX5_person.data.toList.drop 0 = dktX5_person_0 := by decide +kernel
theorem dksX5_person_1 : cX5_person.data.toList.drop 24 = dktX5_person_1 := dk_seg dksX5_person_0 24 rfl rfl
theorem dX5_person_0 : decode cX5_person 0 = .ok (.iload_n 1, 1) := dk_27 (dk_at dksX5_person_0 0 rfl rfl)
theorem dX5_person_1 : decode cX5_person 1 = .ok (.ifCond .lt 14, 3) := dk_155 0 14 (dk_at dksX5_person_0 1 rfl rfl)
theorem dX5_person_4 : decode cX5_person 4 = .ok (.iload_n 1, 1) := dk_27 (dk_at dksX5_person_0 4 rfl rfl)
theorem dX5_person_5 : decode cX5_person 5 = .ok (.aload_n 0, 1) := dk_42 (dk_at dksX5_person_0 5 rfl rfl)
theorem dX5_person_6 : decode cX5_person 6 = .ok (.getfield 28, 3) := dk_180 0 28 (dk_at dksX5_person_0 6 rfl rfl)
theorem dX5_person_9 : decode cX5_person 9 = .ok (.invokevirtual 31, 3) := dk_182 0 31 (dk_at dksX5_person_0 9 rfl rfl)
theorem dX5_person_12 : decode cX5_person 12 = .ok (.if_icmp .lt 7, 3) := dk_161 0 7 (dk_at dksX5_person_0 12 rfl rfl)
theorem dX5_person_15 : decode cX5_person 15 = .ok (.aconst_null, 1) := dk_1 (dk_at dksX5_person_0 15 rfl rfl)
theorem dX5_person_16 : decode cX5_person 16 = .ok (.goto 14, 3) := dk_167 0 14 (dk_at dksX5_person_0 16 rfl rfl)
theorem dX5_person_19 : decode cX5_person 19 = .ok (.aload_n 0, 1) := dk_42 (dk_at dksX5_person_0 19 rfl rfl)
theorem dX5_person_20 : decode cX5_person 20 = .ok (.getfield 28, 3) := dk_180 0 28 (dk_at dksX5_person_0 20 rfl rfl)
theorem dX5_person_23 : decode cX5_person 23 = .ok (.iload_n 1, 1) := dk_27 (dk_at dksX5_person_0 23 rfl rfl)
theorem dX5_person_24 : decode cX5_person 24 = .ok (.invokevirtual 35, 3) := dk_182 0 35 (dk_at dksX5_person_1 0 rfl rfl)
theorem dX5_person_27 : decode cX5_person 27 = .ok (.checkcast 41, 3) := dk_192 0 41 (dk_at dksX5_person_1 3 rfl rfl)
theorem dX5_person_30 : decode cX5_person 30 = .ok (.areturn, 1) := dk_176 (dk_at dksX5_person_1 6 rfl rfl)
abbrev cX5_paper : ByteArray := prog_2_method_20_code
def yX5_paper : MethodName := ⟨RX5, "paper", "(II)I"⟩
def dkwX5_paper_2 : List UInt8 := [3, 172]
abbrev dktX5_paper_2 : List UInt8 := dkwX5_paper_2 ++ []
def dkwX5_paper_1 : List UInt8 := [180, 0, 177, 154, 0, 7, 4, 167, 0, 4, 3, 2, 184, 0, 43, 45, 42, 28, 182, 0, 156, 181, 0, 181]
abbrev dktX5_paper_1 : List UInt8 := dkwX5_paper_1 ++ dktX5_paper_2
def dkwX5_paper_0 : List UInt8 := [42, 27, 182, 0, 156, 78, 45, 198, 0, 27, 42, 28, 182, 0, 156, 198, 0, 19, 27, 28, 159, 0, 14, 45]
abbrev dktX5_paper_0 : List UInt8 := dkwX5_paper_0 ++ dktX5_paper_1
theorem dksX5_paper_0 : cX5_paper.data.toList.drop 0 = dktX5_paper_0 := by decide +kernel
theorem dksX5_paper_1 : cX5_paper.data.toList.drop 24 = dktX5_paper_1 := dk_seg dksX5_paper_0 24 rfl rfl
theorem dksX5_paper_2 : cX5_paper.data.toList.drop 48 = dktX5_paper_2 := dk_seg dksX5_paper_1 24 rfl rfl
theorem dX5_paper_0 : decode cX5_paper 0 = .ok (.aload_n 0, 1) := dk_42 (dk_at dksX5_paper_0 0 rfl rfl)
theorem dX5_paper_1 : decode cX5_paper 1 = .ok (.iload_n 1, 1) := dk_27 (dk_at dksX5_paper_0 1 rfl rfl)
theorem dX5_paper_2 : decode cX5_paper 2 = .ok (.invokevirtual 156, 3) := dk_182 0 156 (dk_at dksX5_paper_0 2 rfl rfl)
theorem dX5_paper_5 : decode cX5_paper 5 = .ok (.astore_n 3, 1) := dk_78 (dk_at dksX5_paper_0 5 rfl rfl)
theorem dX5_paper_6 : decode cX5_paper 6 = .ok (.aload_n 3, 1) := dk_45 (dk_at dksX5_paper_0 6 rfl rfl)
theorem dX5_paper_7 : decode cX5_paper 7 = .ok (.ifnull 27, 3) := dk_198 0 27 (dk_at dksX5_paper_0 7 rfl rfl)
theorem dX5_paper_10 : decode cX5_paper 10 = .ok (.aload_n 0, 1) := dk_42 (dk_at dksX5_paper_0 10 rfl rfl)
theorem dX5_paper_11 : decode cX5_paper 11 = .ok (.iload_n 2, 1) := dk_28 (dk_at dksX5_paper_0 11 rfl rfl)
theorem dX5_paper_12 : decode cX5_paper 12 = .ok (.invokevirtual 156, 3) := dk_182 0 156 (dk_at dksX5_paper_0 12 rfl rfl)
theorem dX5_paper_15 : decode cX5_paper 15 = .ok (.ifnull 19, 3) := dk_198 0 19 (dk_at dksX5_paper_0 15 rfl rfl)
theorem dX5_paper_18 : decode cX5_paper 18 = .ok (.iload_n 1, 1) := dk_27 (dk_at dksX5_paper_0 18 rfl rfl)
theorem dX5_paper_19 : decode cX5_paper 19 = .ok (.iload_n 2, 1) := dk_28 (dk_at dksX5_paper_0 19 rfl rfl)
theorem dX5_paper_20 : decode cX5_paper 20 = .ok (.if_icmp .eq 14, 3) := dk_159 0 14 (dk_at dksX5_paper_0 20 rfl rfl)
theorem dX5_paper_23 : decode cX5_paper 23 = .ok (.aload_n 3, 1) := dk_45 (dk_at dksX5_paper_0 23 rfl rfl)
theorem dX5_paper_24 : decode cX5_paper 24 = .ok (.getfield 177, 3) := dk_180 0 177 (dk_at dksX5_paper_1 0 rfl rfl)
theorem dX5_paper_27 : decode cX5_paper 27 = .ok (.ifCond .ne 7, 3) := dk_154 0 7 (dk_at dksX5_paper_1 3 rfl rfl)
theorem dX5_paper_30 : decode cX5_paper 30 = .ok (.iconst 1, 1) := dk_4 (dk_at dksX5_paper_1 6 rfl rfl)
theorem dX5_paper_31 : decode cX5_paper 31 = .ok (.goto 4, 3) := dk_167 0 4 (dk_at dksX5_paper_1 7 rfl rfl)
theorem dX5_paper_34 : decode cX5_paper 34 = .ok (.iconst 0, 1) := dk_3 (dk_at dksX5_paper_1 10 rfl rfl)
theorem dX5_paper_35 : decode cX5_paper 35 = .ok (.iconst (-1), 1) := dk_2 (dk_at dksX5_paper_1 11 rfl rfl)
theorem dX5_paper_36 : decode cX5_paper 36 = .ok (.invokestatic 43, 3) := dk_184 0 43 (dk_at dksX5_paper_1 12 rfl rfl)
theorem dX5_paper_39 : decode cX5_paper 39 = .ok (.aload_n 3, 1) := dk_45 (dk_at dksX5_paper_1 15 rfl rfl)
theorem dX5_paper_40 : decode cX5_paper 40 = .ok (.aload_n 0, 1) := dk_42 (dk_at dksX5_paper_1 16 rfl rfl)
theorem dX5_paper_41 : decode cX5_paper 41 = .ok (.iload_n 2, 1) := dk_28 (dk_at dksX5_paper_1 17 rfl rfl)
theorem dX5_paper_42 : decode cX5_paper 42 = .ok (.invokevirtual 156, 3) := dk_182 0 156 (dk_at dksX5_paper_1 18 rfl rfl)
theorem dX5_paper_45 : decode cX5_paper 45 = .ok (.putfield 181, 3) := dk_181 0 181 (dk_at dksX5_paper_1 21 rfl rfl)
theorem dX5_paper_48 : decode cX5_paper 48 = .ok (.iconst 0, 1) := dk_3 (dk_at dksX5_paper_2 0 rfl rfl)
theorem dX5_paper_49 : decode cX5_paper 49 = .ok (.ireturn, 1) := dk_172 (dk_at dksX5_paper_2 1 rfl rfl)
abbrev cX5_right : ByteArray := prog_2_method_21_code
def yX5_right : MethodName := ⟨RX5, "right", "(III)I"⟩
def dkwX5_right_5 : List UInt8 := [29, 104, 182, 0, 204, 172]
abbrev dktX5_right_5 : List UInt8 := dkwX5_right_5 ++ []
def dkwX5_right_4 : List UInt8 := [182, 0, 194, 25, 4, 42, 180, 0, 149, 17, 1, 109, 29, 104, 96, 181, 0, 198, 42, 25, 4, 182, 0, 201]
abbrev dktX5_right_4 : List UInt8 := dkwX5_right_4 ++ dktX5_right_5
def dkwX5_right_3 : List UInt8 := [25, 5, 180, 0, 177, 154, 0, 7, 4, 167, 0, 4, 3, 16, 253, 184, 0, 43, 25, 4, 25, 5]
abbrev dktX5_right_3 : List UInt8 := dkwX5_right_3 ++ dktX5_right_4
def dkwX5_right_2 : List UInt8 := [180, 0, 188, 154, 0, 15, 25, 4, 182, 0, 191, 153, 0, 7, 4, 167, 0, 4, 3, 16, 254, 184, 0, 43]
abbrev dktX5_right_2 : List UInt8 := dkwX5_right_2 ++ dktX5_right_3
def dkwX5_right_1 : List UInt8 := [29, 4, 161, 0, 13, 29, 16, 20, 163, 0, 7, 4, 167, 0, 4, 3, 2, 184, 0, 43, 25, 4]
abbrev dktX5_right_1 : List UInt8 := dkwX5_right_1 ++ dktX5_right_2
def dkwX5_right_0 : List UInt8 := [42, 27, 182, 0, 184, 58, 4, 42, 28, 182, 0, 156, 58, 5, 25, 4, 198, 0, 23, 25, 5, 198, 0, 18]
abbrev dktX5_right_0 : List UInt8 := dkwX5_right_0 ++ dktX5_right_1
theorem dksX5_right_0 : cX5_right.data.toList.drop 0 = dktX5_right_0 := by decide +kernel
theorem dksX5_right_1 : cX5_right.data.toList.drop 24 = dktX5_right_1 := dk_seg dksX5_right_0 24 rfl rfl
theorem dksX5_right_2 : cX5_right.data.toList.drop 46 = dktX5_right_2 := dk_seg dksX5_right_1 22 rfl rfl
theorem dksX5_right_3 : cX5_right.data.toList.drop 70 = dktX5_right_3 := dk_seg dksX5_right_2 24 rfl rfl
theorem dksX5_right_4 : cX5_right.data.toList.drop 92 = dktX5_right_4 := dk_seg dksX5_right_3 22 rfl rfl
theorem dksX5_right_5 : cX5_right.data.toList.drop 116 = dktX5_right_5 := dk_seg dksX5_right_4 24 rfl rfl
theorem dX5_right_0 : decode cX5_right 0 = .ok (.aload_n 0, 1) := dk_42 (dk_at dksX5_right_0 0 rfl rfl)
theorem dX5_right_1 : decode cX5_right 1 = .ok (.iload_n 1, 1) := dk_27 (dk_at dksX5_right_0 1 rfl rfl)
theorem dX5_right_2 : decode cX5_right 2 = .ok (.invokevirtual 184, 3) := dk_182 0 184 (dk_at dksX5_right_0 2 rfl rfl)
theorem dX5_right_5 : decode cX5_right 5 = .ok (.astore 4, 2) := dk_58 4 (dk_at dksX5_right_0 5 rfl rfl)
theorem dX5_right_7 : decode cX5_right 7 = .ok (.aload_n 0, 1) := dk_42 (dk_at dksX5_right_0 7 rfl rfl)
theorem dX5_right_8 : decode cX5_right 8 = .ok (.iload_n 2, 1) := dk_28 (dk_at dksX5_right_0 8 rfl rfl)
theorem dX5_right_9 : decode cX5_right 9 = .ok (.invokevirtual 156, 3) := dk_182 0 156 (dk_at dksX5_right_0 9 rfl rfl)
theorem dX5_right_12 : decode cX5_right 12 = .ok (.astore 5, 2) := dk_58 5 (dk_at dksX5_right_0 12 rfl rfl)
theorem dX5_right_14 : decode cX5_right 14 = .ok (.aload 4, 2) := dk_25 4 (dk_at dksX5_right_0 14 rfl rfl)
theorem dX5_right_16 : decode cX5_right 16 = .ok (.ifnull 23, 3) := dk_198 0 23 (dk_at dksX5_right_0 16 rfl rfl)
theorem dX5_right_19 : decode cX5_right 19 = .ok (.aload 5, 2) := dk_25 5 (dk_at dksX5_right_0 19 rfl rfl)
theorem dX5_right_21 : decode cX5_right 21 = .ok (.ifnull 18, 3) := dk_198 0 18 (dk_at dksX5_right_0 21 rfl rfl)
theorem dX5_right_24 : decode cX5_right 24 = .ok (.iload_n 3, 1) := dk_29 (dk_at dksX5_right_1 0 rfl rfl)
theorem dX5_right_25 : decode cX5_right 25 = .ok (.iconst 1, 1) := dk_4 (dk_at dksX5_right_1 1 rfl rfl)
theorem dX5_right_26 : decode cX5_right 26 = .ok (.if_icmp .lt 13, 3) := dk_161 0 13 (dk_at dksX5_right_1 2 rfl rfl)
theorem dX5_right_29 : decode cX5_right 29 = .ok (.iload_n 3, 1) := dk_29 (dk_at dksX5_right_1 5 rfl rfl)
theorem dX5_right_30 : decode cX5_right 30 = .ok (.bipush 20, 2) := dk_16 20 (dk_at dksX5_right_1 6 rfl rfl)
theorem dX5_right_32 : decode cX5_right 32 = .ok (.if_icmp .gt 7, 3) := dk_163 0 7 (dk_at dksX5_right_1 8 rfl rfl)
theorem dX5_right_35 : decode cX5_right 35 = .ok (.iconst 1, 1) := dk_4 (dk_at dksX5_right_1 11 rfl rfl)
theorem dX5_right_36 : decode cX5_right 36 = .ok (.goto 4, 3) := dk_167 0 4 (dk_at dksX5_right_1 12 rfl rfl)
theorem dX5_right_39 : decode cX5_right 39 = .ok (.iconst 0, 1) := dk_3 (dk_at dksX5_right_1 15 rfl rfl)
theorem dX5_right_40 : decode cX5_right 40 = .ok (.iconst (-1), 1) := dk_2 (dk_at dksX5_right_1 16 rfl rfl)
theorem dX5_right_41 : decode cX5_right 41 = .ok (.invokestatic 43, 3) := dk_184 0 43 (dk_at dksX5_right_1 17 rfl rfl)
theorem dX5_right_44 : decode cX5_right 44 = .ok (.aload 4, 2) := dk_25 4 (dk_at dksX5_right_1 20 rfl rfl)
theorem dX5_right_46 : decode cX5_right 46 = .ok (.getfield 188, 3) := dk_180 0 188 (dk_at dksX5_right_2 0 rfl rfl)
theorem dX5_right_49 : decode cX5_right 49 = .ok (.ifCond .ne 15, 3) := dk_154 0 15 (dk_at dksX5_right_2 3 rfl rfl)
theorem dX5_right_52 : decode cX5_right 52 = .ok (.aload 4, 2) := dk_25 4 (dk_at dksX5_right_2 6 rfl rfl)
theorem dX5_right_54 : decode cX5_right 54 = .ok (.invokevirtual 191, 3) := dk_182 0 191 (dk_at dksX5_right_2 8 rfl rfl)
theorem dX5_right_57 : decode cX5_right 57 = .ok (.ifCond .eq 7, 3) := dk_153 0 7 (dk_at dksX5_right_2 11 rfl rfl)
theorem dX5_right_60 : decode cX5_right 60 = .ok (.iconst 1, 1) := dk_4 (dk_at dksX5_right_2 14 rfl rfl)
theorem dX5_right_61 : decode cX5_right 61 = .ok (.goto 4, 3) := dk_167 0 4 (dk_at dksX5_right_2 15 rfl rfl)
theorem dX5_right_64 : decode cX5_right 64 = .ok (.iconst 0, 1) := dk_3 (dk_at dksX5_right_2 18 rfl rfl)
theorem dX5_right_65 : decode cX5_right 65 = .ok (.bipush (-2), 2) := dk_16 254 (dk_at dksX5_right_2 19 rfl rfl)
theorem dX5_right_67 : decode cX5_right 67 = .ok (.invokestatic 43, 3) := dk_184 0 43 (dk_at dksX5_right_2 21 rfl rfl)
theorem dX5_right_70 : decode cX5_right 70 = .ok (.aload 5, 2) := dk_25 5 (dk_at dksX5_right_3 0 rfl rfl)
theorem dX5_right_72 : decode cX5_right 72 = .ok (.getfield 177, 3) := dk_180 0 177 (dk_at dksX5_right_3 2 rfl rfl)
theorem dX5_right_75 : decode cX5_right 75 = .ok (.ifCond .ne 7, 3) := dk_154 0 7 (dk_at dksX5_right_3 5 rfl rfl)
theorem dX5_right_78 : decode cX5_right 78 = .ok (.iconst 1, 1) := dk_4 (dk_at dksX5_right_3 8 rfl rfl)
theorem dX5_right_79 : decode cX5_right 79 = .ok (.goto 4, 3) := dk_167 0 4 (dk_at dksX5_right_3 9 rfl rfl)
theorem dX5_right_82 : decode cX5_right 82 = .ok (.iconst 0, 1) := dk_3 (dk_at dksX5_right_3 12 rfl rfl)
theorem dX5_right_83 : decode cX5_right 83 = .ok (.bipush (-3), 2) := dk_16 253 (dk_at dksX5_right_3 13 rfl rfl)
theorem dX5_right_85 : decode cX5_right 85 = .ok (.invokestatic 43, 3) := dk_184 0 43 (dk_at dksX5_right_3 15 rfl rfl)
theorem dX5_right_88 : decode cX5_right 88 = .ok (.aload 4, 2) := dk_25 4 (dk_at dksX5_right_3 18 rfl rfl)
theorem dX5_right_90 : decode cX5_right 90 = .ok (.aload 5, 2) := dk_25 5 (dk_at dksX5_right_3 20 rfl rfl)
theorem dX5_right_92 : decode cX5_right 92 = .ok (.invokevirtual 194, 3) := dk_182 0 194 (dk_at dksX5_right_4 0 rfl rfl)
theorem dX5_right_95 : decode cX5_right 95 = .ok (.aload 4, 2) := dk_25 4 (dk_at dksX5_right_4 3 rfl rfl)
theorem dX5_right_97 : decode cX5_right 97 = .ok (.aload_n 0, 1) := dk_42 (dk_at dksX5_right_4 5 rfl rfl)
theorem dX5_right_98 : decode cX5_right 98 = .ok (.getfield 149, 3) := dk_180 0 149 (dk_at dksX5_right_4 6 rfl rfl)
theorem dX5_right_101 : decode cX5_right 101 = .ok (.sipush 365, 3) := dk_17 1 109 (dk_at dksX5_right_4 9 rfl rfl)
theorem dX5_right_104 : decode cX5_right 104 = .ok (.iload_n 3, 1) := dk_29 (dk_at dksX5_right_4 12 rfl rfl)
theorem dX5_right_105 : decode cX5_right 105 = .ok (.imul, 1) := dk_104 (dk_at dksX5_right_4 13 rfl rfl)
theorem dX5_right_106 : decode cX5_right 106 = .ok (.iadd, 1) := dk_96 (dk_at dksX5_right_4 14 rfl rfl)
theorem dX5_right_107 : decode cX5_right 107 = .ok (.putfield 198, 3) := dk_181 0 198 (dk_at dksX5_right_4 15 rfl rfl)
theorem dX5_right_110 : decode cX5_right 110 = .ok (.aload_n 0, 1) := dk_42 (dk_at dksX5_right_4 18 rfl rfl)
theorem dX5_right_111 : decode cX5_right 111 = .ok (.aload 4, 2) := dk_25 4 (dk_at dksX5_right_4 19 rfl rfl)
theorem dX5_right_113 : decode cX5_right 113 = .ok (.invokevirtual 201, 3) := dk_182 0 201 (dk_at dksX5_right_4 21 rfl rfl)
theorem dX5_right_116 : decode cX5_right 116 = .ok (.iload_n 3, 1) := dk_29 (dk_at dksX5_right_5 0 rfl rfl)
theorem dX5_right_117 : decode cX5_right 117 = .ok (.imul, 1) := dk_104 (dk_at dksX5_right_5 1 rfl rfl)
theorem dX5_right_118 : decode cX5_right 118 = .ok (.invokevirtual 204, 3) := dk_182 0 204 (dk_at dksX5_right_5 2 rfl rfl)
theorem dX5_right_121 : decode cX5_right 121 = .ok (.ireturn, 1) := dk_172 (dk_at dksX5_right_5 5 rfl rfl)
abbrev cX5_grave : ByteArray := prog_2_method_2_code
def yX5_grave : MethodName := ⟨RX5, "grave", "(I)LChurchyardBook$Grave;"⟩
def dkwX5_grave_1 : List UInt8 := [182, 0, 35, 192, 0, 39, 176]
abbrev dktX5_grave_1 : List UInt8 := dkwX5_grave_1 ++ []
def dkwX5_grave_0 : List UInt8 := [27, 155, 0, 14, 27, 42, 180, 0, 25, 182, 0, 31, 161, 0, 7, 1, 167, 0, 14, 42, 180, 0, 25, 27]
abbrev dktX5_grave_0 : List UInt8 := dkwX5_grave_0 ++ dktX5_grave_1
theorem dksX5_grave_0 : cX5_grave.data.toList.drop 0 = dktX5_grave_0 := by decide +kernel
theorem dksX5_grave_1 : cX5_grave.data.toList.drop 24 = dktX5_grave_1 := dk_seg dksX5_grave_0 24 rfl rfl
theorem dX5_grave_0 : decode cX5_grave 0 = .ok (.iload_n 1, 1) := dk_27 (dk_at dksX5_grave_0 0 rfl rfl)
theorem dX5_grave_1 : decode cX5_grave 1 = .ok (.ifCond .lt 14, 3) := dk_155 0 14 (dk_at dksX5_grave_0 1 rfl rfl)
theorem dX5_grave_4 : decode cX5_grave 4 = .ok (.iload_n 1, 1) := dk_27 (dk_at dksX5_grave_0 4 rfl rfl)
theorem dX5_grave_5 : decode cX5_grave 5 = .ok (.aload_n 0, 1) := dk_42 (dk_at dksX5_grave_0 5 rfl rfl)
theorem dX5_grave_6 : decode cX5_grave 6 = .ok (.getfield 25, 3) := dk_180 0 25 (dk_at dksX5_grave_0 6 rfl rfl)
theorem dX5_grave_9 : decode cX5_grave 9 = .ok (.invokevirtual 31, 3) := dk_182 0 31 (dk_at dksX5_grave_0 9 rfl rfl)
theorem dX5_grave_12 : decode cX5_grave 12 = .ok (.if_icmp .lt 7, 3) := dk_161 0 7 (dk_at dksX5_grave_0 12 rfl rfl)
theorem dX5_grave_15 : decode cX5_grave 15 = .ok (.aconst_null, 1) := dk_1 (dk_at dksX5_grave_0 15 rfl rfl)
theorem dX5_grave_16 : decode cX5_grave 16 = .ok (.goto 14, 3) := dk_167 0 14 (dk_at dksX5_grave_0 16 rfl rfl)
theorem dX5_grave_19 : decode cX5_grave 19 = .ok (.aload_n 0, 1) := dk_42 (dk_at dksX5_grave_0 19 rfl rfl)
theorem dX5_grave_20 : decode cX5_grave 20 = .ok (.getfield 25, 3) := dk_180 0 25 (dk_at dksX5_grave_0 20 rfl rfl)
theorem dX5_grave_23 : decode cX5_grave 23 = .ok (.iload_n 1, 1) := dk_27 (dk_at dksX5_grave_0 23 rfl rfl)
theorem dX5_grave_24 : decode cX5_grave 24 = .ok (.invokevirtual 35, 3) := dk_182 0 35 (dk_at dksX5_grave_1 0 rfl rfl)
theorem dX5_grave_27 : decode cX5_grave 27 = .ok (.checkcast 39, 3) := dk_192 0 39 (dk_at dksX5_grave_1 3 rfl rfl)
theorem dX5_grave_30 : decode cX5_grave 30 = .ok (.areturn, 1) := dk_176 (dk_at dksX5_grave_1 6 rfl rfl)
abbrev cX5_paid : ByteArray := prog_2_method_22_code
def yX5_paid : MethodName := ⟨RX5, "paid", "(I)I"⟩
def dkwX5_paid_0 : List UInt8 := [42, 89, 180, 0, 208, 27, 96, 181, 0, 208, 27, 172]
abbrev dktX5_paid_0 : List UInt8 := dkwX5_paid_0 ++ []
theorem dksX5_paid_0 : cX5_paid.data.toList.drop 0 = dktX5_paid_0 := by decide +kernel
theorem dX5_paid_0 : decode cX5_paid 0 = .ok (.aload_n 0, 1) := dk_42 (dk_at dksX5_paid_0 0 rfl rfl)
theorem dX5_paid_1 : decode cX5_paid 1 = .ok (.dup, 1) := dk_89 (dk_at dksX5_paid_0 1 rfl rfl)
theorem dX5_paid_2 : decode cX5_paid 2 = .ok (.getfield 208, 3) := dk_180 0 208 (dk_at dksX5_paid_0 2 rfl rfl)
theorem dX5_paid_5 : decode cX5_paid 5 = .ok (.iload_n 1, 1) := dk_27 (dk_at dksX5_paid_0 5 rfl rfl)
theorem dX5_paid_6 : decode cX5_paid 6 = .ok (.iadd, 1) := dk_96 (dk_at dksX5_paid_0 6 rfl rfl)
theorem dX5_paid_7 : decode cX5_paid 7 = .ok (.putfield 208, 3) := dk_181 0 208 (dk_at dksX5_paid_0 7 rfl rfl)
theorem dX5_paid_10 : decode cX5_paid 10 = .ok (.iload_n 1, 1) := dk_27 (dk_at dksX5_paid_0 10 rfl rfl)
theorem dX5_paid_11 : decode cX5_paid 11 = .ok (.ireturn, 1) := dk_172 (dk_at dksX5_paid_0 11 rfl rfl)
abbrev cX5_longer : ByteArray := prog_2_method_23_code
def yX5_longer : MethodName := ⟨RX5, "longer", "(II)I"⟩
def dkwX5_longer_3 : List UInt8 := [182, 0, 204, 172]
abbrev dktX5_longer_3 : List UInt8 := dkwX5_longer_3 ++ []
def dkwX5_longer_2 : List UInt8 := [184, 0, 43, 45, 89, 180, 0, 198, 17, 1, 109, 28, 104, 96, 181, 0, 198, 42, 45, 182, 0, 201, 28, 104]
abbrev dktX5_longer_2 : List UInt8 := dkwX5_longer_2 ++ dktX5_longer_3
def dkwX5_longer_1 : List UInt8 := [167, 0, 4, 3, 2, 184, 0, 43, 45, 180, 0, 188, 4, 160, 0, 7, 4, 167, 0, 4, 3, 16, 254]
abbrev dktX5_longer_1 : List UInt8 := dkwX5_longer_1 ++ dktX5_longer_2
def dkwX5_longer_0 : List UInt8 := [42, 27, 182, 0, 184, 78, 45, 198, 0, 18, 28, 4, 161, 0, 13, 28, 16, 20, 163, 0, 7, 4]
abbrev dktX5_longer_0 : List UInt8 := dkwX5_longer_0 ++ dktX5_longer_1
theorem dksX5_longer_0 : cX5_longer.data.toList.drop 0 = dktX5_longer_0 := by decide +kernel
theorem dksX5_longer_1 : cX5_longer.data.toList.drop 22 = dktX5_longer_1 := dk_seg dksX5_longer_0 22 rfl rfl
theorem dksX5_longer_2 : cX5_longer.data.toList.drop 45 = dktX5_longer_2 := dk_seg dksX5_longer_1 23 rfl rfl
theorem dksX5_longer_3 : cX5_longer.data.toList.drop 69 = dktX5_longer_3 := dk_seg dksX5_longer_2 24 rfl rfl
theorem dX5_longer_0 : decode cX5_longer 0 = .ok (.aload_n 0, 1) := dk_42 (dk_at dksX5_longer_0 0 rfl rfl)
theorem dX5_longer_1 : decode cX5_longer 1 = .ok (.iload_n 1, 1) := dk_27 (dk_at dksX5_longer_0 1 rfl rfl)
theorem dX5_longer_2 : decode cX5_longer 2 = .ok (.invokevirtual 184, 3) := dk_182 0 184 (dk_at dksX5_longer_0 2 rfl rfl)
theorem dX5_longer_5 : decode cX5_longer 5 = .ok (.astore_n 3, 1) := dk_78 (dk_at dksX5_longer_0 5 rfl rfl)
theorem dX5_longer_6 : decode cX5_longer 6 = .ok (.aload_n 3, 1) := dk_45 (dk_at dksX5_longer_0 6 rfl rfl)
theorem dX5_longer_7 : decode cX5_longer 7 = .ok (.ifnull 18, 3) := dk_198 0 18 (dk_at dksX5_longer_0 7 rfl rfl)
theorem dX5_longer_10 : decode cX5_longer 10 = .ok (.iload_n 2, 1) := dk_28 (dk_at dksX5_longer_0 10 rfl rfl)
theorem dX5_longer_11 : decode cX5_longer 11 = .ok (.iconst 1, 1) := dk_4 (dk_at dksX5_longer_0 11 rfl rfl)
theorem dX5_longer_12 : decode cX5_longer 12 = .ok (.if_icmp .lt 13, 3) := dk_161 0 13 (dk_at dksX5_longer_0 12 rfl rfl)
theorem dX5_longer_15 : decode cX5_longer 15 = .ok (.iload_n 2, 1) := dk_28 (dk_at dksX5_longer_0 15 rfl rfl)
theorem dX5_longer_16 : decode cX5_longer 16 = .ok (.bipush 20, 2) := dk_16 20 (dk_at dksX5_longer_0 16 rfl rfl)
theorem dX5_longer_18 : decode cX5_longer 18 = .ok (.if_icmp .gt 7, 3) := dk_163 0 7 (dk_at dksX5_longer_0 18 rfl rfl)
theorem dX5_longer_21 : decode cX5_longer 21 = .ok (.iconst 1, 1) := dk_4 (dk_at dksX5_longer_0 21 rfl rfl)
theorem dX5_longer_22 : decode cX5_longer 22 = .ok (.goto 4, 3) := dk_167 0 4 (dk_at dksX5_longer_1 0 rfl rfl)
theorem dX5_longer_25 : decode cX5_longer 25 = .ok (.iconst 0, 1) := dk_3 (dk_at dksX5_longer_1 3 rfl rfl)
theorem dX5_longer_26 : decode cX5_longer 26 = .ok (.iconst (-1), 1) := dk_2 (dk_at dksX5_longer_1 4 rfl rfl)
theorem dX5_longer_27 : decode cX5_longer 27 = .ok (.invokestatic 43, 3) := dk_184 0 43 (dk_at dksX5_longer_1 5 rfl rfl)
theorem dX5_longer_30 : decode cX5_longer 30 = .ok (.aload_n 3, 1) := dk_45 (dk_at dksX5_longer_1 8 rfl rfl)
theorem dX5_longer_31 : decode cX5_longer 31 = .ok (.getfield 188, 3) := dk_180 0 188 (dk_at dksX5_longer_1 9 rfl rfl)
theorem dX5_longer_34 : decode cX5_longer 34 = .ok (.iconst 1, 1) := dk_4 (dk_at dksX5_longer_1 12 rfl rfl)
theorem dX5_longer_35 : decode cX5_longer 35 = .ok (.if_icmp .ne 7, 3) := dk_160 0 7 (dk_at dksX5_longer_1 13 rfl rfl)
theorem dX5_longer_38 : decode cX5_longer 38 = .ok (.iconst 1, 1) := dk_4 (dk_at dksX5_longer_1 16 rfl rfl)
theorem dX5_longer_39 : decode cX5_longer 39 = .ok (.goto 4, 3) := dk_167 0 4 (dk_at dksX5_longer_1 17 rfl rfl)
theorem dX5_longer_42 : decode cX5_longer 42 = .ok (.iconst 0, 1) := dk_3 (dk_at dksX5_longer_1 20 rfl rfl)
theorem dX5_longer_43 : decode cX5_longer 43 = .ok (.bipush (-2), 2) := dk_16 254 (dk_at dksX5_longer_1 21 rfl rfl)
theorem dX5_longer_45 : decode cX5_longer 45 = .ok (.invokestatic 43, 3) := dk_184 0 43 (dk_at dksX5_longer_2 0 rfl rfl)
theorem dX5_longer_48 : decode cX5_longer 48 = .ok (.aload_n 3, 1) := dk_45 (dk_at dksX5_longer_2 3 rfl rfl)
theorem dX5_longer_49 : decode cX5_longer 49 = .ok (.dup, 1) := dk_89 (dk_at dksX5_longer_2 4 rfl rfl)
theorem dX5_longer_50 : decode cX5_longer 50 = .ok (.getfield 198, 3) := dk_180 0 198 (dk_at dksX5_longer_2 5 rfl rfl)
theorem dX5_longer_53 : decode cX5_longer 53 = .ok (.sipush 365, 3) := dk_17 1 109 (dk_at dksX5_longer_2 8 rfl rfl)
theorem dX5_longer_56 : decode cX5_longer 56 = .ok (.iload_n 2, 1) := dk_28 (dk_at dksX5_longer_2 11 rfl rfl)
theorem dX5_longer_57 : decode cX5_longer 57 = .ok (.imul, 1) := dk_104 (dk_at dksX5_longer_2 12 rfl rfl)
theorem dX5_longer_58 : decode cX5_longer 58 = .ok (.iadd, 1) := dk_96 (dk_at dksX5_longer_2 13 rfl rfl)
theorem dX5_longer_59 : decode cX5_longer 59 = .ok (.putfield 198, 3) := dk_181 0 198 (dk_at dksX5_longer_2 14 rfl rfl)
theorem dX5_longer_62 : decode cX5_longer 62 = .ok (.aload_n 0, 1) := dk_42 (dk_at dksX5_longer_2 17 rfl rfl)
theorem dX5_longer_63 : decode cX5_longer 63 = .ok (.aload_n 3, 1) := dk_45 (dk_at dksX5_longer_2 18 rfl rfl)
theorem dX5_longer_64 : decode cX5_longer 64 = .ok (.invokevirtual 201, 3) := dk_182 0 201 (dk_at dksX5_longer_2 19 rfl rfl)
theorem dX5_longer_67 : decode cX5_longer 67 = .ok (.iload_n 2, 1) := dk_28 (dk_at dksX5_longer_2 22 rfl rfl)
theorem dX5_longer_68 : decode cX5_longer 68 = .ok (.imul, 1) := dk_104 (dk_at dksX5_longer_2 23 rfl rfl)
theorem dX5_longer_69 : decode cX5_longer 69 = .ok (.invokevirtual 204, 3) := dk_182 0 204 (dk_at dksX5_longer_3 0 rfl rfl)
theorem dX5_longer_72 : decode cX5_longer 72 = .ok (.ireturn, 1) := dk_172 (dk_at dksX5_longer_3 3 rfl rfl)
abbrev cX5_agree : ByteArray := prog_2_method_24_code
def yX5_agree : MethodName := ⟨RX5, "agree", "(III)I"⟩
def dkwX5_agree_3 : List UInt8 := [181, 0, 211, 25, 4, 180, 0, 211, 28, 29, 4, 160, 0, 7, 4, 167, 0, 4, 3, 84, 3, 172]
abbrev dktX5_agree_3 : List UInt8 := dkwX5_agree_3 ++ []
def dkwX5_agree_2 : List UInt8 := [167, 0, 4, 3, 16, 254, 184, 0, 43, 25, 4, 180, 0, 211, 199, 0, 13, 25, 4, 17, 0, 150, 188, 4]
abbrev dktX5_agree_2 : List UInt8 := dkwX5_agree_2 ++ dktX5_agree_3
def dkwX5_agree_1 : List UInt8 := [29, 4, 160, 0, 7, 4, 167, 0, 4, 3, 2, 184, 0, 43, 25, 4, 180, 0, 188, 4, 160, 0, 7, 4]
abbrev dktX5_agree_1 : List UInt8 := dkwX5_agree_1 ++ dktX5_agree_2
def dkwX5_agree_0 : List UInt8 := [42, 27, 182, 0, 184, 58, 4, 25, 4, 198, 0, 24, 42, 28, 182, 0, 156, 198, 0, 16, 29, 153, 0, 8]
abbrev dktX5_agree_0 : List UInt8 := dkwX5_agree_0 ++ dktX5_agree_1
theorem dksX5_agree_0 : cX5_agree.data.toList.drop 0 = dktX5_agree_0 := by decide +kernel
theorem dksX5_agree_1 : cX5_agree.data.toList.drop 24 = dktX5_agree_1 := dk_seg dksX5_agree_0 24 rfl rfl
theorem dksX5_agree_2 : cX5_agree.data.toList.drop 48 = dktX5_agree_2 := dk_seg dksX5_agree_1 24 rfl rfl
theorem dksX5_agree_3 : cX5_agree.data.toList.drop 72 = dktX5_agree_3 := dk_seg dksX5_agree_2 24 rfl rfl
theorem dX5_agree_0 : decode cX5_agree 0 = .ok (.aload_n 0, 1) := dk_42 (dk_at dksX5_agree_0 0 rfl rfl)
theorem dX5_agree_1 : decode cX5_agree 1 = .ok (.iload_n 1, 1) := dk_27 (dk_at dksX5_agree_0 1 rfl rfl)
theorem dX5_agree_2 : decode cX5_agree 2 = .ok (.invokevirtual 184, 3) := dk_182 0 184 (dk_at dksX5_agree_0 2 rfl rfl)
theorem dX5_agree_5 : decode cX5_agree 5 = .ok (.astore 4, 2) := dk_58 4 (dk_at dksX5_agree_0 5 rfl rfl)
theorem dX5_agree_7 : decode cX5_agree 7 = .ok (.aload 4, 2) := dk_25 4 (dk_at dksX5_agree_0 7 rfl rfl)
theorem dX5_agree_9 : decode cX5_agree 9 = .ok (.ifnull 24, 3) := dk_198 0 24 (dk_at dksX5_agree_0 9 rfl rfl)
theorem dX5_agree_12 : decode cX5_agree 12 = .ok (.aload_n 0, 1) := dk_42 (dk_at dksX5_agree_0 12 rfl rfl)
theorem dX5_agree_13 : decode cX5_agree 13 = .ok (.iload_n 2, 1) := dk_28 (dk_at dksX5_agree_0 13 rfl rfl)
theorem dX5_agree_14 : decode cX5_agree 14 = .ok (.invokevirtual 156, 3) := dk_182 0 156 (dk_at dksX5_agree_0 14 rfl rfl)
theorem dX5_agree_17 : decode cX5_agree 17 = .ok (.ifnull 16, 3) := dk_198 0 16 (dk_at dksX5_agree_0 17 rfl rfl)
theorem dX5_agree_20 : decode cX5_agree 20 = .ok (.iload_n 3, 1) := dk_29 (dk_at dksX5_agree_0 20 rfl rfl)
theorem dX5_agree_21 : decode cX5_agree 21 = .ok (.ifCond .eq 8, 3) := dk_153 0 8 (dk_at dksX5_agree_0 21 rfl rfl)
theorem dX5_agree_24 : decode cX5_agree 24 = .ok (.iload_n 3, 1) := dk_29 (dk_at dksX5_agree_1 0 rfl rfl)
theorem dX5_agree_25 : decode cX5_agree 25 = .ok (.iconst 1, 1) := dk_4 (dk_at dksX5_agree_1 1 rfl rfl)
theorem dX5_agree_26 : decode cX5_agree 26 = .ok (.if_icmp .ne 7, 3) := dk_160 0 7 (dk_at dksX5_agree_1 2 rfl rfl)
theorem dX5_agree_29 : decode cX5_agree 29 = .ok (.iconst 1, 1) := dk_4 (dk_at dksX5_agree_1 5 rfl rfl)
theorem dX5_agree_30 : decode cX5_agree 30 = .ok (.goto 4, 3) := dk_167 0 4 (dk_at dksX5_agree_1 6 rfl rfl)
theorem dX5_agree_33 : decode cX5_agree 33 = .ok (.iconst 0, 1) := dk_3 (dk_at dksX5_agree_1 9 rfl rfl)
theorem dX5_agree_34 : decode cX5_agree 34 = .ok (.iconst (-1), 1) := dk_2 (dk_at dksX5_agree_1 10 rfl rfl)
theorem dX5_agree_35 : decode cX5_agree 35 = .ok (.invokestatic 43, 3) := dk_184 0 43 (dk_at dksX5_agree_1 11 rfl rfl)
theorem dX5_agree_38 : decode cX5_agree 38 = .ok (.aload 4, 2) := dk_25 4 (dk_at dksX5_agree_1 14 rfl rfl)
theorem dX5_agree_40 : decode cX5_agree 40 = .ok (.getfield 188, 3) := dk_180 0 188 (dk_at dksX5_agree_1 16 rfl rfl)
theorem dX5_agree_43 : decode cX5_agree 43 = .ok (.iconst 1, 1) := dk_4 (dk_at dksX5_agree_1 19 rfl rfl)
theorem dX5_agree_44 : decode cX5_agree 44 = .ok (.if_icmp .ne 7, 3) := dk_160 0 7 (dk_at dksX5_agree_1 20 rfl rfl)
theorem dX5_agree_47 : decode cX5_agree 47 = .ok (.iconst 1, 1) := dk_4 (dk_at dksX5_agree_1 23 rfl rfl)
theorem dX5_agree_48 : decode cX5_agree 48 = .ok (.goto 4, 3) := dk_167 0 4 (dk_at dksX5_agree_2 0 rfl rfl)
theorem dX5_agree_51 : decode cX5_agree 51 = .ok (.iconst 0, 1) := dk_3 (dk_at dksX5_agree_2 3 rfl rfl)
theorem dX5_agree_52 : decode cX5_agree 52 = .ok (.bipush (-2), 2) := dk_16 254 (dk_at dksX5_agree_2 4 rfl rfl)
theorem dX5_agree_54 : decode cX5_agree 54 = .ok (.invokestatic 43, 3) := dk_184 0 43 (dk_at dksX5_agree_2 6 rfl rfl)
theorem dX5_agree_57 : decode cX5_agree 57 = .ok (.aload 4, 2) := dk_25 4 (dk_at dksX5_agree_2 9 rfl rfl)
theorem dX5_agree_59 : decode cX5_agree 59 = .ok (.getfield 211, 3) := dk_180 0 211 (dk_at dksX5_agree_2 11 rfl rfl)
theorem dX5_agree_62 : decode cX5_agree 62 = .ok (.ifnonnull 13, 3) := dk_199 0 13 (dk_at dksX5_agree_2 14 rfl rfl)
theorem dX5_agree_65 : decode cX5_agree 65 = .ok (.aload 4, 2) := dk_25 4 (dk_at dksX5_agree_2 17 rfl rfl)
theorem dX5_agree_67 : decode cX5_agree 67 = .ok (.sipush 150, 3) := dk_17 0 150 (dk_at dksX5_agree_2 19 rfl rfl)
theorem dX5_agree_70 : decode cX5_agree 70 = .ok (.newarray .boolean, 2) := dk_188_4 (dk_at dksX5_agree_2 22 rfl rfl)
theorem dX5_agree_72 : decode cX5_agree 72 = .ok (.putfield 211, 3) := dk_181 0 211 (dk_at dksX5_agree_3 0 rfl rfl)
theorem dX5_agree_75 : decode cX5_agree 75 = .ok (.aload 4, 2) := dk_25 4 (dk_at dksX5_agree_3 3 rfl rfl)
theorem dX5_agree_77 : decode cX5_agree 77 = .ok (.getfield 211, 3) := dk_180 0 211 (dk_at dksX5_agree_3 5 rfl rfl)
theorem dX5_agree_80 : decode cX5_agree 80 = .ok (.iload_n 2, 1) := dk_28 (dk_at dksX5_agree_3 8 rfl rfl)
theorem dX5_agree_81 : decode cX5_agree 81 = .ok (.iload_n 3, 1) := dk_29 (dk_at dksX5_agree_3 9 rfl rfl)
theorem dX5_agree_82 : decode cX5_agree 82 = .ok (.iconst 1, 1) := dk_4 (dk_at dksX5_agree_3 10 rfl rfl)
theorem dX5_agree_83 : decode cX5_agree 83 = .ok (.if_icmp .ne 7, 3) := dk_160 0 7 (dk_at dksX5_agree_3 11 rfl rfl)
theorem dX5_agree_86 : decode cX5_agree 86 = .ok (.iconst 1, 1) := dk_4 (dk_at dksX5_agree_3 14 rfl rfl)
theorem dX5_agree_87 : decode cX5_agree 87 = .ok (.goto 4, 3) := dk_167 0 4 (dk_at dksX5_agree_3 15 rfl rfl)
theorem dX5_agree_90 : decode cX5_agree 90 = .ok (.iconst 0, 1) := dk_3 (dk_at dksX5_agree_3 18 rfl rfl)
theorem dX5_agree_91 : decode cX5_agree 91 = .ok (.bastore, 1) := dk_84 (dk_at dksX5_agree_3 19 rfl rfl)
theorem dX5_agree_92 : decode cX5_agree 92 = .ok (.iconst 0, 1) := dk_3 (dk_at dksX5_agree_3 20 rfl rfl)
theorem dX5_agree_93 : decode cX5_agree 93 = .ok (.ireturn, 1) := dk_172 (dk_at dksX5_agree_3 21 rfl rfl)
abbrev cX5_dies : ByteArray := prog_2_method_27_code
def yX5_dies : MethodName := ⟨RX5, "dies", "(I)I"⟩
def dkwX5_dies_5 : List UInt8 := [180, 0, 149, 182, 0, 240, 132, 4, 1, 167, 255, 169, 29, 172]
abbrev dktX5_dies_5 : List UInt8 := dkwX5_dies_5 ++ []
def dkwX5_dies_4 : List UInt8 := [167, 0, 30, 25, 5, 180, 0, 188, 5, 160, 0, 21, 25, 5, 180, 0, 237, 44, 166, 0, 12, 25, 5, 42]
abbrev dktX5_dies_4 : List UInt8 := dkwX5_dies_4 ++ dktX5_dies_5
def dkwX5_dies_3 : List UInt8 := [160, 0, 25, 25, 5, 180, 0, 231, 44, 166, 0, 16, 42, 25, 5, 44, 182, 0, 234, 132, 3, 1]
abbrev dktX5_dies_3 : List UInt8 := dkwX5_dies_3 ++ dktX5_dies_4
def dkwX5_dies_2 : List UInt8 := [162, 0, 81, 42, 180, 0, 25, 21, 4, 182, 0, 35, 192, 0, 39, 58, 5, 25, 5, 180, 0, 188, 4]
abbrev dktX5_dies_2 : List UInt8 := dkwX5_dies_2 ++ dktX5_dies_3
def dkwX5_dies_1 : List UInt8 := [184, 0, 43, 44, 4, 181, 0, 177, 3, 62, 3, 54, 4, 21, 4, 42, 180, 0, 25, 182, 0, 31]
abbrev dktX5_dies_1 : List UInt8 := dkwX5_dies_1 ++ dktX5_dies_2
def dkwX5_dies_0 : List UInt8 := [42, 27, 182, 0, 156, 77, 44, 198, 0, 14, 44, 180, 0, 177, 154, 0, 7, 4, 167, 0, 4, 3, 2]
abbrev dktX5_dies_0 : List UInt8 := dkwX5_dies_0 ++ dktX5_dies_1
theorem dksX5_dies_0 : cX5_dies.data.toList.drop 0 = dktX5_dies_0 := by decide +kernel
theorem dksX5_dies_1 : cX5_dies.data.toList.drop 23 = dktX5_dies_1 := dk_seg dksX5_dies_0 23 rfl rfl
theorem dksX5_dies_2 : cX5_dies.data.toList.drop 45 = dktX5_dies_2 := dk_seg dksX5_dies_1 22 rfl rfl
theorem dksX5_dies_3 : cX5_dies.data.toList.drop 68 = dktX5_dies_3 := dk_seg dksX5_dies_2 23 rfl rfl
theorem dksX5_dies_4 : cX5_dies.data.toList.drop 90 = dktX5_dies_4 := dk_seg dksX5_dies_3 22 rfl rfl
theorem dksX5_dies_5 : cX5_dies.data.toList.drop 114 = dktX5_dies_5 := dk_seg dksX5_dies_4 24 rfl rfl
theorem dX5_dies_0 : decode cX5_dies 0 = .ok (.aload_n 0, 1) := dk_42 (dk_at dksX5_dies_0 0 rfl rfl)
theorem dX5_dies_1 : decode cX5_dies 1 = .ok (.iload_n 1, 1) := dk_27 (dk_at dksX5_dies_0 1 rfl rfl)
theorem dX5_dies_2 : decode cX5_dies 2 = .ok (.invokevirtual 156, 3) := dk_182 0 156 (dk_at dksX5_dies_0 2 rfl rfl)
theorem dX5_dies_5 : decode cX5_dies 5 = .ok (.astore_n 2, 1) := dk_77 (dk_at dksX5_dies_0 5 rfl rfl)
theorem dX5_dies_6 : decode cX5_dies 6 = .ok (.aload_n 2, 1) := dk_44 (dk_at dksX5_dies_0 6 rfl rfl)
theorem dX5_dies_7 : decode cX5_dies 7 = .ok (.ifnull 14, 3) := dk_198 0 14 (dk_at dksX5_dies_0 7 rfl rfl)
theorem dX5_dies_10 : decode cX5_dies 10 = .ok (.aload_n 2, 1) := dk_44 (dk_at dksX5_dies_0 10 rfl rfl)
theorem dX5_dies_11 : decode cX5_dies 11 = .ok (.getfield 177, 3) := dk_180 0 177 (dk_at dksX5_dies_0 11 rfl rfl)
theorem dX5_dies_14 : decode cX5_dies 14 = .ok (.ifCond .ne 7, 3) := dk_154 0 7 (dk_at dksX5_dies_0 14 rfl rfl)
theorem dX5_dies_17 : decode cX5_dies 17 = .ok (.iconst 1, 1) := dk_4 (dk_at dksX5_dies_0 17 rfl rfl)
theorem dX5_dies_18 : decode cX5_dies 18 = .ok (.goto 4, 3) := dk_167 0 4 (dk_at dksX5_dies_0 18 rfl rfl)
theorem dX5_dies_21 : decode cX5_dies 21 = .ok (.iconst 0, 1) := dk_3 (dk_at dksX5_dies_0 21 rfl rfl)
theorem dX5_dies_22 : decode cX5_dies 22 = .ok (.iconst (-1), 1) := dk_2 (dk_at dksX5_dies_0 22 rfl rfl)
theorem dX5_dies_23 : decode cX5_dies 23 = .ok (.invokestatic 43, 3) := dk_184 0 43 (dk_at dksX5_dies_1 0 rfl rfl)
theorem dX5_dies_26 : decode cX5_dies 26 = .ok (.aload_n 2, 1) := dk_44 (dk_at dksX5_dies_1 3 rfl rfl)
theorem dX5_dies_27 : decode cX5_dies 27 = .ok (.iconst 1, 1) := dk_4 (dk_at dksX5_dies_1 4 rfl rfl)
theorem dX5_dies_28 : decode cX5_dies 28 = .ok (.putfield 177, 3) := dk_181 0 177 (dk_at dksX5_dies_1 5 rfl rfl)
theorem dX5_dies_31 : decode cX5_dies 31 = .ok (.iconst 0, 1) := dk_3 (dk_at dksX5_dies_1 8 rfl rfl)
theorem dX5_dies_32 : decode cX5_dies 32 = .ok (.istore_n 3, 1) := dk_62 (dk_at dksX5_dies_1 9 rfl rfl)
theorem dX5_dies_33 : decode cX5_dies 33 = .ok (.iconst 0, 1) := dk_3 (dk_at dksX5_dies_1 10 rfl rfl)
theorem dX5_dies_34 : decode cX5_dies 34 = .ok (.istore 4, 2) := dk_54 4 (dk_at dksX5_dies_1 11 rfl rfl)
theorem dX5_dies_36 : decode cX5_dies 36 = .ok (.iload 4, 2) := dk_21 4 (dk_at dksX5_dies_1 13 rfl rfl)
theorem dX5_dies_38 : decode cX5_dies 38 = .ok (.aload_n 0, 1) := dk_42 (dk_at dksX5_dies_1 15 rfl rfl)
theorem dX5_dies_39 : decode cX5_dies 39 = .ok (.getfield 25, 3) := dk_180 0 25 (dk_at dksX5_dies_1 16 rfl rfl)
theorem dX5_dies_42 : decode cX5_dies 42 = .ok (.invokevirtual 31, 3) := dk_182 0 31 (dk_at dksX5_dies_1 19 rfl rfl)
theorem dX5_dies_45 : decode cX5_dies 45 = .ok (.if_icmp .ge 81, 3) := dk_162 0 81 (dk_at dksX5_dies_2 0 rfl rfl)
theorem dX5_dies_48 : decode cX5_dies 48 = .ok (.aload_n 0, 1) := dk_42 (dk_at dksX5_dies_2 3 rfl rfl)
theorem dX5_dies_49 : decode cX5_dies 49 = .ok (.getfield 25, 3) := dk_180 0 25 (dk_at dksX5_dies_2 4 rfl rfl)
theorem dX5_dies_52 : decode cX5_dies 52 = .ok (.iload 4, 2) := dk_21 4 (dk_at dksX5_dies_2 7 rfl rfl)
theorem dX5_dies_54 : decode cX5_dies 54 = .ok (.invokevirtual 35, 3) := dk_182 0 35 (dk_at dksX5_dies_2 9 rfl rfl)
theorem dX5_dies_57 : decode cX5_dies 57 = .ok (.checkcast 39, 3) := dk_192 0 39 (dk_at dksX5_dies_2 12 rfl rfl)
theorem dX5_dies_60 : decode cX5_dies 60 = .ok (.astore 5, 2) := dk_58 5 (dk_at dksX5_dies_2 15 rfl rfl)
theorem dX5_dies_62 : decode cX5_dies 62 = .ok (.aload 5, 2) := dk_25 5 (dk_at dksX5_dies_2 17 rfl rfl)
theorem dX5_dies_64 : decode cX5_dies 64 = .ok (.getfield 188, 3) := dk_180 0 188 (dk_at dksX5_dies_2 19 rfl rfl)
theorem dX5_dies_67 : decode cX5_dies 67 = .ok (.iconst 1, 1) := dk_4 (dk_at dksX5_dies_2 22 rfl rfl)
theorem dX5_dies_68 : decode cX5_dies 68 = .ok (.if_icmp .ne 25, 3) := dk_160 0 25 (dk_at dksX5_dies_3 0 rfl rfl)
theorem dX5_dies_71 : decode cX5_dies 71 = .ok (.aload 5, 2) := dk_25 5 (dk_at dksX5_dies_3 3 rfl rfl)
theorem dX5_dies_73 : decode cX5_dies 73 = .ok (.getfield 231, 3) := dk_180 0 231 (dk_at dksX5_dies_3 5 rfl rfl)
theorem dX5_dies_76 : decode cX5_dies 76 = .ok (.aload_n 2, 1) := dk_44 (dk_at dksX5_dies_3 8 rfl rfl)
theorem dX5_dies_77 : decode cX5_dies 77 = .ok (.if_acmp .ne 16, 3) := dk_166 0 16 (dk_at dksX5_dies_3 9 rfl rfl)
theorem dX5_dies_80 : decode cX5_dies 80 = .ok (.aload_n 0, 1) := dk_42 (dk_at dksX5_dies_3 12 rfl rfl)
theorem dX5_dies_81 : decode cX5_dies 81 = .ok (.aload 5, 2) := dk_25 5 (dk_at dksX5_dies_3 13 rfl rfl)
theorem dX5_dies_83 : decode cX5_dies 83 = .ok (.aload_n 2, 1) := dk_44 (dk_at dksX5_dies_3 15 rfl rfl)
theorem dX5_dies_84 : decode cX5_dies 84 = .ok (.invokevirtual 234, 3) := dk_182 0 234 (dk_at dksX5_dies_3 16 rfl rfl)
theorem dX5_dies_87 : decode cX5_dies 87 = .ok (.iinc 3 1, 3) := dk_132 3 1 (dk_at dksX5_dies_3 19 rfl rfl)
theorem dX5_dies_90 : decode cX5_dies 90 = .ok (.goto 30, 3) := dk_167 0 30 (dk_at dksX5_dies_4 0 rfl rfl)
theorem dX5_dies_93 : decode cX5_dies 93 = .ok (.aload 5, 2) := dk_25 5 (dk_at dksX5_dies_4 3 rfl rfl)
theorem dX5_dies_95 : decode cX5_dies 95 = .ok (.getfield 188, 3) := dk_180 0 188 (dk_at dksX5_dies_4 5 rfl rfl)
theorem dX5_dies_98 : decode cX5_dies 98 = .ok (.iconst 2, 1) := dk_5 (dk_at dksX5_dies_4 8 rfl rfl)
theorem dX5_dies_99 : decode cX5_dies 99 = .ok (.if_icmp .ne 21, 3) := dk_160 0 21 (dk_at dksX5_dies_4 9 rfl rfl)
theorem dX5_dies_102 : decode cX5_dies 102 = .ok (.aload 5, 2) := dk_25 5 (dk_at dksX5_dies_4 12 rfl rfl)
theorem dX5_dies_104 : decode cX5_dies 104 = .ok (.getfield 237, 3) := dk_180 0 237 (dk_at dksX5_dies_4 14 rfl rfl)
theorem dX5_dies_107 : decode cX5_dies 107 = .ok (.aload_n 2, 1) := dk_44 (dk_at dksX5_dies_4 17 rfl rfl)
theorem dX5_dies_108 : decode cX5_dies 108 = .ok (.if_acmp .ne 12, 3) := dk_166 0 12 (dk_at dksX5_dies_4 18 rfl rfl)
theorem dX5_dies_111 : decode cX5_dies 111 = .ok (.aload 5, 2) := dk_25 5 (dk_at dksX5_dies_4 21 rfl rfl)
theorem dX5_dies_113 : decode cX5_dies 113 = .ok (.aload_n 0, 1) := dk_42 (dk_at dksX5_dies_4 23 rfl rfl)
theorem dX5_dies_114 : decode cX5_dies 114 = .ok (.getfield 149, 3) := dk_180 0 149 (dk_at dksX5_dies_5 0 rfl rfl)
theorem dX5_dies_117 : decode cX5_dies 117 = .ok (.invokevirtual 240, 3) := dk_182 0 240 (dk_at dksX5_dies_5 3 rfl rfl)
theorem dX5_dies_120 : decode cX5_dies 120 = .ok (.iinc 4 1, 3) := dk_132 4 1 (dk_at dksX5_dies_5 6 rfl rfl)
theorem dX5_dies_123 : decode cX5_dies 123 = .ok (.goto (-87), 3) := dk_167 255 169 (dk_at dksX5_dies_5 9 rfl rfl)
theorem dX5_dies_126 : decode cX5_dies 126 = .ok (.iload_n 3, 1) := dk_29 (dk_at dksX5_dies_5 12 rfl rfl)
theorem dX5_dies_127 : decode cX5_dies 127 = .ok (.ireturn, 1) := dk_172 (dk_at dksX5_dies_5 13 rfl rfl)
abbrev cX5_offers : ByteArray := prog_2_method_28_code
def yX5_offers : MethodName := ⟨RX5, "offers", "(LChurchyardBook$Grave;LChurchyardBook$Person;)V"⟩
def dkwX5_offers_6 : List UInt8 := [181, 0, 254, 43, 42, 180, 0, 149, 182, 0, 240, 177]
abbrev dktX5_offers_6 : List UInt8 := dkwX5_offers_6 ++ []
def dkwX5_offers_5 : List UInt8 := [180, 0, 171, 167, 0, 7, 44, 180, 0, 174, 182, 0, 227, 42, 43, 44, 3, 182, 0, 249, 43, 2]
abbrev dktX5_offers_5 : List UInt8 := dkwX5_offers_5 ++ dktX5_offers_6
def dkwX5_offers_4 : List UInt8 := [153, 0, 10, 44, 180, 0, 174, 167, 0, 7, 44, 180, 0, 171, 182, 0, 227, 42, 43, 29, 153, 0, 10, 44]
abbrev dktX5_offers_4 : List UInt8 := dkwX5_offers_4 ++ dktX5_offers_5
def dkwX5_offers_3 : List UInt8 := [180, 0, 253, 44, 180, 0, 171, 180, 0, 253, 162, 0, 7, 4, 167, 0, 4, 3, 62, 42, 43, 29]
abbrev dktX5_offers_3 : List UInt8 := dkwX5_offers_3 ++ dktX5_offers_4
def dkwX5_offers_2 : List UInt8 := [4, 182, 0, 249, 44, 180, 0, 171, 198, 0, 31, 44, 180, 0, 174, 198, 0, 24, 44, 180, 0, 174]
abbrev dktX5_offers_2 : List UInt8 := dkwX5_offers_2 ++ dktX5_offers_3
def dkwX5_offers_1 : List UInt8 := [182, 0, 246, 42, 43, 44, 180, 0, 181, 182, 0, 227, 42, 43, 44, 180, 0, 160, 182, 0, 227, 42, 43, 44]
abbrev dktX5_offers_1 : List UInt8 := dkwX5_offers_1 ++ dktX5_offers_2
def dkwX5_offers_0 : List UInt8 := [43, 5, 181, 0, 188, 43, 1, 181, 0, 231, 43, 1, 181, 0, 211, 43, 44, 181, 0, 243, 43, 180, 0, 215]
abbrev dktX5_offers_0 : List UInt8 := dkwX5_offers_0 ++ dktX5_offers_1
theorem dksX5_offers_0 : cX5_offers.data.toList.drop 0 = dktX5_offers_0 := by decide +kernel
theorem dksX5_offers_1 : cX5_offers.data.toList.drop 24 = dktX5_offers_1 := dk_seg dksX5_offers_0 24 rfl rfl
theorem dksX5_offers_2 : cX5_offers.data.toList.drop 48 = dktX5_offers_2 := dk_seg dksX5_offers_1 24 rfl rfl
theorem dksX5_offers_3 : cX5_offers.data.toList.drop 70 = dktX5_offers_3 := dk_seg dksX5_offers_2 22 rfl rfl
theorem dksX5_offers_4 : cX5_offers.data.toList.drop 92 = dktX5_offers_4 := dk_seg dksX5_offers_3 22 rfl rfl
theorem dksX5_offers_5 : cX5_offers.data.toList.drop 116 = dktX5_offers_5 := dk_seg dksX5_offers_4 24 rfl rfl
theorem dksX5_offers_6 : cX5_offers.data.toList.drop 138 = dktX5_offers_6 := dk_seg dksX5_offers_5 22 rfl rfl
theorem dX5_offers_0 : decode cX5_offers 0 = .ok (.aload_n 1, 1) := dk_43 (dk_at dksX5_offers_0 0 rfl rfl)
theorem dX5_offers_1 : decode cX5_offers 1 = .ok (.iconst 2, 1) := dk_5 (dk_at dksX5_offers_0 1 rfl rfl)
theorem dX5_offers_2 : decode cX5_offers 2 = .ok (.putfield 188, 3) := dk_181 0 188 (dk_at dksX5_offers_0 2 rfl rfl)
theorem dX5_offers_5 : decode cX5_offers 5 = .ok (.aload_n 1, 1) := dk_43 (dk_at dksX5_offers_0 5 rfl rfl)
theorem dX5_offers_6 : decode cX5_offers 6 = .ok (.aconst_null, 1) := dk_1 (dk_at dksX5_offers_0 6 rfl rfl)
theorem dX5_offers_7 : decode cX5_offers 7 = .ok (.putfield 231, 3) := dk_181 0 231 (dk_at dksX5_offers_0 7 rfl rfl)
theorem dX5_offers_10 : decode cX5_offers 10 = .ok (.aload_n 1, 1) := dk_43 (dk_at dksX5_offers_0 10 rfl rfl)
theorem dX5_offers_11 : decode cX5_offers 11 = .ok (.aconst_null, 1) := dk_1 (dk_at dksX5_offers_0 11 rfl rfl)
theorem dX5_offers_12 : decode cX5_offers 12 = .ok (.putfield 211, 3) := dk_181 0 211 (dk_at dksX5_offers_0 12 rfl rfl)
theorem dX5_offers_15 : decode cX5_offers 15 = .ok (.aload_n 1, 1) := dk_43 (dk_at dksX5_offers_0 15 rfl rfl)
theorem dX5_offers_16 : decode cX5_offers 16 = .ok (.aload_n 2, 1) := dk_44 (dk_at dksX5_offers_0 16 rfl rfl)
theorem dX5_offers_17 : decode cX5_offers 17 = .ok (.putfield 243, 3) := dk_181 0 243 (dk_at dksX5_offers_0 17 rfl rfl)
theorem dX5_offers_20 : decode cX5_offers 20 = .ok (.aload_n 1, 1) := dk_43 (dk_at dksX5_offers_0 20 rfl rfl)
theorem dX5_offers_21 : decode cX5_offers 21 = .ok (.getfield 215, 3) := dk_180 0 215 (dk_at dksX5_offers_0 21 rfl rfl)
theorem dX5_offers_24 : decode cX5_offers 24 = .ok (.invokevirtual 246, 3) := dk_182 0 246 (dk_at dksX5_offers_1 0 rfl rfl)
theorem dX5_offers_27 : decode cX5_offers 27 = .ok (.aload_n 0, 1) := dk_42 (dk_at dksX5_offers_1 3 rfl rfl)
theorem dX5_offers_28 : decode cX5_offers 28 = .ok (.aload_n 1, 1) := dk_43 (dk_at dksX5_offers_1 4 rfl rfl)
theorem dX5_offers_29 : decode cX5_offers 29 = .ok (.aload_n 2, 1) := dk_44 (dk_at dksX5_offers_1 5 rfl rfl)
theorem dX5_offers_30 : decode cX5_offers 30 = .ok (.getfield 181, 3) := dk_180 0 181 (dk_at dksX5_offers_1 6 rfl rfl)
theorem dX5_offers_33 : decode cX5_offers 33 = .ok (.invokevirtual 227, 3) := dk_182 0 227 (dk_at dksX5_offers_1 9 rfl rfl)
theorem dX5_offers_36 : decode cX5_offers 36 = .ok (.aload_n 0, 1) := dk_42 (dk_at dksX5_offers_1 12 rfl rfl)
theorem dX5_offers_37 : decode cX5_offers 37 = .ok (.aload_n 1, 1) := dk_43 (dk_at dksX5_offers_1 13 rfl rfl)
theorem dX5_offers_38 : decode cX5_offers 38 = .ok (.aload_n 2, 1) := dk_44 (dk_at dksX5_offers_1 14 rfl rfl)
theorem dX5_offers_39 : decode cX5_offers 39 = .ok (.getfield 160, 3) := dk_180 0 160 (dk_at dksX5_offers_1 15 rfl rfl)
theorem dX5_offers_42 : decode cX5_offers 42 = .ok (.invokevirtual 227, 3) := dk_182 0 227 (dk_at dksX5_offers_1 18 rfl rfl)
theorem dX5_offers_45 : decode cX5_offers 45 = .ok (.aload_n 0, 1) := dk_42 (dk_at dksX5_offers_1 21 rfl rfl)
theorem dX5_offers_46 : decode cX5_offers 46 = .ok (.aload_n 1, 1) := dk_43 (dk_at dksX5_offers_1 22 rfl rfl)
theorem dX5_offers_47 : decode cX5_offers 47 = .ok (.aload_n 2, 1) := dk_44 (dk_at dksX5_offers_1 23 rfl rfl)
theorem dX5_offers_48 : decode cX5_offers 48 = .ok (.iconst 1, 1) := dk_4 (dk_at dksX5_offers_2 0 rfl rfl)
theorem dX5_offers_49 : decode cX5_offers 49 = .ok (.invokevirtual 249, 3) := dk_182 0 249 (dk_at dksX5_offers_2 1 rfl rfl)
theorem dX5_offers_52 : decode cX5_offers 52 = .ok (.aload_n 2, 1) := dk_44 (dk_at dksX5_offers_2 4 rfl rfl)
theorem dX5_offers_53 : decode cX5_offers 53 = .ok (.getfield 171, 3) := dk_180 0 171 (dk_at dksX5_offers_2 5 rfl rfl)
theorem dX5_offers_56 : decode cX5_offers 56 = .ok (.ifnull 31, 3) := dk_198 0 31 (dk_at dksX5_offers_2 8 rfl rfl)
theorem dX5_offers_59 : decode cX5_offers 59 = .ok (.aload_n 2, 1) := dk_44 (dk_at dksX5_offers_2 11 rfl rfl)
theorem dX5_offers_60 : decode cX5_offers 60 = .ok (.getfield 174, 3) := dk_180 0 174 (dk_at dksX5_offers_2 12 rfl rfl)
theorem dX5_offers_63 : decode cX5_offers 63 = .ok (.ifnull 24, 3) := dk_198 0 24 (dk_at dksX5_offers_2 15 rfl rfl)
theorem dX5_offers_66 : decode cX5_offers 66 = .ok (.aload_n 2, 1) := dk_44 (dk_at dksX5_offers_2 18 rfl rfl)
theorem dX5_offers_67 : decode cX5_offers 67 = .ok (.getfield 174, 3) := dk_180 0 174 (dk_at dksX5_offers_2 19 rfl rfl)
theorem dX5_offers_70 : decode cX5_offers 70 = .ok (.getfield 253, 3) := dk_180 0 253 (dk_at dksX5_offers_3 0 rfl rfl)
theorem dX5_offers_73 : decode cX5_offers 73 = .ok (.aload_n 2, 1) := dk_44 (dk_at dksX5_offers_3 3 rfl rfl)
theorem dX5_offers_74 : decode cX5_offers 74 = .ok (.getfield 171, 3) := dk_180 0 171 (dk_at dksX5_offers_3 4 rfl rfl)
theorem dX5_offers_77 : decode cX5_offers 77 = .ok (.getfield 253, 3) := dk_180 0 253 (dk_at dksX5_offers_3 7 rfl rfl)
theorem dX5_offers_80 : decode cX5_offers 80 = .ok (.if_icmp .ge 7, 3) := dk_162 0 7 (dk_at dksX5_offers_3 10 rfl rfl)
theorem dX5_offers_83 : decode cX5_offers 83 = .ok (.iconst 1, 1) := dk_4 (dk_at dksX5_offers_3 13 rfl rfl)
theorem dX5_offers_84 : decode cX5_offers 84 = .ok (.goto 4, 3) := dk_167 0 4 (dk_at dksX5_offers_3 14 rfl rfl)
theorem dX5_offers_87 : decode cX5_offers 87 = .ok (.iconst 0, 1) := dk_3 (dk_at dksX5_offers_3 17 rfl rfl)
theorem dX5_offers_88 : decode cX5_offers 88 = .ok (.istore_n 3, 1) := dk_62 (dk_at dksX5_offers_3 18 rfl rfl)
theorem dX5_offers_89 : decode cX5_offers 89 = .ok (.aload_n 0, 1) := dk_42 (dk_at dksX5_offers_3 19 rfl rfl)
theorem dX5_offers_90 : decode cX5_offers 90 = .ok (.aload_n 1, 1) := dk_43 (dk_at dksX5_offers_3 20 rfl rfl)
theorem dX5_offers_91 : decode cX5_offers 91 = .ok (.iload_n 3, 1) := dk_29 (dk_at dksX5_offers_3 21 rfl rfl)
theorem dX5_offers_92 : decode cX5_offers 92 = .ok (.ifCond .eq 10, 3) := dk_153 0 10 (dk_at dksX5_offers_4 0 rfl rfl)
theorem dX5_offers_95 : decode cX5_offers 95 = .ok (.aload_n 2, 1) := dk_44 (dk_at dksX5_offers_4 3 rfl rfl)
theorem dX5_offers_96 : decode cX5_offers 96 = .ok (.getfield 174, 3) := dk_180 0 174 (dk_at dksX5_offers_4 4 rfl rfl)
theorem dX5_offers_99 : decode cX5_offers 99 = .ok (.goto 7, 3) := dk_167 0 7 (dk_at dksX5_offers_4 7 rfl rfl)
theorem dX5_offers_102 : decode cX5_offers 102 = .ok (.aload_n 2, 1) := dk_44 (dk_at dksX5_offers_4 10 rfl rfl)
theorem dX5_offers_103 : decode cX5_offers 103 = .ok (.getfield 171, 3) := dk_180 0 171 (dk_at dksX5_offers_4 11 rfl rfl)
theorem dX5_offers_106 : decode cX5_offers 106 = .ok (.invokevirtual 227, 3) := dk_182 0 227 (dk_at dksX5_offers_4 14 rfl rfl)
theorem dX5_offers_109 : decode cX5_offers 109 = .ok (.aload_n 0, 1) := dk_42 (dk_at dksX5_offers_4 17 rfl rfl)
theorem dX5_offers_110 : decode cX5_offers 110 = .ok (.aload_n 1, 1) := dk_43 (dk_at dksX5_offers_4 18 rfl rfl)
theorem dX5_offers_111 : decode cX5_offers 111 = .ok (.iload_n 3, 1) := dk_29 (dk_at dksX5_offers_4 19 rfl rfl)
theorem dX5_offers_112 : decode cX5_offers 112 = .ok (.ifCond .eq 10, 3) := dk_153 0 10 (dk_at dksX5_offers_4 20 rfl rfl)
theorem dX5_offers_115 : decode cX5_offers 115 = .ok (.aload_n 2, 1) := dk_44 (dk_at dksX5_offers_4 23 rfl rfl)
theorem dX5_offers_116 : decode cX5_offers 116 = .ok (.getfield 171, 3) := dk_180 0 171 (dk_at dksX5_offers_5 0 rfl rfl)
theorem dX5_offers_119 : decode cX5_offers 119 = .ok (.goto 7, 3) := dk_167 0 7 (dk_at dksX5_offers_5 3 rfl rfl)
theorem dX5_offers_122 : decode cX5_offers 122 = .ok (.aload_n 2, 1) := dk_44 (dk_at dksX5_offers_5 6 rfl rfl)
theorem dX5_offers_123 : decode cX5_offers 123 = .ok (.getfield 174, 3) := dk_180 0 174 (dk_at dksX5_offers_5 7 rfl rfl)
theorem dX5_offers_126 : decode cX5_offers 126 = .ok (.invokevirtual 227, 3) := dk_182 0 227 (dk_at dksX5_offers_5 10 rfl rfl)
theorem dX5_offers_129 : decode cX5_offers 129 = .ok (.aload_n 0, 1) := dk_42 (dk_at dksX5_offers_5 13 rfl rfl)
theorem dX5_offers_130 : decode cX5_offers 130 = .ok (.aload_n 1, 1) := dk_43 (dk_at dksX5_offers_5 14 rfl rfl)
theorem dX5_offers_131 : decode cX5_offers 131 = .ok (.aload_n 2, 1) := dk_44 (dk_at dksX5_offers_5 15 rfl rfl)
theorem dX5_offers_132 : decode cX5_offers 132 = .ok (.iconst 0, 1) := dk_3 (dk_at dksX5_offers_5 16 rfl rfl)
theorem dX5_offers_133 : decode cX5_offers 133 = .ok (.invokevirtual 249, 3) := dk_182 0 249 (dk_at dksX5_offers_5 17 rfl rfl)
theorem dX5_offers_136 : decode cX5_offers 136 = .ok (.aload_n 1, 1) := dk_43 (dk_at dksX5_offers_5 20 rfl rfl)
theorem dX5_offers_137 : decode cX5_offers 137 = .ok (.iconst (-1), 1) := dk_2 (dk_at dksX5_offers_5 21 rfl rfl)
theorem dX5_offers_138 : decode cX5_offers 138 = .ok (.putfield 254, 3) := dk_181 0 254 (dk_at dksX5_offers_6 0 rfl rfl)
theorem dX5_offers_141 : decode cX5_offers 141 = .ok (.aload_n 1, 1) := dk_43 (dk_at dksX5_offers_6 3 rfl rfl)
theorem dX5_offers_142 : decode cX5_offers 142 = .ok (.aload_n 0, 1) := dk_42 (dk_at dksX5_offers_6 4 rfl rfl)
theorem dX5_offers_143 : decode cX5_offers 143 = .ok (.getfield 149, 3) := dk_180 0 149 (dk_at dksX5_offers_6 5 rfl rfl)
theorem dX5_offers_146 : decode cX5_offers 146 = .ok (.invokevirtual 240, 3) := dk_182 0 240 (dk_at dksX5_offers_6 8 rfl rfl)
theorem dX5_offers_149 : decode cX5_offers 149 = .ok (.return_, 1) := dk_177 (dk_at dksX5_offers_6 11 rfl rfl)
abbrev cX5_orders : ByteArray := prog_2_method_25_code
def yX5_orders : MethodName := ⟨RX5, "orders", "(LChurchyardBook$Grave;LChurchyardBook$Person;)V"⟩
def dkwX5_orders_1 : List UInt8 := [180, 0, 215, 44, 182, 0, 77, 87, 177]
abbrev dktX5_orders_1 : List UInt8 := dkwX5_orders_1 ++ []
def dkwX5_orders_0 : List UInt8 := [44, 198, 0, 30, 44, 180, 0, 177, 154, 0, 23, 43, 180, 0, 215, 44, 182, 0, 218, 154, 0, 12, 43]
abbrev dktX5_orders_0 : List UInt8 := dkwX5_orders_0 ++ dktX5_orders_1
theorem dksX5_orders_0 : cX5_orders.data.toList.drop 0 = dktX5_orders_0 := by decide +kernel
theorem dksX5_orders_1 : cX5_orders.data.toList.drop 23 = dktX5_orders_1 := dk_seg dksX5_orders_0 23 rfl rfl
theorem dX5_orders_0 : decode cX5_orders 0 = .ok (.aload_n 2, 1) := dk_44 (dk_at dksX5_orders_0 0 rfl rfl)
theorem dX5_orders_1 : decode cX5_orders 1 = .ok (.ifnull 30, 3) := dk_198 0 30 (dk_at dksX5_orders_0 1 rfl rfl)
theorem dX5_orders_4 : decode cX5_orders 4 = .ok (.aload_n 2, 1) := dk_44 (dk_at dksX5_orders_0 4 rfl rfl)
theorem dX5_orders_5 : decode cX5_orders 5 = .ok (.getfield 177, 3) := dk_180 0 177 (dk_at dksX5_orders_0 5 rfl rfl)
theorem dX5_orders_8 : decode cX5_orders 8 = .ok (.ifCond .ne 23, 3) := dk_154 0 23 (dk_at dksX5_orders_0 8 rfl rfl)
theorem dX5_orders_11 : decode cX5_orders 11 = .ok (.aload_n 1, 1) := dk_43 (dk_at dksX5_orders_0 11 rfl rfl)
theorem dX5_orders_12 : decode cX5_orders 12 = .ok (.getfield 215, 3) := dk_180 0 215 (dk_at dksX5_orders_0 12 rfl rfl)
theorem dX5_orders_15 : decode cX5_orders 15 = .ok (.aload_n 2, 1) := dk_44 (dk_at dksX5_orders_0 15 rfl rfl)
theorem dX5_orders_16 : decode cX5_orders 16 = .ok (.invokevirtual 218, 3) := dk_182 0 218 (dk_at dksX5_orders_0 16 rfl rfl)
theorem dX5_orders_19 : decode cX5_orders 19 = .ok (.ifCond .ne 12, 3) := dk_154 0 12 (dk_at dksX5_orders_0 19 rfl rfl)
theorem dX5_orders_22 : decode cX5_orders 22 = .ok (.aload_n 1, 1) := dk_43 (dk_at dksX5_orders_0 22 rfl rfl)
theorem dX5_orders_23 : decode cX5_orders 23 = .ok (.getfield 215, 3) := dk_180 0 215 (dk_at dksX5_orders_1 0 rfl rfl)
theorem dX5_orders_26 : decode cX5_orders 26 = .ok (.aload_n 2, 1) := dk_44 (dk_at dksX5_orders_1 3 rfl rfl)
theorem dX5_orders_27 : decode cX5_orders 27 = .ok (.invokevirtual 77, 3) := dk_182 0 77 (dk_at dksX5_orders_1 4 rfl rfl)
theorem dX5_orders_30 : decode cX5_orders 30 = .ok (.pop, 1) := dk_87 (dk_at dksX5_orders_1 7 rfl rfl)
theorem dX5_orders_31 : decode cX5_orders 31 = .ok (.return_, 1) := dk_177 (dk_at dksX5_orders_1 8 rfl rfl)
abbrev cX5_ordersByAge : ByteArray := prog_2_method_26_code
def yX5_ordersByAge : MethodName := ⟨RX5, "ordersByAge", "(LChurchyardBook$Grave;LChurchyardBook$Person;Z)V"⟩
def dkwX5_ordersByAge_6 : List UInt8 := [25, 4, 21, 5, 182, 0, 35, 192, 0, 41, 182, 0, 227, 132, 5, 1, 167, 255, 228, 177]
abbrev dktX5_ordersByAge_6 : List UInt8 := dkwX5_ordersByAge_6 ++ []
def dkwX5_ordersByAge_5 : List UInt8 := [182, 0, 224, 132, 5, 1, 167, 255, 149, 3, 54, 5, 21, 5, 25, 4, 182, 0, 31, 162, 0, 24, 42, 43]
abbrev dktX5_ordersByAge_5 : List UInt8 := dkwX5_ordersByAge_5 ++ dktX5_ordersByAge_6
def dkwX5_ordersByAge_4 : List UInt8 := [180, 0, 168, 25, 6, 180, 0, 168, 164, 0, 9, 132, 7, 255, 167, 255, 225, 25, 4, 21, 7, 25, 6]
abbrev dktX5_ordersByAge_4 : List UInt8 := dkwX5_ordersByAge_4 ++ dktX5_ordersByAge_5
def dkwX5_ordersByAge_3 : List UInt8 := [182, 0, 31, 54, 7, 21, 7, 158, 0, 32, 25, 4, 21, 7, 4, 100, 182, 0, 35, 192, 0, 41]
abbrev dktX5_ordersByAge_3 : List UInt8 := dkwX5_ordersByAge_3 ++ dktX5_ordersByAge_4
def dkwX5_ordersByAge_2 : List UInt8 := [182, 0, 164, 153, 0, 68, 167, 0, 15, 44, 25, 6, 182, 0, 221, 154, 0, 6, 167, 0, 53, 25, 4]
abbrev dktX5_ordersByAge_2 : List UInt8 := dkwX5_ordersByAge_2 ++ dktX5_ordersByAge_3
def dkwX5_ordersByAge_1 : List UInt8 := [162, 0, 101, 42, 180, 0, 28, 21, 5, 182, 0, 35, 192, 0, 41, 58, 6, 29, 153, 0, 15, 44, 25, 6]
abbrev dktX5_ordersByAge_1 : List UInt8 := dkwX5_ordersByAge_1 ++ dktX5_ordersByAge_2
def dkwX5_ordersByAge_0 : List UInt8 := [187, 0, 15, 89, 3, 183, 0, 17, 58, 4, 3, 54, 5, 21, 5, 42, 180, 0, 28, 182, 0, 31]
abbrev dktX5_ordersByAge_0 : List UInt8 := dkwX5_ordersByAge_0 ++ dktX5_ordersByAge_1
theorem dksX5_ordersByAge_0 : cX5_ordersByAge.data.toList.drop 0 = dktX5_ordersByAge_0 := by decide +kernel
theorem dksX5_ordersByAge_1 : cX5_ordersByAge.data.toList.drop 22 = dktX5_ordersByAge_1 := dk_seg dksX5_ordersByAge_0 22 rfl rfl
theorem dksX5_ordersByAge_2 : cX5_ordersByAge.data.toList.drop 46 = dktX5_ordersByAge_2 := dk_seg dksX5_ordersByAge_1 24 rfl rfl
theorem dksX5_ordersByAge_3 : cX5_ordersByAge.data.toList.drop 69 = dktX5_ordersByAge_3 := dk_seg dksX5_ordersByAge_2 23 rfl rfl
theorem dksX5_ordersByAge_4 : cX5_ordersByAge.data.toList.drop 91 = dktX5_ordersByAge_4 := dk_seg dksX5_ordersByAge_3 22 rfl rfl
theorem dksX5_ordersByAge_5 : cX5_ordersByAge.data.toList.drop 114 = dktX5_ordersByAge_5 := dk_seg dksX5_ordersByAge_4 23 rfl rfl
theorem dksX5_ordersByAge_6 : cX5_ordersByAge.data.toList.drop 138 = dktX5_ordersByAge_6 := dk_seg dksX5_ordersByAge_5 24 rfl rfl
theorem dX5_ordersByAge_0 : decode cX5_ordersByAge 0 = .ok (.new 15, 3) := dk_187 0 15 (dk_at dksX5_ordersByAge_0 0 rfl rfl)
theorem dX5_ordersByAge_3 : decode cX5_ordersByAge 3 = .ok (.dup, 1) := dk_89 (dk_at dksX5_ordersByAge_0 3 rfl rfl)
theorem dX5_ordersByAge_4 : decode cX5_ordersByAge 4 = .ok (.iconst 0, 1) := dk_3 (dk_at dksX5_ordersByAge_0 4 rfl rfl)
theorem dX5_ordersByAge_5 : decode cX5_ordersByAge 5 = .ok (.invokespecial 17, 3) := dk_183 0 17 (dk_at dksX5_ordersByAge_0 5 rfl rfl)
theorem dX5_ordersByAge_8 : decode cX5_ordersByAge 8 = .ok (.astore 4, 2) := dk_58 4 (dk_at dksX5_ordersByAge_0 8 rfl rfl)
theorem dX5_ordersByAge_10 : decode cX5_ordersByAge 10 = .ok (.iconst 0, 1) := dk_3 (dk_at dksX5_ordersByAge_0 10 rfl rfl)
theorem dX5_ordersByAge_11 : decode cX5_ordersByAge 11 = .ok (.istore 5, 2) := dk_54 5 (dk_at dksX5_ordersByAge_0 11 rfl rfl)
theorem dX5_ordersByAge_13 : decode cX5_ordersByAge 13 = .ok (.iload 5, 2) := dk_21 5 (dk_at dksX5_ordersByAge_0 13 rfl rfl)
theorem dX5_ordersByAge_15 : decode cX5_ordersByAge 15 = .ok (.aload_n 0, 1) := dk_42 (dk_at dksX5_ordersByAge_0 15 rfl rfl)
theorem dX5_ordersByAge_16 : decode cX5_ordersByAge 16 = .ok (.getfield 28, 3) := dk_180 0 28 (dk_at dksX5_ordersByAge_0 16 rfl rfl)
theorem dX5_ordersByAge_19 : decode cX5_ordersByAge 19 = .ok (.invokevirtual 31, 3) := dk_182 0 31 (dk_at dksX5_ordersByAge_0 19 rfl rfl)
theorem dX5_ordersByAge_22 : decode cX5_ordersByAge 22 = .ok (.if_icmp .ge 101, 3) := dk_162 0 101 (dk_at dksX5_ordersByAge_1 0 rfl rfl)
theorem dX5_ordersByAge_25 : decode cX5_ordersByAge 25 = .ok (.aload_n 0, 1) := dk_42 (dk_at dksX5_ordersByAge_1 3 rfl rfl)
theorem dX5_ordersByAge_26 : decode cX5_ordersByAge 26 = .ok (.getfield 28, 3) := dk_180 0 28 (dk_at dksX5_ordersByAge_1 4 rfl rfl)
theorem dX5_ordersByAge_29 : decode cX5_ordersByAge 29 = .ok (.iload 5, 2) := dk_21 5 (dk_at dksX5_ordersByAge_1 7 rfl rfl)
theorem dX5_ordersByAge_31 : decode cX5_ordersByAge 31 = .ok (.invokevirtual 35, 3) := dk_182 0 35 (dk_at dksX5_ordersByAge_1 9 rfl rfl)
theorem dX5_ordersByAge_34 : decode cX5_ordersByAge 34 = .ok (.checkcast 41, 3) := dk_192 0 41 (dk_at dksX5_ordersByAge_1 12 rfl rfl)
theorem dX5_ordersByAge_37 : decode cX5_ordersByAge 37 = .ok (.astore 6, 2) := dk_58 6 (dk_at dksX5_ordersByAge_1 15 rfl rfl)
theorem dX5_ordersByAge_39 : decode cX5_ordersByAge 39 = .ok (.iload_n 3, 1) := dk_29 (dk_at dksX5_ordersByAge_1 17 rfl rfl)
theorem dX5_ordersByAge_40 : decode cX5_ordersByAge 40 = .ok (.ifCond .eq 15, 3) := dk_153 0 15 (dk_at dksX5_ordersByAge_1 18 rfl rfl)
theorem dX5_ordersByAge_43 : decode cX5_ordersByAge 43 = .ok (.aload_n 2, 1) := dk_44 (dk_at dksX5_ordersByAge_1 21 rfl rfl)
theorem dX5_ordersByAge_44 : decode cX5_ordersByAge 44 = .ok (.aload 6, 2) := dk_25 6 (dk_at dksX5_ordersByAge_1 22 rfl rfl)
theorem dX5_ordersByAge_46 : decode cX5_ordersByAge 46 = .ok (.invokevirtual 164, 3) := dk_182 0 164 (dk_at dksX5_ordersByAge_2 0 rfl rfl)
theorem dX5_ordersByAge_49 : decode cX5_ordersByAge 49 = .ok (.ifCond .eq 68, 3) := dk_153 0 68 (dk_at dksX5_ordersByAge_2 3 rfl rfl)
theorem dX5_ordersByAge_52 : decode cX5_ordersByAge 52 = .ok (.goto 15, 3) := dk_167 0 15 (dk_at dksX5_ordersByAge_2 6 rfl rfl)
theorem dX5_ordersByAge_55 : decode cX5_ordersByAge 55 = .ok (.aload_n 2, 1) := dk_44 (dk_at dksX5_ordersByAge_2 9 rfl rfl)
theorem dX5_ordersByAge_56 : decode cX5_ordersByAge 56 = .ok (.aload 6, 2) := dk_25 6 (dk_at dksX5_ordersByAge_2 10 rfl rfl)
theorem dX5_ordersByAge_58 : decode cX5_ordersByAge 58 = .ok (.invokevirtual 221, 3) := dk_182 0 221 (dk_at dksX5_ordersByAge_2 12 rfl rfl)
theorem dX5_ordersByAge_61 : decode cX5_ordersByAge 61 = .ok (.ifCond .ne 6, 3) := dk_154 0 6 (dk_at dksX5_ordersByAge_2 15 rfl rfl)
theorem dX5_ordersByAge_64 : decode cX5_ordersByAge 64 = .ok (.goto 53, 3) := dk_167 0 53 (dk_at dksX5_ordersByAge_2 18 rfl rfl)
theorem dX5_ordersByAge_67 : decode cX5_ordersByAge 67 = .ok (.aload 4, 2) := dk_25 4 (dk_at dksX5_ordersByAge_2 21 rfl rfl)
theorem dX5_ordersByAge_69 : decode cX5_ordersByAge 69 = .ok (.invokevirtual 31, 3) := dk_182 0 31 (dk_at dksX5_ordersByAge_3 0 rfl rfl)
theorem dX5_ordersByAge_72 : decode cX5_ordersByAge 72 = .ok (.istore 7, 2) := dk_54 7 (dk_at dksX5_ordersByAge_3 3 rfl rfl)
theorem dX5_ordersByAge_74 : decode cX5_ordersByAge 74 = .ok (.iload 7, 2) := dk_21 7 (dk_at dksX5_ordersByAge_3 5 rfl rfl)
theorem dX5_ordersByAge_76 : decode cX5_ordersByAge 76 = .ok (.ifCond .le 32, 3) := dk_158 0 32 (dk_at dksX5_ordersByAge_3 7 rfl rfl)
theorem dX5_ordersByAge_79 : decode cX5_ordersByAge 79 = .ok (.aload 4, 2) := dk_25 4 (dk_at dksX5_ordersByAge_3 10 rfl rfl)
theorem dX5_ordersByAge_81 : decode cX5_ordersByAge 81 = .ok (.iload 7, 2) := dk_21 7 (dk_at dksX5_ordersByAge_3 12 rfl rfl)
theorem dX5_ordersByAge_83 : decode cX5_ordersByAge 83 = .ok (.iconst 1, 1) := dk_4 (dk_at dksX5_ordersByAge_3 14 rfl rfl)
theorem dX5_ordersByAge_84 : decode cX5_ordersByAge 84 = .ok (.isub, 1) := dk_100 (dk_at dksX5_ordersByAge_3 15 rfl rfl)
theorem dX5_ordersByAge_85 : decode cX5_ordersByAge 85 = .ok (.invokevirtual 35, 3) := dk_182 0 35 (dk_at dksX5_ordersByAge_3 16 rfl rfl)
theorem dX5_ordersByAge_88 : decode cX5_ordersByAge 88 = .ok (.checkcast 41, 3) := dk_192 0 41 (dk_at dksX5_ordersByAge_3 19 rfl rfl)
theorem dX5_ordersByAge_91 : decode cX5_ordersByAge 91 = .ok (.getfield 168, 3) := dk_180 0 168 (dk_at dksX5_ordersByAge_4 0 rfl rfl)
theorem dX5_ordersByAge_94 : decode cX5_ordersByAge 94 = .ok (.aload 6, 2) := dk_25 6 (dk_at dksX5_ordersByAge_4 3 rfl rfl)
theorem dX5_ordersByAge_96 : decode cX5_ordersByAge 96 = .ok (.getfield 168, 3) := dk_180 0 168 (dk_at dksX5_ordersByAge_4 5 rfl rfl)
theorem dX5_ordersByAge_99 : decode cX5_ordersByAge 99 = .ok (.if_icmp .le 9, 3) := dk_164 0 9 (dk_at dksX5_ordersByAge_4 8 rfl rfl)
theorem dX5_ordersByAge_102 : decode cX5_ordersByAge 102 = .ok (.iinc 7 (-1), 3) := dk_132 7 255 (dk_at dksX5_ordersByAge_4 11 rfl rfl)
theorem dX5_ordersByAge_105 : decode cX5_ordersByAge 105 = .ok (.goto (-31), 3) := dk_167 255 225 (dk_at dksX5_ordersByAge_4 14 rfl rfl)
theorem dX5_ordersByAge_108 : decode cX5_ordersByAge 108 = .ok (.aload 4, 2) := dk_25 4 (dk_at dksX5_ordersByAge_4 17 rfl rfl)
theorem dX5_ordersByAge_110 : decode cX5_ordersByAge 110 = .ok (.iload 7, 2) := dk_21 7 (dk_at dksX5_ordersByAge_4 19 rfl rfl)
theorem dX5_ordersByAge_112 : decode cX5_ordersByAge 112 = .ok (.aload 6, 2) := dk_25 6 (dk_at dksX5_ordersByAge_4 21 rfl rfl)
theorem dX5_ordersByAge_114 : decode cX5_ordersByAge 114 = .ok (.invokevirtual 224, 3) := dk_182 0 224 (dk_at dksX5_ordersByAge_5 0 rfl rfl)
theorem dX5_ordersByAge_117 : decode cX5_ordersByAge 117 = .ok (.iinc 5 1, 3) := dk_132 5 1 (dk_at dksX5_ordersByAge_5 3 rfl rfl)
theorem dX5_ordersByAge_120 : decode cX5_ordersByAge 120 = .ok (.goto (-107), 3) := dk_167 255 149 (dk_at dksX5_ordersByAge_5 6 rfl rfl)
theorem dX5_ordersByAge_123 : decode cX5_ordersByAge 123 = .ok (.iconst 0, 1) := dk_3 (dk_at dksX5_ordersByAge_5 9 rfl rfl)
theorem dX5_ordersByAge_124 : decode cX5_ordersByAge 124 = .ok (.istore 5, 2) := dk_54 5 (dk_at dksX5_ordersByAge_5 10 rfl rfl)
theorem dX5_ordersByAge_126 : decode cX5_ordersByAge 126 = .ok (.iload 5, 2) := dk_21 5 (dk_at dksX5_ordersByAge_5 12 rfl rfl)
theorem dX5_ordersByAge_128 : decode cX5_ordersByAge 128 = .ok (.aload 4, 2) := dk_25 4 (dk_at dksX5_ordersByAge_5 14 rfl rfl)
theorem dX5_ordersByAge_130 : decode cX5_ordersByAge 130 = .ok (.invokevirtual 31, 3) := dk_182 0 31 (dk_at dksX5_ordersByAge_5 16 rfl rfl)
theorem dX5_ordersByAge_133 : decode cX5_ordersByAge 133 = .ok (.if_icmp .ge 24, 3) := dk_162 0 24 (dk_at dksX5_ordersByAge_5 19 rfl rfl)
theorem dX5_ordersByAge_136 : decode cX5_ordersByAge 136 = .ok (.aload_n 0, 1) := dk_42 (dk_at dksX5_ordersByAge_5 22 rfl rfl)
theorem dX5_ordersByAge_137 : decode cX5_ordersByAge 137 = .ok (.aload_n 1, 1) := dk_43 (dk_at dksX5_ordersByAge_5 23 rfl rfl)
theorem dX5_ordersByAge_138 : decode cX5_ordersByAge 138 = .ok (.aload 4, 2) := dk_25 4 (dk_at dksX5_ordersByAge_6 0 rfl rfl)
theorem dX5_ordersByAge_140 : decode cX5_ordersByAge 140 = .ok (.iload 5, 2) := dk_21 5 (dk_at dksX5_ordersByAge_6 2 rfl rfl)
theorem dX5_ordersByAge_142 : decode cX5_ordersByAge 142 = .ok (.invokevirtual 35, 3) := dk_182 0 35 (dk_at dksX5_ordersByAge_6 4 rfl rfl)
theorem dX5_ordersByAge_145 : decode cX5_ordersByAge 145 = .ok (.checkcast 41, 3) := dk_192 0 41 (dk_at dksX5_ordersByAge_6 7 rfl rfl)
theorem dX5_ordersByAge_148 : decode cX5_ordersByAge 148 = .ok (.invokevirtual 227, 3) := dk_182 0 227 (dk_at dksX5_ordersByAge_6 10 rfl rfl)
theorem dX5_ordersByAge_151 : decode cX5_ordersByAge 151 = .ok (.iinc 5 1, 3) := dk_132 5 1 (dk_at dksX5_ordersByAge_6 13 rfl rfl)
theorem dX5_ordersByAge_154 : decode cX5_ordersByAge 154 = .ok (.goto (-28), 3) := dk_167 255 228 (dk_at dksX5_ordersByAge_6 16 rfl rfl)
theorem dX5_ordersByAge_157 : decode cX5_ordersByAge 157 = .ok (.return_, 1) := dk_177 (dk_at dksX5_ordersByAge_6 19 rfl rfl)
abbrev cX5_takes : ByteArray := prog_2_method_30_code
def yX5_takes : MethodName := ⟨RX5, "takes", "(I)I"⟩
def dkwX5_takes_0 : List UInt8 := [42, 27, 182, 1, 0, 77, 44, 44, 180, 0, 237, 182, 0, 194, 3, 172]
abbrev dktX5_takes_0 : List UInt8 := dkwX5_takes_0 ++ []
theorem dksX5_takes_0 : cX5_takes.data.toList.drop 0 = dktX5_takes_0 := by decide +kernel
theorem dX5_takes_0 : decode cX5_takes 0 = .ok (.aload_n 0, 1) := dk_42 (dk_at dksX5_takes_0 0 rfl rfl)
theorem dX5_takes_1 : decode cX5_takes 1 = .ok (.iload_n 1, 1) := dk_27 (dk_at dksX5_takes_0 1 rfl rfl)
theorem dX5_takes_2 : decode cX5_takes 2 = .ok (.invokevirtual 256, 3) := dk_182 1 0 (dk_at dksX5_takes_0 2 rfl rfl)
theorem dX5_takes_5 : decode cX5_takes 5 = .ok (.astore_n 2, 1) := dk_77 (dk_at dksX5_takes_0 5 rfl rfl)
theorem dX5_takes_6 : decode cX5_takes 6 = .ok (.aload_n 2, 1) := dk_44 (dk_at dksX5_takes_0 6 rfl rfl)
theorem dX5_takes_7 : decode cX5_takes 7 = .ok (.aload_n 2, 1) := dk_44 (dk_at dksX5_takes_0 7 rfl rfl)
theorem dX5_takes_8 : decode cX5_takes 8 = .ok (.getfield 237, 3) := dk_180 0 237 (dk_at dksX5_takes_0 8 rfl rfl)
theorem dX5_takes_11 : decode cX5_takes 11 = .ok (.invokevirtual 194, 3) := dk_182 0 194 (dk_at dksX5_takes_0 11 rfl rfl)
theorem dX5_takes_14 : decode cX5_takes 14 = .ok (.iconst 0, 1) := dk_3 (dk_at dksX5_takes_0 14 rfl rfl)
theorem dX5_takes_15 : decode cX5_takes 15 = .ok (.ireturn, 1) := dk_172 (dk_at dksX5_takes_0 15 rfl rfl)
abbrev cX5_offered : ByteArray := prog_2_method_29_code
def yX5_offered : MethodName := ⟨RX5, "offered", "(I)LChurchyardBook$Grave;"⟩
def dkwX5_offered_1 : List UInt8 := [160, 0, 14, 44, 180, 0, 237, 198, 0, 7, 4, 167, 0, 4, 3, 16, 254, 184, 0, 43, 44, 176]
abbrev dktX5_offered_1 : List UInt8 := dkwX5_offered_1 ++ []
def dkwX5_offered_0 : List UInt8 := [42, 27, 182, 0, 184, 77, 44, 198, 0, 7, 4, 167, 0, 4, 3, 2, 184, 0, 43, 44, 180, 0, 188, 5]
abbrev dktX5_offered_0 : List UInt8 := dkwX5_offered_0 ++ dktX5_offered_1
theorem dksX5_offered_0 : cX5_offered.data.toList.drop 0 = dktX5_offered_0 := by decide +kernel
theorem dksX5_offered_1 : cX5_offered.data.toList.drop 24 = dktX5_offered_1 := dk_seg dksX5_offered_0 24 rfl rfl
theorem dX5_offered_0 : decode cX5_offered 0 = .ok (.aload_n 0, 1) := dk_42 (dk_at dksX5_offered_0 0 rfl rfl)
theorem dX5_offered_1 : decode cX5_offered 1 = .ok (.iload_n 1, 1) := dk_27 (dk_at dksX5_offered_0 1 rfl rfl)
theorem dX5_offered_2 : decode cX5_offered 2 = .ok (.invokevirtual 184, 3) := dk_182 0 184 (dk_at dksX5_offered_0 2 rfl rfl)
theorem dX5_offered_5 : decode cX5_offered 5 = .ok (.astore_n 2, 1) := dk_77 (dk_at dksX5_offered_0 5 rfl rfl)
theorem dX5_offered_6 : decode cX5_offered 6 = .ok (.aload_n 2, 1) := dk_44 (dk_at dksX5_offered_0 6 rfl rfl)
theorem dX5_offered_7 : decode cX5_offered 7 = .ok (.ifnull 7, 3) := dk_198 0 7 (dk_at dksX5_offered_0 7 rfl rfl)
theorem dX5_offered_10 : decode cX5_offered 10 = .ok (.iconst 1, 1) := dk_4 (dk_at dksX5_offered_0 10 rfl rfl)
theorem dX5_offered_11 : decode cX5_offered 11 = .ok (.goto 4, 3) := dk_167 0 4 (dk_at dksX5_offered_0 11 rfl rfl)
theorem dX5_offered_14 : decode cX5_offered 14 = .ok (.iconst 0, 1) := dk_3 (dk_at dksX5_offered_0 14 rfl rfl)
theorem dX5_offered_15 : decode cX5_offered 15 = .ok (.iconst (-1), 1) := dk_2 (dk_at dksX5_offered_0 15 rfl rfl)
theorem dX5_offered_16 : decode cX5_offered 16 = .ok (.invokestatic 43, 3) := dk_184 0 43 (dk_at dksX5_offered_0 16 rfl rfl)
theorem dX5_offered_19 : decode cX5_offered 19 = .ok (.aload_n 2, 1) := dk_44 (dk_at dksX5_offered_0 19 rfl rfl)
theorem dX5_offered_20 : decode cX5_offered 20 = .ok (.getfield 188, 3) := dk_180 0 188 (dk_at dksX5_offered_0 20 rfl rfl)
theorem dX5_offered_23 : decode cX5_offered 23 = .ok (.iconst 2, 1) := dk_5 (dk_at dksX5_offered_0 23 rfl rfl)
theorem dX5_offered_24 : decode cX5_offered 24 = .ok (.if_icmp .ne 14, 3) := dk_160 0 14 (dk_at dksX5_offered_1 0 rfl rfl)
theorem dX5_offered_27 : decode cX5_offered 27 = .ok (.aload_n 2, 1) := dk_44 (dk_at dksX5_offered_1 3 rfl rfl)
theorem dX5_offered_28 : decode cX5_offered 28 = .ok (.getfield 237, 3) := dk_180 0 237 (dk_at dksX5_offered_1 4 rfl rfl)
theorem dX5_offered_31 : decode cX5_offered 31 = .ok (.ifnull 7, 3) := dk_198 0 7 (dk_at dksX5_offered_1 7 rfl rfl)
theorem dX5_offered_34 : decode cX5_offered 34 = .ok (.iconst 1, 1) := dk_4 (dk_at dksX5_offered_1 10 rfl rfl)
theorem dX5_offered_35 : decode cX5_offered 35 = .ok (.goto 4, 3) := dk_167 0 4 (dk_at dksX5_offered_1 11 rfl rfl)
theorem dX5_offered_38 : decode cX5_offered 38 = .ok (.iconst 0, 1) := dk_3 (dk_at dksX5_offered_1 14 rfl rfl)
theorem dX5_offered_39 : decode cX5_offered 39 = .ok (.bipush (-2), 2) := dk_16 254 (dk_at dksX5_offered_1 15 rfl rfl)
theorem dX5_offered_41 : decode cX5_offered 41 = .ok (.invokestatic 43, 3) := dk_184 0 43 (dk_at dksX5_offered_1 17 rfl rfl)
theorem dX5_offered_44 : decode cX5_offered 44 = .ok (.aload_n 2, 1) := dk_44 (dk_at dksX5_offered_1 20 rfl rfl)
theorem dX5_offered_45 : decode cX5_offered 45 = .ok (.areturn, 1) := dk_176 (dk_at dksX5_offered_1 21 rfl rfl)
abbrev cX5_refuses : ByteArray := prog_2_method_31_code
def yX5_refuses : MethodName := ⟨RX5, "refuses", "(I)I"⟩
def dkwX5_refuses_0 : List UInt8 := [42, 27, 182, 1, 0, 42, 180, 0, 149, 182, 0, 240, 3, 172]
abbrev dktX5_refuses_0 : List UInt8 := dkwX5_refuses_0 ++ []
theorem dksX5_refuses_0 : cX5_refuses.data.toList.drop 0 = dktX5_refuses_0 := by decide +kernel
theorem dX5_refuses_0 : decode cX5_refuses 0 = .ok (.aload_n 0, 1) := dk_42 (dk_at dksX5_refuses_0 0 rfl rfl)
theorem dX5_refuses_1 : decode cX5_refuses 1 = .ok (.iload_n 1, 1) := dk_27 (dk_at dksX5_refuses_0 1 rfl rfl)
theorem dX5_refuses_2 : decode cX5_refuses 2 = .ok (.invokevirtual 256, 3) := dk_182 1 0 (dk_at dksX5_refuses_0 2 rfl rfl)
theorem dX5_refuses_5 : decode cX5_refuses 5 = .ok (.aload_n 0, 1) := dk_42 (dk_at dksX5_refuses_0 5 rfl rfl)
theorem dX5_refuses_6 : decode cX5_refuses 6 = .ok (.getfield 149, 3) := dk_180 0 149 (dk_at dksX5_refuses_0 6 rfl rfl)
theorem dX5_refuses_9 : decode cX5_refuses 9 = .ok (.invokevirtual 240, 3) := dk_182 0 240 (dk_at dksX5_refuses_0 9 rfl rfl)
theorem dX5_refuses_12 : decode cX5_refuses 12 = .ok (.iconst 0, 1) := dk_3 (dk_at dksX5_refuses_0 12 rfl rfl)
theorem dX5_refuses_13 : decode cX5_refuses 13 = .ok (.ireturn, 1) := dk_172 (dk_at dksX5_refuses_0 13 rfl rfl)
abbrev cX5_bury : ByteArray := prog_2_method_36_code
def yX5_bury : MethodName := ⟨RX5, "bury", "(IIII)I"⟩
def dkwX5_bury_3 : List UInt8 := [182, 1, 43, 182, 0, 204, 172]
abbrev dktX5_bury_3 : List UInt8 := dkwX5_bury_3 ++ []
def dkwX5_bury_2 : List UInt8 := [25, 7, 42, 25, 6, 21, 4, 182, 1, 25, 181, 1, 33, 42, 42, 25, 6, 28, 25, 7, 21, 4]
abbrev dktX5_bury_2 : List UInt8 := dkwX5_bury_2 ++ dktX5_bury_3
def dkwX5_bury_1 : List UInt8 := [184, 0, 43, 42, 27, 182, 0, 184, 58, 6, 42, 29, 182, 0, 156, 58, 7, 25, 7, 21, 4, 181, 1, 9]
abbrev dktX5_bury_1 : List UInt8 := dkwX5_bury_1 ++ dktX5_bury_2
def dkwX5_bury_0 : List UInt8 := [42, 27, 28, 29, 21, 4, 182, 1, 40, 54, 5, 21, 5, 154, 0, 7, 4, 167, 0, 4, 3, 21, 5, 116]
abbrev dktX5_bury_0 : List UInt8 := dkwX5_bury_0 ++ dktX5_bury_1
theorem dksX5_bury_0 : cX5_bury.data.toList.drop 0 = dktX5_bury_0 := by decide +kernel
theorem dksX5_bury_1 : cX5_bury.data.toList.drop 24 = dktX5_bury_1 := dk_seg dksX5_bury_0 24 rfl rfl
theorem dksX5_bury_2 : cX5_bury.data.toList.drop 48 = dktX5_bury_2 := dk_seg dksX5_bury_1 24 rfl rfl
theorem dksX5_bury_3 : cX5_bury.data.toList.drop 70 = dktX5_bury_3 := dk_seg dksX5_bury_2 22 rfl rfl
theorem dX5_bury_0 : decode cX5_bury 0 = .ok (.aload_n 0, 1) := dk_42 (dk_at dksX5_bury_0 0 rfl rfl)
theorem dX5_bury_1 : decode cX5_bury 1 = .ok (.iload_n 1, 1) := dk_27 (dk_at dksX5_bury_0 1 rfl rfl)
theorem dX5_bury_2 : decode cX5_bury 2 = .ok (.iload_n 2, 1) := dk_28 (dk_at dksX5_bury_0 2 rfl rfl)
theorem dX5_bury_3 : decode cX5_bury 3 = .ok (.iload_n 3, 1) := dk_29 (dk_at dksX5_bury_0 3 rfl rfl)
theorem dX5_bury_4 : decode cX5_bury 4 = .ok (.iload 4, 2) := dk_21 4 (dk_at dksX5_bury_0 4 rfl rfl)
theorem dX5_bury_6 : decode cX5_bury 6 = .ok (.invokevirtual 296, 3) := dk_182 1 40 (dk_at dksX5_bury_0 6 rfl rfl)
theorem dX5_bury_9 : decode cX5_bury 9 = .ok (.istore 5, 2) := dk_54 5 (dk_at dksX5_bury_0 9 rfl rfl)
theorem dX5_bury_11 : decode cX5_bury 11 = .ok (.iload 5, 2) := dk_21 5 (dk_at dksX5_bury_0 11 rfl rfl)
theorem dX5_bury_13 : decode cX5_bury 13 = .ok (.ifCond .ne 7, 3) := dk_154 0 7 (dk_at dksX5_bury_0 13 rfl rfl)
theorem dX5_bury_16 : decode cX5_bury 16 = .ok (.iconst 1, 1) := dk_4 (dk_at dksX5_bury_0 16 rfl rfl)
theorem dX5_bury_17 : decode cX5_bury 17 = .ok (.goto 4, 3) := dk_167 0 4 (dk_at dksX5_bury_0 17 rfl rfl)
theorem dX5_bury_20 : decode cX5_bury 20 = .ok (.iconst 0, 1) := dk_3 (dk_at dksX5_bury_0 20 rfl rfl)
theorem dX5_bury_21 : decode cX5_bury 21 = .ok (.iload 5, 2) := dk_21 5 (dk_at dksX5_bury_0 21 rfl rfl)
theorem dX5_bury_23 : decode cX5_bury 23 = .ok (.ineg, 1) := dk_116 (dk_at dksX5_bury_0 23 rfl rfl)
theorem dX5_bury_24 : decode cX5_bury 24 = .ok (.invokestatic 43, 3) := dk_184 0 43 (dk_at dksX5_bury_1 0 rfl rfl)
theorem dX5_bury_27 : decode cX5_bury 27 = .ok (.aload_n 0, 1) := dk_42 (dk_at dksX5_bury_1 3 rfl rfl)
theorem dX5_bury_28 : decode cX5_bury 28 = .ok (.iload_n 1, 1) := dk_27 (dk_at dksX5_bury_1 4 rfl rfl)
theorem dX5_bury_29 : decode cX5_bury 29 = .ok (.invokevirtual 184, 3) := dk_182 0 184 (dk_at dksX5_bury_1 5 rfl rfl)
theorem dX5_bury_32 : decode cX5_bury 32 = .ok (.astore 6, 2) := dk_58 6 (dk_at dksX5_bury_1 8 rfl rfl)
theorem dX5_bury_34 : decode cX5_bury 34 = .ok (.aload_n 0, 1) := dk_42 (dk_at dksX5_bury_1 10 rfl rfl)
theorem dX5_bury_35 : decode cX5_bury 35 = .ok (.iload_n 3, 1) := dk_29 (dk_at dksX5_bury_1 11 rfl rfl)
theorem dX5_bury_36 : decode cX5_bury 36 = .ok (.invokevirtual 156, 3) := dk_182 0 156 (dk_at dksX5_bury_1 12 rfl rfl)
theorem dX5_bury_39 : decode cX5_bury 39 = .ok (.astore 7, 2) := dk_58 7 (dk_at dksX5_bury_1 15 rfl rfl)
theorem dX5_bury_41 : decode cX5_bury 41 = .ok (.aload 7, 2) := dk_25 7 (dk_at dksX5_bury_1 17 rfl rfl)
theorem dX5_bury_43 : decode cX5_bury 43 = .ok (.iload 4, 2) := dk_21 4 (dk_at dksX5_bury_1 19 rfl rfl)
theorem dX5_bury_45 : decode cX5_bury 45 = .ok (.putfield 265, 3) := dk_181 1 9 (dk_at dksX5_bury_1 21 rfl rfl)
theorem dX5_bury_48 : decode cX5_bury 48 = .ok (.aload 7, 2) := dk_25 7 (dk_at dksX5_bury_2 0 rfl rfl)
theorem dX5_bury_50 : decode cX5_bury 50 = .ok (.aload_n 0, 1) := dk_42 (dk_at dksX5_bury_2 2 rfl rfl)
theorem dX5_bury_51 : decode cX5_bury 51 = .ok (.aload 6, 2) := dk_25 6 (dk_at dksX5_bury_2 3 rfl rfl)
theorem dX5_bury_53 : decode cX5_bury 53 = .ok (.iload 4, 2) := dk_21 4 (dk_at dksX5_bury_2 5 rfl rfl)
theorem dX5_bury_55 : decode cX5_bury 55 = .ok (.invokevirtual 281, 3) := dk_182 1 25 (dk_at dksX5_bury_2 7 rfl rfl)
theorem dX5_bury_58 : decode cX5_bury 58 = .ok (.putfield 289, 3) := dk_181 1 33 (dk_at dksX5_bury_2 10 rfl rfl)
theorem dX5_bury_61 : decode cX5_bury 61 = .ok (.aload_n 0, 1) := dk_42 (dk_at dksX5_bury_2 13 rfl rfl)
theorem dX5_bury_62 : decode cX5_bury 62 = .ok (.aload_n 0, 1) := dk_42 (dk_at dksX5_bury_2 14 rfl rfl)
theorem dX5_bury_63 : decode cX5_bury 63 = .ok (.aload 6, 2) := dk_25 6 (dk_at dksX5_bury_2 15 rfl rfl)
theorem dX5_bury_65 : decode cX5_bury 65 = .ok (.iload_n 2, 1) := dk_28 (dk_at dksX5_bury_2 17 rfl rfl)
theorem dX5_bury_66 : decode cX5_bury 66 = .ok (.aload 7, 2) := dk_25 7 (dk_at dksX5_bury_2 18 rfl rfl)
theorem dX5_bury_68 : decode cX5_bury 68 = .ok (.iload 4, 2) := dk_21 4 (dk_at dksX5_bury_2 20 rfl rfl)
theorem dX5_bury_70 : decode cX5_bury 70 = .ok (.invokevirtual 299, 3) := dk_182 1 43 (dk_at dksX5_bury_3 0 rfl rfl)
theorem dX5_bury_73 : decode cX5_bury 73 = .ok (.invokevirtual 204, 3) := dk_182 0 204 (dk_at dksX5_bury_3 3 rfl rfl)
theorem dX5_bury_76 : decode cX5_bury 76 = .ok (.ireturn, 1) := dk_172 (dk_at dksX5_bury_3 6 rfl rfl)
abbrev cX5_why : ByteArray := prog_2_method_34_code
def yX5_why : MethodName := ⟨RX5, "why", "(IIII)I"⟩
def dkwX5_why_1 : List UInt8 := [167, 0, 11, 42, 25, 5, 21, 4, 182, 1, 25, 3, 182, 1, 29, 172]
abbrev dktX5_why_1 : List UInt8 := dkwX5_why_1 ++ []
def dkwX5_why_0 : List UInt8 := [42, 27, 182, 0, 184, 58, 5, 42, 25, 5, 28, 42, 29, 182, 0, 156, 21, 4, 25, 5, 199, 0, 7, 3]
abbrev dktX5_why_0 : List UInt8 := dkwX5_why_0 ++ dktX5_why_1
theorem dksX5_why_0 : cX5_why.data.toList.drop 0 = dktX5_why_0 := by decide +kernel
theorem dksX5_why_1 : cX5_why.data.toList.drop 24 = dktX5_why_1 := dk_seg dksX5_why_0 24 rfl rfl
theorem dX5_why_0 : decode cX5_why 0 = .ok (.aload_n 0, 1) := dk_42 (dk_at dksX5_why_0 0 rfl rfl)
theorem dX5_why_1 : decode cX5_why 1 = .ok (.iload_n 1, 1) := dk_27 (dk_at dksX5_why_0 1 rfl rfl)
theorem dX5_why_2 : decode cX5_why 2 = .ok (.invokevirtual 184, 3) := dk_182 0 184 (dk_at dksX5_why_0 2 rfl rfl)
theorem dX5_why_5 : decode cX5_why 5 = .ok (.astore 5, 2) := dk_58 5 (dk_at dksX5_why_0 5 rfl rfl)
theorem dX5_why_7 : decode cX5_why 7 = .ok (.aload_n 0, 1) := dk_42 (dk_at dksX5_why_0 7 rfl rfl)
theorem dX5_why_8 : decode cX5_why 8 = .ok (.aload 5, 2) := dk_25 5 (dk_at dksX5_why_0 8 rfl rfl)
theorem dX5_why_10 : decode cX5_why 10 = .ok (.iload_n 2, 1) := dk_28 (dk_at dksX5_why_0 10 rfl rfl)
theorem dX5_why_11 : decode cX5_why 11 = .ok (.aload_n 0, 1) := dk_42 (dk_at dksX5_why_0 11 rfl rfl)
theorem dX5_why_12 : decode cX5_why 12 = .ok (.iload_n 3, 1) := dk_29 (dk_at dksX5_why_0 12 rfl rfl)
theorem dX5_why_13 : decode cX5_why 13 = .ok (.invokevirtual 156, 3) := dk_182 0 156 (dk_at dksX5_why_0 13 rfl rfl)
theorem dX5_why_16 : decode cX5_why 16 = .ok (.iload 4, 2) := dk_21 4 (dk_at dksX5_why_0 16 rfl rfl)
theorem dX5_why_18 : decode cX5_why 18 = .ok (.aload 5, 2) := dk_25 5 (dk_at dksX5_why_0 18 rfl rfl)
theorem dX5_why_20 : decode cX5_why 20 = .ok (.ifnonnull 7, 3) := dk_199 0 7 (dk_at dksX5_why_0 20 rfl rfl)
theorem dX5_why_23 : decode cX5_why 23 = .ok (.iconst 0, 1) := dk_3 (dk_at dksX5_why_0 23 rfl rfl)
theorem dX5_why_24 : decode cX5_why 24 = .ok (.goto 11, 3) := dk_167 0 11 (dk_at dksX5_why_1 0 rfl rfl)
theorem dX5_why_27 : decode cX5_why 27 = .ok (.aload_n 0, 1) := dk_42 (dk_at dksX5_why_1 3 rfl rfl)
theorem dX5_why_28 : decode cX5_why 28 = .ok (.aload 5, 2) := dk_25 5 (dk_at dksX5_why_1 4 rfl rfl)
theorem dX5_why_30 : decode cX5_why 30 = .ok (.iload 4, 2) := dk_21 4 (dk_at dksX5_why_1 6 rfl rfl)
theorem dX5_why_32 : decode cX5_why 32 = .ok (.invokevirtual 281, 3) := dk_182 1 25 (dk_at dksX5_why_1 8 rfl rfl)
theorem dX5_why_35 : decode cX5_why 35 = .ok (.iconst 0, 1) := dk_3 (dk_at dksX5_why_1 11 rfl rfl)
theorem dX5_why_36 : decode cX5_why 36 = .ok (.invokevirtual 285, 3) := dk_182 1 29 (dk_at dksX5_why_1 12 rfl rfl)
theorem dX5_why_39 : decode cX5_why 39 = .ok (.ireturn, 1) := dk_172 (dk_at dksX5_why_1 15 rfl rfl)
abbrev cX5_endOf : ByteArray := prog_2_method_33_code
def yX5_endOf : MethodName := ⟨RX5, "endOf", "(LChurchyardBook$Grave;I)I"⟩
def dkwX5_endOf_0 : List UInt8 := [42, 180, 0, 149, 17, 1, 109, 43, 28, 182, 1, 22, 104, 96, 172]
abbrev dktX5_endOf_0 : List UInt8 := dkwX5_endOf_0 ++ []
theorem dksX5_endOf_0 : cX5_endOf.data.toList.drop 0 = dktX5_endOf_0 := by decide +kernel
theorem dX5_endOf_0 : decode cX5_endOf 0 = .ok (.aload_n 0, 1) := dk_42 (dk_at dksX5_endOf_0 0 rfl rfl)
theorem dX5_endOf_1 : decode cX5_endOf 1 = .ok (.getfield 149, 3) := dk_180 0 149 (dk_at dksX5_endOf_0 1 rfl rfl)
theorem dX5_endOf_4 : decode cX5_endOf 4 = .ok (.sipush 365, 3) := dk_17 1 109 (dk_at dksX5_endOf_0 4 rfl rfl)
theorem dX5_endOf_7 : decode cX5_endOf 7 = .ok (.aload_n 1, 1) := dk_43 (dk_at dksX5_endOf_0 7 rfl rfl)
theorem dX5_endOf_8 : decode cX5_endOf 8 = .ok (.iload_n 2, 1) := dk_28 (dk_at dksX5_endOf_0 8 rfl rfl)
theorem dX5_endOf_9 : decode cX5_endOf 9 = .ok (.invokevirtual 278, 3) := dk_182 1 22 (dk_at dksX5_endOf_0 9 rfl rfl)
theorem dX5_endOf_12 : decode cX5_endOf 12 = .ok (.imul, 1) := dk_104 (dk_at dksX5_endOf_0 12 rfl rfl)
theorem dX5_endOf_13 : decode cX5_endOf 13 = .ok (.iadd, 1) := dk_96 (dk_at dksX5_endOf_0 13 rfl rfl)
theorem dX5_endOf_14 : decode cX5_endOf 14 = .ok (.ireturn, 1) := dk_172 (dk_at dksX5_endOf_0 14 rfl rfl)
abbrev cX5_why_2 : ByteArray := prog_2_method_32_code
def yX5_why_2 : MethodName := ⟨RX5, "why", "(LChurchyardBook$Grave;ILChurchyardBook$Person;IIZ)I"⟩
def dkwX5_why_2_6 : List UInt8 := [3, 172]
abbrev dktX5_why_2_6 : List UInt8 := dkwX5_why_2_6 ++ []
def dkwX5_why_2_5 : List UInt8 := [16, 6, 172, 21, 7, 153, 0, 19, 43, 21, 5, 182, 1, 19, 16, 20, 164, 0, 8, 16, 7, 167, 0, 4]
abbrev dktX5_why_2_5 : List UInt8 := dkwX5_why_2_5 ++ dktX5_why_2_6
def dkwX5_why_2_4 : List UInt8 := [180, 0, 149, 182, 1, 12, 156, 0, 5, 8, 172, 21, 7, 153, 0, 14, 43, 45, 182, 1, 16, 154, 0, 6]
abbrev dktX5_why_2_4 : List UInt8 := dkwX5_why_2_4 ++ dktX5_why_2_5
def dkwX5_why_2_3 : List UInt8 := [182, 0, 191, 54, 7, 21, 7, 153, 0, 13, 43, 180, 0, 188, 4, 159, 0, 5, 7, 172, 43, 28, 42]
abbrev dktX5_why_2_3 : List UInt8 := dkwX5_why_2_3 ++ dktX5_why_2_4
def dkwX5_why_2_2 : List UInt8 := [21, 6, 154, 0, 20, 45, 180, 0, 177, 153, 0, 11, 45, 180, 1, 9, 2, 159, 0, 5, 6, 172, 43]
abbrev dktX5_why_2_2 : List UInt8 := dkwX5_why_2_2 ++ dktX5_why_2_3
def dkwX5_why_2_1 : List UInt8 := [21, 4, 155, 0, 9, 21, 4, 5, 164, 0, 5, 4, 172, 43, 21, 4, 182, 1, 6, 154, 0, 5, 5, 172]
abbrev dktX5_why_2_1 : List UInt8 := dkwX5_why_2_1 ++ dktX5_why_2_2
def dkwX5_why_2_0 : List UInt8 := [43, 198, 0, 34, 43, 180, 0, 188, 7, 159, 0, 26, 43, 28, 182, 1, 2, 153, 0, 18, 45, 198, 0, 14]
abbrev dktX5_why_2_0 : List UInt8 := dkwX5_why_2_0 ++ dktX5_why_2_1
theorem dksX5_why_2_0 : cX5_why_2.data.toList.drop 0 = dktX5_why_2_0 := by decide +kernel
theorem dksX5_why_2_1 : cX5_why_2.data.toList.drop 24 = dktX5_why_2_1 := dk_seg dksX5_why_2_0 24 rfl rfl
theorem dksX5_why_2_2 : cX5_why_2.data.toList.drop 48 = dktX5_why_2_2 := dk_seg dksX5_why_2_1 24 rfl rfl
theorem dksX5_why_2_3 : cX5_why_2.data.toList.drop 71 = dktX5_why_2_3 := dk_seg dksX5_why_2_2 23 rfl rfl
theorem dksX5_why_2_4 : cX5_why_2.data.toList.drop 94 = dktX5_why_2_4 := dk_seg dksX5_why_2_3 23 rfl rfl
theorem dksX5_why_2_5 : cX5_why_2.data.toList.drop 118 = dktX5_why_2_5 := dk_seg dksX5_why_2_4 24 rfl rfl
theorem dksX5_why_2_6 : cX5_why_2.data.toList.drop 142 = dktX5_why_2_6 := dk_seg dksX5_why_2_5 24 rfl rfl
theorem dX5_why_2_0 : decode cX5_why_2 0 = .ok (.aload_n 1, 1) := dk_43 (dk_at dksX5_why_2_0 0 rfl rfl)
theorem dX5_why_2_1 : decode cX5_why_2 1 = .ok (.ifnull 34, 3) := dk_198 0 34 (dk_at dksX5_why_2_0 1 rfl rfl)
theorem dX5_why_2_4 : decode cX5_why_2 4 = .ok (.aload_n 1, 1) := dk_43 (dk_at dksX5_why_2_0 4 rfl rfl)
theorem dX5_why_2_5 : decode cX5_why_2 5 = .ok (.getfield 188, 3) := dk_180 0 188 (dk_at dksX5_why_2_0 5 rfl rfl)
theorem dX5_why_2_8 : decode cX5_why_2 8 = .ok (.iconst 4, 1) := dk_7 (dk_at dksX5_why_2_0 8 rfl rfl)
theorem dX5_why_2_9 : decode cX5_why_2 9 = .ok (.if_icmp .eq 26, 3) := dk_159 0 26 (dk_at dksX5_why_2_0 9 rfl rfl)
theorem dX5_why_2_12 : decode cX5_why_2 12 = .ok (.aload_n 1, 1) := dk_43 (dk_at dksX5_why_2_0 12 rfl rfl)
theorem dX5_why_2_13 : decode cX5_why_2 13 = .ok (.iload_n 2, 1) := dk_28 (dk_at dksX5_why_2_0 13 rfl rfl)
theorem dX5_why_2_14 : decode cX5_why_2 14 = .ok (.invokevirtual 258, 3) := dk_182 1 2 (dk_at dksX5_why_2_0 14 rfl rfl)
theorem dX5_why_2_17 : decode cX5_why_2 17 = .ok (.ifCond .eq 18, 3) := dk_153 0 18 (dk_at dksX5_why_2_0 17 rfl rfl)
theorem dX5_why_2_20 : decode cX5_why_2 20 = .ok (.aload_n 3, 1) := dk_45 (dk_at dksX5_why_2_0 20 rfl rfl)
theorem dX5_why_2_21 : decode cX5_why_2 21 = .ok (.ifnull 14, 3) := dk_198 0 14 (dk_at dksX5_why_2_0 21 rfl rfl)
theorem dX5_why_2_24 : decode cX5_why_2 24 = .ok (.iload 4, 2) := dk_21 4 (dk_at dksX5_why_2_1 0 rfl rfl)
theorem dX5_why_2_26 : decode cX5_why_2 26 = .ok (.ifCond .lt 9, 3) := dk_155 0 9 (dk_at dksX5_why_2_1 2 rfl rfl)
theorem dX5_why_2_29 : decode cX5_why_2 29 = .ok (.iload 4, 2) := dk_21 4 (dk_at dksX5_why_2_1 5 rfl rfl)
theorem dX5_why_2_31 : decode cX5_why_2 31 = .ok (.iconst 2, 1) := dk_5 (dk_at dksX5_why_2_1 7 rfl rfl)
theorem dX5_why_2_32 : decode cX5_why_2 32 = .ok (.if_icmp .le 5, 3) := dk_164 0 5 (dk_at dksX5_why_2_1 8 rfl rfl)
theorem dX5_why_2_35 : decode cX5_why_2 35 = .ok (.iconst 1, 1) := dk_4 (dk_at dksX5_why_2_1 11 rfl rfl)
theorem dX5_why_2_36 : decode cX5_why_2 36 = .ok (.ireturn, 1) := dk_172 (dk_at dksX5_why_2_1 12 rfl rfl)
theorem dX5_why_2_37 : decode cX5_why_2 37 = .ok (.aload_n 1, 1) := dk_43 (dk_at dksX5_why_2_1 13 rfl rfl)
theorem dX5_why_2_38 : decode cX5_why_2 38 = .ok (.iload 4, 2) := dk_21 4 (dk_at dksX5_why_2_1 14 rfl rfl)
theorem dX5_why_2_40 : decode cX5_why_2 40 = .ok (.invokevirtual 262, 3) := dk_182 1 6 (dk_at dksX5_why_2_1 16 rfl rfl)
theorem dX5_why_2_43 : decode cX5_why_2 43 = .ok (.ifCond .ne 5, 3) := dk_154 0 5 (dk_at dksX5_why_2_1 19 rfl rfl)
theorem dX5_why_2_46 : decode cX5_why_2 46 = .ok (.iconst 2, 1) := dk_5 (dk_at dksX5_why_2_1 22 rfl rfl)
theorem dX5_why_2_47 : decode cX5_why_2 47 = .ok (.ireturn, 1) := dk_172 (dk_at dksX5_why_2_1 23 rfl rfl)
theorem dX5_why_2_48 : decode cX5_why_2 48 = .ok (.iload 6, 2) := dk_21 6 (dk_at dksX5_why_2_2 0 rfl rfl)
theorem dX5_why_2_50 : decode cX5_why_2 50 = .ok (.ifCond .ne 20, 3) := dk_154 0 20 (dk_at dksX5_why_2_2 2 rfl rfl)
theorem dX5_why_2_53 : decode cX5_why_2 53 = .ok (.aload_n 3, 1) := dk_45 (dk_at dksX5_why_2_2 5 rfl rfl)
theorem dX5_why_2_54 : decode cX5_why_2 54 = .ok (.getfield 177, 3) := dk_180 0 177 (dk_at dksX5_why_2_2 6 rfl rfl)
theorem dX5_why_2_57 : decode cX5_why_2 57 = .ok (.ifCond .eq 11, 3) := dk_153 0 11 (dk_at dksX5_why_2_2 9 rfl rfl)
theorem dX5_why_2_60 : decode cX5_why_2 60 = .ok (.aload_n 3, 1) := dk_45 (dk_at dksX5_why_2_2 12 rfl rfl)
theorem dX5_why_2_61 : decode cX5_why_2 61 = .ok (.getfield 265, 3) := dk_180 1 9 (dk_at dksX5_why_2_2 13 rfl rfl)
theorem dX5_why_2_64 : decode cX5_why_2 64 = .ok (.iconst (-1), 1) := dk_2 (dk_at dksX5_why_2_2 16 rfl rfl)
theorem dX5_why_2_65 : decode cX5_why_2 65 = .ok (.if_icmp .eq 5, 3) := dk_159 0 5 (dk_at dksX5_why_2_2 17 rfl rfl)
theorem dX5_why_2_68 : decode cX5_why_2 68 = .ok (.iconst 3, 1) := dk_6 (dk_at dksX5_why_2_2 20 rfl rfl)
theorem dX5_why_2_69 : decode cX5_why_2 69 = .ok (.ireturn, 1) := dk_172 (dk_at dksX5_why_2_2 21 rfl rfl)
theorem dX5_why_2_70 : decode cX5_why_2 70 = .ok (.aload_n 1, 1) := dk_43 (dk_at dksX5_why_2_2 22 rfl rfl)
theorem dX5_why_2_71 : decode cX5_why_2 71 = .ok (.invokevirtual 191, 3) := dk_182 0 191 (dk_at dksX5_why_2_3 0 rfl rfl)
theorem dX5_why_2_74 : decode cX5_why_2 74 = .ok (.istore 7, 2) := dk_54 7 (dk_at dksX5_why_2_3 3 rfl rfl)
theorem dX5_why_2_76 : decode cX5_why_2 76 = .ok (.iload 7, 2) := dk_21 7 (dk_at dksX5_why_2_3 5 rfl rfl)
theorem dX5_why_2_78 : decode cX5_why_2 78 = .ok (.ifCond .eq 13, 3) := dk_153 0 13 (dk_at dksX5_why_2_3 7 rfl rfl)
theorem dX5_why_2_81 : decode cX5_why_2 81 = .ok (.aload_n 1, 1) := dk_43 (dk_at dksX5_why_2_3 10 rfl rfl)
theorem dX5_why_2_82 : decode cX5_why_2 82 = .ok (.getfield 188, 3) := dk_180 0 188 (dk_at dksX5_why_2_3 11 rfl rfl)
theorem dX5_why_2_85 : decode cX5_why_2 85 = .ok (.iconst 1, 1) := dk_4 (dk_at dksX5_why_2_3 14 rfl rfl)
theorem dX5_why_2_86 : decode cX5_why_2 86 = .ok (.if_icmp .eq 5, 3) := dk_159 0 5 (dk_at dksX5_why_2_3 15 rfl rfl)
theorem dX5_why_2_89 : decode cX5_why_2 89 = .ok (.iconst 4, 1) := dk_7 (dk_at dksX5_why_2_3 18 rfl rfl)
theorem dX5_why_2_90 : decode cX5_why_2 90 = .ok (.ireturn, 1) := dk_172 (dk_at dksX5_why_2_3 19 rfl rfl)
theorem dX5_why_2_91 : decode cX5_why_2 91 = .ok (.aload_n 1, 1) := dk_43 (dk_at dksX5_why_2_3 20 rfl rfl)
theorem dX5_why_2_92 : decode cX5_why_2 92 = .ok (.iload_n 2, 1) := dk_28 (dk_at dksX5_why_2_3 21 rfl rfl)
theorem dX5_why_2_93 : decode cX5_why_2 93 = .ok (.aload_n 0, 1) := dk_42 (dk_at dksX5_why_2_3 22 rfl rfl)
theorem dX5_why_2_94 : decode cX5_why_2 94 = .ok (.getfield 149, 3) := dk_180 0 149 (dk_at dksX5_why_2_4 0 rfl rfl)
theorem dX5_why_2_97 : decode cX5_why_2 97 = .ok (.invokevirtual 268, 3) := dk_182 1 12 (dk_at dksX5_why_2_4 3 rfl rfl)
theorem dX5_why_2_100 : decode cX5_why_2 100 = .ok (.ifCond .ge 5, 3) := dk_156 0 5 (dk_at dksX5_why_2_4 6 rfl rfl)
theorem dX5_why_2_103 : decode cX5_why_2 103 = .ok (.iconst 5, 1) := dk_8 (dk_at dksX5_why_2_4 9 rfl rfl)
theorem dX5_why_2_104 : decode cX5_why_2 104 = .ok (.ireturn, 1) := dk_172 (dk_at dksX5_why_2_4 10 rfl rfl)
theorem dX5_why_2_105 : decode cX5_why_2 105 = .ok (.iload 7, 2) := dk_21 7 (dk_at dksX5_why_2_4 11 rfl rfl)
theorem dX5_why_2_107 : decode cX5_why_2 107 = .ok (.ifCond .eq 14, 3) := dk_153 0 14 (dk_at dksX5_why_2_4 13 rfl rfl)
theorem dX5_why_2_110 : decode cX5_why_2 110 = .ok (.aload_n 1, 1) := dk_43 (dk_at dksX5_why_2_4 16 rfl rfl)
theorem dX5_why_2_111 : decode cX5_why_2 111 = .ok (.aload_n 3, 1) := dk_45 (dk_at dksX5_why_2_4 17 rfl rfl)
theorem dX5_why_2_112 : decode cX5_why_2 112 = .ok (.invokevirtual 272, 3) := dk_182 1 16 (dk_at dksX5_why_2_4 18 rfl rfl)
theorem dX5_why_2_115 : decode cX5_why_2 115 = .ok (.ifCond .ne 6, 3) := dk_154 0 6 (dk_at dksX5_why_2_4 21 rfl rfl)
theorem dX5_why_2_118 : decode cX5_why_2 118 = .ok (.bipush 6, 2) := dk_16 6 (dk_at dksX5_why_2_5 0 rfl rfl)
theorem dX5_why_2_120 : decode cX5_why_2 120 = .ok (.ireturn, 1) := dk_172 (dk_at dksX5_why_2_5 2 rfl rfl)
theorem dX5_why_2_121 : decode cX5_why_2 121 = .ok (.iload 7, 2) := dk_21 7 (dk_at dksX5_why_2_5 3 rfl rfl)
theorem dX5_why_2_123 : decode cX5_why_2 123 = .ok (.ifCond .eq 19, 3) := dk_153 0 19 (dk_at dksX5_why_2_5 5 rfl rfl)
theorem dX5_why_2_126 : decode cX5_why_2 126 = .ok (.aload_n 1, 1) := dk_43 (dk_at dksX5_why_2_5 8 rfl rfl)
theorem dX5_why_2_127 : decode cX5_why_2 127 = .ok (.iload 5, 2) := dk_21 5 (dk_at dksX5_why_2_5 9 rfl rfl)
theorem dX5_why_2_129 : decode cX5_why_2 129 = .ok (.invokevirtual 275, 3) := dk_182 1 19 (dk_at dksX5_why_2_5 11 rfl rfl)
theorem dX5_why_2_132 : decode cX5_why_2 132 = .ok (.bipush 20, 2) := dk_16 20 (dk_at dksX5_why_2_5 14 rfl rfl)
theorem dX5_why_2_134 : decode cX5_why_2 134 = .ok (.if_icmp .le 8, 3) := dk_164 0 8 (dk_at dksX5_why_2_5 16 rfl rfl)
theorem dX5_why_2_137 : decode cX5_why_2 137 = .ok (.bipush 7, 2) := dk_16 7 (dk_at dksX5_why_2_5 19 rfl rfl)
theorem dX5_why_2_139 : decode cX5_why_2 139 = .ok (.goto 4, 3) := dk_167 0 4 (dk_at dksX5_why_2_5 21 rfl rfl)
theorem dX5_why_2_142 : decode cX5_why_2 142 = .ok (.iconst 0, 1) := dk_3 (dk_at dksX5_why_2_6 0 rfl rfl)
theorem dX5_why_2_143 : decode cX5_why_2 143 = .ok (.ireturn, 1) := dk_172 (dk_at dksX5_why_2_6 1 rfl rfl)
abbrev cX5_laid : ByteArray := prog_2_method_35_code
def yX5_laid : MethodName := ⟨RX5, "laid", "(LChurchyardBook$Grave;ILChurchyardBook$Person;I)I"⟩
def dkwX5_laid_4 : List UInt8 := [21, 5, 43, 182, 0, 201, 104, 96, 172]
abbrev dktX5_laid_4 : List UInt8 := dkwX5_laid_4 ++ []
def dkwX5_laid_3 : List UInt8 := [160, 0, 8, 16, 25, 167, 0, 5, 16, 30, 21, 6, 4, 160, 0, 8, 16, 20, 167, 0, 4, 3, 96]
abbrev dktX5_laid_3 : List UInt8 := dkwX5_laid_3 ++ dktX5_laid_4
def dkwX5_laid_2 : List UInt8 := [45, 28, 21, 6, 42, 180, 0, 149, 182, 1, 36, 21, 4, 154, 0, 8, 16, 60, 167, 0, 16, 21, 4, 4]
abbrev dktX5_laid_2 : List UInt8 := dkwX5_laid_2 ++ dktX5_laid_3
def dkwX5_laid_1 : List UInt8 := [180, 0, 149, 182, 1, 12, 54, 6, 43, 89, 180, 0, 198, 17, 1, 109, 21, 5, 104, 96, 181, 0, 198, 43]
abbrev dktX5_laid_1 : List UInt8 := dkwX5_laid_1 ++ dktX5_laid_2
def dkwX5_laid_0 : List UInt8 := [43, 182, 0, 191, 153, 0, 14, 43, 45, 180, 1, 33, 182, 1, 19, 167, 0, 4, 3, 54, 5, 43, 28, 42]
abbrev dktX5_laid_0 : List UInt8 := dkwX5_laid_0 ++ dktX5_laid_1
theorem dksX5_laid_0 : cX5_laid.data.toList.drop 0 = dktX5_laid_0 := by decide +kernel
theorem dksX5_laid_1 : cX5_laid.data.toList.drop 24 = dktX5_laid_1 := dk_seg dksX5_laid_0 24 rfl rfl
theorem dksX5_laid_2 : cX5_laid.data.toList.drop 48 = dktX5_laid_2 := dk_seg dksX5_laid_1 24 rfl rfl
theorem dksX5_laid_3 : cX5_laid.data.toList.drop 72 = dktX5_laid_3 := dk_seg dksX5_laid_2 24 rfl rfl
theorem dksX5_laid_4 : cX5_laid.data.toList.drop 95 = dktX5_laid_4 := dk_seg dksX5_laid_3 23 rfl rfl
theorem dX5_laid_0 : decode cX5_laid 0 = .ok (.aload_n 1, 1) := dk_43 (dk_at dksX5_laid_0 0 rfl rfl)
theorem dX5_laid_1 : decode cX5_laid 1 = .ok (.invokevirtual 191, 3) := dk_182 0 191 (dk_at dksX5_laid_0 1 rfl rfl)
theorem dX5_laid_4 : decode cX5_laid 4 = .ok (.ifCond .eq 14, 3) := dk_153 0 14 (dk_at dksX5_laid_0 4 rfl rfl)
theorem dX5_laid_7 : decode cX5_laid 7 = .ok (.aload_n 1, 1) := dk_43 (dk_at dksX5_laid_0 7 rfl rfl)
theorem dX5_laid_8 : decode cX5_laid 8 = .ok (.aload_n 3, 1) := dk_45 (dk_at dksX5_laid_0 8 rfl rfl)
theorem dX5_laid_9 : decode cX5_laid 9 = .ok (.getfield 289, 3) := dk_180 1 33 (dk_at dksX5_laid_0 9 rfl rfl)
theorem dX5_laid_12 : decode cX5_laid 12 = .ok (.invokevirtual 275, 3) := dk_182 1 19 (dk_at dksX5_laid_0 12 rfl rfl)
theorem dX5_laid_15 : decode cX5_laid 15 = .ok (.goto 4, 3) := dk_167 0 4 (dk_at dksX5_laid_0 15 rfl rfl)
theorem dX5_laid_18 : decode cX5_laid 18 = .ok (.iconst 0, 1) := dk_3 (dk_at dksX5_laid_0 18 rfl rfl)
theorem dX5_laid_19 : decode cX5_laid 19 = .ok (.istore 5, 2) := dk_54 5 (dk_at dksX5_laid_0 19 rfl rfl)
theorem dX5_laid_21 : decode cX5_laid 21 = .ok (.aload_n 1, 1) := dk_43 (dk_at dksX5_laid_0 21 rfl rfl)
theorem dX5_laid_22 : decode cX5_laid 22 = .ok (.iload_n 2, 1) := dk_28 (dk_at dksX5_laid_0 22 rfl rfl)
theorem dX5_laid_23 : decode cX5_laid 23 = .ok (.aload_n 0, 1) := dk_42 (dk_at dksX5_laid_0 23 rfl rfl)
theorem dX5_laid_24 : decode cX5_laid 24 = .ok (.getfield 149, 3) := dk_180 0 149 (dk_at dksX5_laid_1 0 rfl rfl)
theorem dX5_laid_27 : decode cX5_laid 27 = .ok (.invokevirtual 268, 3) := dk_182 1 12 (dk_at dksX5_laid_1 3 rfl rfl)
theorem dX5_laid_30 : decode cX5_laid 30 = .ok (.istore 6, 2) := dk_54 6 (dk_at dksX5_laid_1 6 rfl rfl)
theorem dX5_laid_32 : decode cX5_laid 32 = .ok (.aload_n 1, 1) := dk_43 (dk_at dksX5_laid_1 8 rfl rfl)
theorem dX5_laid_33 : decode cX5_laid 33 = .ok (.dup, 1) := dk_89 (dk_at dksX5_laid_1 9 rfl rfl)
theorem dX5_laid_34 : decode cX5_laid 34 = .ok (.getfield 198, 3) := dk_180 0 198 (dk_at dksX5_laid_1 10 rfl rfl)
theorem dX5_laid_37 : decode cX5_laid 37 = .ok (.sipush 365, 3) := dk_17 1 109 (dk_at dksX5_laid_1 13 rfl rfl)
theorem dX5_laid_40 : decode cX5_laid 40 = .ok (.iload 5, 2) := dk_21 5 (dk_at dksX5_laid_1 16 rfl rfl)
theorem dX5_laid_42 : decode cX5_laid 42 = .ok (.imul, 1) := dk_104 (dk_at dksX5_laid_1 18 rfl rfl)
theorem dX5_laid_43 : decode cX5_laid 43 = .ok (.iadd, 1) := dk_96 (dk_at dksX5_laid_1 19 rfl rfl)
theorem dX5_laid_44 : decode cX5_laid 44 = .ok (.putfield 198, 3) := dk_181 0 198 (dk_at dksX5_laid_1 20 rfl rfl)
theorem dX5_laid_47 : decode cX5_laid 47 = .ok (.aload_n 1, 1) := dk_43 (dk_at dksX5_laid_1 23 rfl rfl)
theorem dX5_laid_48 : decode cX5_laid 48 = .ok (.aload_n 3, 1) := dk_45 (dk_at dksX5_laid_2 0 rfl rfl)
theorem dX5_laid_49 : decode cX5_laid 49 = .ok (.iload_n 2, 1) := dk_28 (dk_at dksX5_laid_2 1 rfl rfl)
theorem dX5_laid_50 : decode cX5_laid 50 = .ok (.iload 6, 2) := dk_21 6 (dk_at dksX5_laid_2 2 rfl rfl)
theorem dX5_laid_52 : decode cX5_laid 52 = .ok (.aload_n 0, 1) := dk_42 (dk_at dksX5_laid_2 4 rfl rfl)
theorem dX5_laid_53 : decode cX5_laid 53 = .ok (.getfield 149, 3) := dk_180 0 149 (dk_at dksX5_laid_2 5 rfl rfl)
theorem dX5_laid_56 : decode cX5_laid 56 = .ok (.invokevirtual 292, 3) := dk_182 1 36 (dk_at dksX5_laid_2 8 rfl rfl)
theorem dX5_laid_59 : decode cX5_laid 59 = .ok (.iload 4, 2) := dk_21 4 (dk_at dksX5_laid_2 11 rfl rfl)
theorem dX5_laid_61 : decode cX5_laid 61 = .ok (.ifCond .ne 8, 3) := dk_154 0 8 (dk_at dksX5_laid_2 13 rfl rfl)
theorem dX5_laid_64 : decode cX5_laid 64 = .ok (.bipush 60, 2) := dk_16 60 (dk_at dksX5_laid_2 16 rfl rfl)
theorem dX5_laid_66 : decode cX5_laid 66 = .ok (.goto 16, 3) := dk_167 0 16 (dk_at dksX5_laid_2 18 rfl rfl)
theorem dX5_laid_69 : decode cX5_laid 69 = .ok (.iload 4, 2) := dk_21 4 (dk_at dksX5_laid_2 21 rfl rfl)
theorem dX5_laid_71 : decode cX5_laid 71 = .ok (.iconst 1, 1) := dk_4 (dk_at dksX5_laid_2 23 rfl rfl)
theorem dX5_laid_72 : decode cX5_laid 72 = .ok (.if_icmp .ne 8, 3) := dk_160 0 8 (dk_at dksX5_laid_3 0 rfl rfl)
theorem dX5_laid_75 : decode cX5_laid 75 = .ok (.bipush 25, 2) := dk_16 25 (dk_at dksX5_laid_3 3 rfl rfl)
theorem dX5_laid_77 : decode cX5_laid 77 = .ok (.goto 5, 3) := dk_167 0 5 (dk_at dksX5_laid_3 5 rfl rfl)
theorem dX5_laid_80 : decode cX5_laid 80 = .ok (.bipush 30, 2) := dk_16 30 (dk_at dksX5_laid_3 8 rfl rfl)
theorem dX5_laid_82 : decode cX5_laid 82 = .ok (.iload 6, 2) := dk_21 6 (dk_at dksX5_laid_3 10 rfl rfl)
theorem dX5_laid_84 : decode cX5_laid 84 = .ok (.iconst 1, 1) := dk_4 (dk_at dksX5_laid_3 12 rfl rfl)
theorem dX5_laid_85 : decode cX5_laid 85 = .ok (.if_icmp .ne 8, 3) := dk_160 0 8 (dk_at dksX5_laid_3 13 rfl rfl)
theorem dX5_laid_88 : decode cX5_laid 88 = .ok (.bipush 20, 2) := dk_16 20 (dk_at dksX5_laid_3 16 rfl rfl)
theorem dX5_laid_90 : decode cX5_laid 90 = .ok (.goto 4, 3) := dk_167 0 4 (dk_at dksX5_laid_3 18 rfl rfl)
theorem dX5_laid_93 : decode cX5_laid 93 = .ok (.iconst 0, 1) := dk_3 (dk_at dksX5_laid_3 21 rfl rfl)
theorem dX5_laid_94 : decode cX5_laid 94 = .ok (.iadd, 1) := dk_96 (dk_at dksX5_laid_3 22 rfl rfl)
theorem dX5_laid_95 : decode cX5_laid 95 = .ok (.iload 5, 2) := dk_21 5 (dk_at dksX5_laid_4 0 rfl rfl)
theorem dX5_laid_97 : decode cX5_laid 97 = .ok (.aload_n 1, 1) := dk_43 (dk_at dksX5_laid_4 2 rfl rfl)
theorem dX5_laid_98 : decode cX5_laid 98 = .ok (.invokevirtual 201, 3) := dk_182 0 201 (dk_at dksX5_laid_4 3 rfl rfl)
theorem dX5_laid_101 : decode cX5_laid 101 = .ok (.imul, 1) := dk_104 (dk_at dksX5_laid_4 6 rfl rfl)
theorem dX5_laid_102 : decode cX5_laid 102 = .ok (.iadd, 1) := dk_96 (dk_at dksX5_laid_4 7 rfl rfl)
theorem dX5_laid_103 : decode cX5_laid 103 = .ok (.ireturn, 1) := dk_172 (dk_at dksX5_laid_4 8 rfl rfl)
abbrev cX5_move : ByteArray := prog_2_method_37_code
def yX5_move : MethodName := ⟨RX5, "move", "(IIII)I"⟩
def dkwX5_move_13 : List UInt8 := [182, 1, 43, 96, 182, 0, 204, 172]
abbrev dktX5_move_13 : List UInt8 := dkwX5_move_13 ++ []
def dkwX5_move_12 : List UInt8 := [154, 0, 9, 25, 8, 5, 181, 1, 53, 42, 16, 90, 42, 25, 6, 29, 25, 5, 25, 5, 180, 1, 9]
abbrev dktX5_move_12 : List UInt8 := dkwX5_move_12 ++ dktX5_move_13
def dkwX5_move_11 : List UInt8 := [184, 0, 43, 25, 7, 25, 5, 182, 1, 63, 25, 8, 198, 0, 21, 25, 8, 42, 180, 0, 149, 182, 1, 60]
abbrev dktX5_move_11 : List UInt8 := dkwX5_move_11 ++ dktX5_move_12
def dkwX5_move_10 : List UInt8 := [25, 5, 180, 1, 33, 4, 182, 1, 29, 54, 9, 21, 9, 154, 0, 7, 4, 167, 0, 4, 3, 21, 9, 116]
abbrev dktX5_move_10 : List UInt8 := dkwX5_move_10 ++ dktX5_move_11
def dkwX5_move_9 : List UInt8 := [160, 0, 7, 4, 167, 0, 4, 3, 16, 248, 184, 0, 43, 42, 25, 6, 29, 25, 5, 25, 5, 180, 1, 9]
abbrev dktX5_move_9 : List UInt8 := dkwX5_move_9 ++ dktX5_move_10
def dkwX5_move_8 : List UInt8 := [198, 0, 25, 25, 8, 42, 180, 0, 149, 182, 1, 60, 153, 0, 13, 25, 8, 180, 0, 253, 21, 4]
abbrev dktX5_move_8 : List UInt8 := dkwX5_move_8 ++ dktX5_move_9
def dkwX5_move_7 : List UInt8 := [4, 160, 0, 17, 25, 7, 25, 5, 180, 1, 50, 3, 182, 1, 56, 167, 0, 4, 1, 58, 8, 25, 8]
abbrev dktX5_move_7 : List UInt8 := dkwX5_move_7 ++ dktX5_move_8
def dkwX5_move_6 : List UInt8 := [25, 7, 180, 0, 188, 4, 160, 0, 7, 4, 167, 0, 4, 3, 16, 252, 184, 0, 43, 25, 5, 180, 1, 53]
abbrev dktX5_move_6 : List UInt8 := dkwX5_move_6 ++ dktX5_move_7
def dkwX5_move_5 : List UInt8 := [182, 0, 191, 153, 0, 7, 4, 167, 0, 4, 3, 16, 253, 184, 0, 43, 25, 5, 180, 1, 47, 58, 7]
abbrev dktX5_move_5 : List UInt8 := dkwX5_move_5 ++ dktX5_move_6
def dkwX5_move_4 : List UInt8 := [25, 5, 180, 1, 47, 198, 0, 27, 25, 5, 180, 1, 53, 5, 162, 0, 18, 25, 5, 180, 1, 47]
abbrev dktX5_move_4 : List UInt8 := dkwX5_move_4 ++ dktX5_move_5
def dkwX5_move_3 : List UInt8 := [25, 6, 166, 0, 12, 25, 5, 180, 1, 50, 29, 159, 0, 7, 4, 167, 0, 4, 3, 2, 184, 0, 43]
abbrev dktX5_move_3 : List UInt8 := dkwX5_move_3 ++ dktX5_move_4
def dkwX5_move_2 : List UInt8 := [42, 21, 4, 182, 0, 156, 198, 0, 7, 4, 167, 0, 4, 3, 2, 184, 0, 43, 25, 5, 180, 1, 47]
abbrev dktX5_move_2 : List UInt8 := dkwX5_move_2 ++ dktX5_move_3
def dkwX5_move_1 : List UInt8 := [25, 6, 180, 0, 188, 7, 159, 0, 31, 25, 6, 29, 182, 1, 2, 153, 0, 22, 21, 4, 2, 159, 0, 12]
abbrev dktX5_move_1 : List UInt8 := dkwX5_move_1 ++ dktX5_move_2
def dkwX5_move_0 : List UInt8 := [42, 27, 182, 0, 156, 58, 5, 42, 28, 182, 0, 184, 58, 6, 25, 5, 198, 0, 45, 25, 6, 198, 0, 40]
abbrev dktX5_move_0 : List UInt8 := dkwX5_move_0 ++ dktX5_move_1
theorem dksX5_move_0 : cX5_move.data.toList.drop 0 = dktX5_move_0 := by decide +kernel
theorem dksX5_move_1 : cX5_move.data.toList.drop 24 = dktX5_move_1 := dk_seg dksX5_move_0 24 rfl rfl
theorem dksX5_move_2 : cX5_move.data.toList.drop 48 = dktX5_move_2 := dk_seg dksX5_move_1 24 rfl rfl
theorem dksX5_move_3 : cX5_move.data.toList.drop 71 = dktX5_move_3 := dk_seg dksX5_move_2 23 rfl rfl
theorem dksX5_move_4 : cX5_move.data.toList.drop 94 = dktX5_move_4 := dk_seg dksX5_move_3 23 rfl rfl
theorem dksX5_move_5 : cX5_move.data.toList.drop 116 = dktX5_move_5 := dk_seg dksX5_move_4 22 rfl rfl
theorem dksX5_move_6 : cX5_move.data.toList.drop 139 = dktX5_move_6 := dk_seg dksX5_move_5 23 rfl rfl
theorem dksX5_move_7 : cX5_move.data.toList.drop 163 = dktX5_move_7 := dk_seg dksX5_move_6 24 rfl rfl
theorem dksX5_move_8 : cX5_move.data.toList.drop 186 = dktX5_move_8 := dk_seg dksX5_move_7 23 rfl rfl
theorem dksX5_move_9 : cX5_move.data.toList.drop 208 = dktX5_move_9 := dk_seg dksX5_move_8 22 rfl rfl
theorem dksX5_move_10 : cX5_move.data.toList.drop 232 = dktX5_move_10 := dk_seg dksX5_move_9 24 rfl rfl
theorem dksX5_move_11 : cX5_move.data.toList.drop 256 = dktX5_move_11 := dk_seg dksX5_move_10 24 rfl rfl
theorem dksX5_move_12 : cX5_move.data.toList.drop 280 = dktX5_move_12 := dk_seg dksX5_move_11 24 rfl rfl
theorem dksX5_move_13 : cX5_move.data.toList.drop 303 = dktX5_move_13 := dk_seg dksX5_move_12 23 rfl rfl
theorem dX5_move_0 : decode cX5_move 0 = .ok (.aload_n 0, 1) := dk_42 (dk_at dksX5_move_0 0 rfl rfl)
theorem dX5_move_1 : decode cX5_move 1 = .ok (.iload_n 1, 1) := dk_27 (dk_at dksX5_move_0 1 rfl rfl)
theorem dX5_move_2 : decode cX5_move 2 = .ok (.invokevirtual 156, 3) := dk_182 0 156 (dk_at dksX5_move_0 2 rfl rfl)
theorem dX5_move_5 : decode cX5_move 5 = .ok (.astore 5, 2) := dk_58 5 (dk_at dksX5_move_0 5 rfl rfl)
theorem dX5_move_7 : decode cX5_move 7 = .ok (.aload_n 0, 1) := dk_42 (dk_at dksX5_move_0 7 rfl rfl)
theorem dX5_move_8 : decode cX5_move 8 = .ok (.iload_n 2, 1) := dk_28 (dk_at dksX5_move_0 8 rfl rfl)
theorem dX5_move_9 : decode cX5_move 9 = .ok (.invokevirtual 184, 3) := dk_182 0 184 (dk_at dksX5_move_0 9 rfl rfl)
theorem dX5_move_12 : decode cX5_move 12 = .ok (.astore 6, 2) := dk_58 6 (dk_at dksX5_move_0 12 rfl rfl)
theorem dX5_move_14 : decode cX5_move 14 = .ok (.aload 5, 2) := dk_25 5 (dk_at dksX5_move_0 14 rfl rfl)
theorem dX5_move_16 : decode cX5_move 16 = .ok (.ifnull 45, 3) := dk_198 0 45 (dk_at dksX5_move_0 16 rfl rfl)
theorem dX5_move_19 : decode cX5_move 19 = .ok (.aload 6, 2) := dk_25 6 (dk_at dksX5_move_0 19 rfl rfl)
theorem dX5_move_21 : decode cX5_move 21 = .ok (.ifnull 40, 3) := dk_198 0 40 (dk_at dksX5_move_0 21 rfl rfl)
theorem dX5_move_24 : decode cX5_move 24 = .ok (.aload 6, 2) := dk_25 6 (dk_at dksX5_move_1 0 rfl rfl)
theorem dX5_move_26 : decode cX5_move 26 = .ok (.getfield 188, 3) := dk_180 0 188 (dk_at dksX5_move_1 2 rfl rfl)
theorem dX5_move_29 : decode cX5_move 29 = .ok (.iconst 4, 1) := dk_7 (dk_at dksX5_move_1 5 rfl rfl)
theorem dX5_move_30 : decode cX5_move 30 = .ok (.if_icmp .eq 31, 3) := dk_159 0 31 (dk_at dksX5_move_1 6 rfl rfl)
theorem dX5_move_33 : decode cX5_move 33 = .ok (.aload 6, 2) := dk_25 6 (dk_at dksX5_move_1 9 rfl rfl)
theorem dX5_move_35 : decode cX5_move 35 = .ok (.iload_n 3, 1) := dk_29 (dk_at dksX5_move_1 11 rfl rfl)
theorem dX5_move_36 : decode cX5_move 36 = .ok (.invokevirtual 258, 3) := dk_182 1 2 (dk_at dksX5_move_1 12 rfl rfl)
theorem dX5_move_39 : decode cX5_move 39 = .ok (.ifCond .eq 22, 3) := dk_153 0 22 (dk_at dksX5_move_1 15 rfl rfl)
theorem dX5_move_42 : decode cX5_move 42 = .ok (.iload 4, 2) := dk_21 4 (dk_at dksX5_move_1 18 rfl rfl)
theorem dX5_move_44 : decode cX5_move 44 = .ok (.iconst (-1), 1) := dk_2 (dk_at dksX5_move_1 20 rfl rfl)
theorem dX5_move_45 : decode cX5_move 45 = .ok (.if_icmp .eq 12, 3) := dk_159 0 12 (dk_at dksX5_move_1 21 rfl rfl)
theorem dX5_move_48 : decode cX5_move 48 = .ok (.aload_n 0, 1) := dk_42 (dk_at dksX5_move_2 0 rfl rfl)
theorem dX5_move_49 : decode cX5_move 49 = .ok (.iload 4, 2) := dk_21 4 (dk_at dksX5_move_2 1 rfl rfl)
theorem dX5_move_51 : decode cX5_move 51 = .ok (.invokevirtual 156, 3) := dk_182 0 156 (dk_at dksX5_move_2 3 rfl rfl)
theorem dX5_move_54 : decode cX5_move 54 = .ok (.ifnull 7, 3) := dk_198 0 7 (dk_at dksX5_move_2 6 rfl rfl)
theorem dX5_move_57 : decode cX5_move 57 = .ok (.iconst 1, 1) := dk_4 (dk_at dksX5_move_2 9 rfl rfl)
theorem dX5_move_58 : decode cX5_move 58 = .ok (.goto 4, 3) := dk_167 0 4 (dk_at dksX5_move_2 10 rfl rfl)
theorem dX5_move_61 : decode cX5_move 61 = .ok (.iconst 0, 1) := dk_3 (dk_at dksX5_move_2 13 rfl rfl)
theorem dX5_move_62 : decode cX5_move 62 = .ok (.iconst (-1), 1) := dk_2 (dk_at dksX5_move_2 14 rfl rfl)
theorem dX5_move_63 : decode cX5_move 63 = .ok (.invokestatic 43, 3) := dk_184 0 43 (dk_at dksX5_move_2 15 rfl rfl)
theorem dX5_move_66 : decode cX5_move 66 = .ok (.aload 5, 2) := dk_25 5 (dk_at dksX5_move_2 18 rfl rfl)
theorem dX5_move_68 : decode cX5_move 68 = .ok (.getfield 303, 3) := dk_180 1 47 (dk_at dksX5_move_2 20 rfl rfl)
theorem dX5_move_71 : decode cX5_move 71 = .ok (.aload 6, 2) := dk_25 6 (dk_at dksX5_move_3 0 rfl rfl)
theorem dX5_move_73 : decode cX5_move 73 = .ok (.if_acmp .ne 12, 3) := dk_166 0 12 (dk_at dksX5_move_3 2 rfl rfl)
theorem dX5_move_76 : decode cX5_move 76 = .ok (.aload 5, 2) := dk_25 5 (dk_at dksX5_move_3 5 rfl rfl)
theorem dX5_move_78 : decode cX5_move 78 = .ok (.getfield 306, 3) := dk_180 1 50 (dk_at dksX5_move_3 7 rfl rfl)
theorem dX5_move_81 : decode cX5_move 81 = .ok (.iload_n 3, 1) := dk_29 (dk_at dksX5_move_3 10 rfl rfl)
theorem dX5_move_82 : decode cX5_move 82 = .ok (.if_icmp .eq 7, 3) := dk_159 0 7 (dk_at dksX5_move_3 11 rfl rfl)
theorem dX5_move_85 : decode cX5_move 85 = .ok (.iconst 1, 1) := dk_4 (dk_at dksX5_move_3 14 rfl rfl)
theorem dX5_move_86 : decode cX5_move 86 = .ok (.goto 4, 3) := dk_167 0 4 (dk_at dksX5_move_3 15 rfl rfl)
theorem dX5_move_89 : decode cX5_move 89 = .ok (.iconst 0, 1) := dk_3 (dk_at dksX5_move_3 18 rfl rfl)
theorem dX5_move_90 : decode cX5_move 90 = .ok (.iconst (-1), 1) := dk_2 (dk_at dksX5_move_3 19 rfl rfl)
theorem dX5_move_91 : decode cX5_move 91 = .ok (.invokestatic 43, 3) := dk_184 0 43 (dk_at dksX5_move_3 20 rfl rfl)
theorem dX5_move_94 : decode cX5_move 94 = .ok (.aload 5, 2) := dk_25 5 (dk_at dksX5_move_4 0 rfl rfl)
theorem dX5_move_96 : decode cX5_move 96 = .ok (.getfield 303, 3) := dk_180 1 47 (dk_at dksX5_move_4 2 rfl rfl)
theorem dX5_move_99 : decode cX5_move 99 = .ok (.ifnull 27, 3) := dk_198 0 27 (dk_at dksX5_move_4 5 rfl rfl)
theorem dX5_move_102 : decode cX5_move 102 = .ok (.aload 5, 2) := dk_25 5 (dk_at dksX5_move_4 8 rfl rfl)
theorem dX5_move_104 : decode cX5_move 104 = .ok (.getfield 309, 3) := dk_180 1 53 (dk_at dksX5_move_4 10 rfl rfl)
theorem dX5_move_107 : decode cX5_move 107 = .ok (.iconst 2, 1) := dk_5 (dk_at dksX5_move_4 13 rfl rfl)
theorem dX5_move_108 : decode cX5_move 108 = .ok (.if_icmp .ge 18, 3) := dk_162 0 18 (dk_at dksX5_move_4 14 rfl rfl)
theorem dX5_move_111 : decode cX5_move 111 = .ok (.aload 5, 2) := dk_25 5 (dk_at dksX5_move_4 17 rfl rfl)
theorem dX5_move_113 : decode cX5_move 113 = .ok (.getfield 303, 3) := dk_180 1 47 (dk_at dksX5_move_4 19 rfl rfl)
theorem dX5_move_116 : decode cX5_move 116 = .ok (.invokevirtual 191, 3) := dk_182 0 191 (dk_at dksX5_move_5 0 rfl rfl)
theorem dX5_move_119 : decode cX5_move 119 = .ok (.ifCond .eq 7, 3) := dk_153 0 7 (dk_at dksX5_move_5 3 rfl rfl)
theorem dX5_move_122 : decode cX5_move 122 = .ok (.iconst 1, 1) := dk_4 (dk_at dksX5_move_5 6 rfl rfl)
theorem dX5_move_123 : decode cX5_move 123 = .ok (.goto 4, 3) := dk_167 0 4 (dk_at dksX5_move_5 7 rfl rfl)
theorem dX5_move_126 : decode cX5_move 126 = .ok (.iconst 0, 1) := dk_3 (dk_at dksX5_move_5 10 rfl rfl)
theorem dX5_move_127 : decode cX5_move 127 = .ok (.bipush (-3), 2) := dk_16 253 (dk_at dksX5_move_5 11 rfl rfl)
theorem dX5_move_129 : decode cX5_move 129 = .ok (.invokestatic 43, 3) := dk_184 0 43 (dk_at dksX5_move_5 13 rfl rfl)
theorem dX5_move_132 : decode cX5_move 132 = .ok (.aload 5, 2) := dk_25 5 (dk_at dksX5_move_5 16 rfl rfl)
theorem dX5_move_134 : decode cX5_move 134 = .ok (.getfield 303, 3) := dk_180 1 47 (dk_at dksX5_move_5 18 rfl rfl)
theorem dX5_move_137 : decode cX5_move 137 = .ok (.astore 7, 2) := dk_58 7 (dk_at dksX5_move_5 21 rfl rfl)
theorem dX5_move_139 : decode cX5_move 139 = .ok (.aload 7, 2) := dk_25 7 (dk_at dksX5_move_6 0 rfl rfl)
theorem dX5_move_141 : decode cX5_move 141 = .ok (.getfield 188, 3) := dk_180 0 188 (dk_at dksX5_move_6 2 rfl rfl)
theorem dX5_move_144 : decode cX5_move 144 = .ok (.iconst 1, 1) := dk_4 (dk_at dksX5_move_6 5 rfl rfl)
theorem dX5_move_145 : decode cX5_move 145 = .ok (.if_icmp .ne 7, 3) := dk_160 0 7 (dk_at dksX5_move_6 6 rfl rfl)
theorem dX5_move_148 : decode cX5_move 148 = .ok (.iconst 1, 1) := dk_4 (dk_at dksX5_move_6 9 rfl rfl)
theorem dX5_move_149 : decode cX5_move 149 = .ok (.goto 4, 3) := dk_167 0 4 (dk_at dksX5_move_6 10 rfl rfl)
theorem dX5_move_152 : decode cX5_move 152 = .ok (.iconst 0, 1) := dk_3 (dk_at dksX5_move_6 13 rfl rfl)
theorem dX5_move_153 : decode cX5_move 153 = .ok (.bipush (-4), 2) := dk_16 252 (dk_at dksX5_move_6 14 rfl rfl)
theorem dX5_move_155 : decode cX5_move 155 = .ok (.invokestatic 43, 3) := dk_184 0 43 (dk_at dksX5_move_6 16 rfl rfl)
theorem dX5_move_158 : decode cX5_move 158 = .ok (.aload 5, 2) := dk_25 5 (dk_at dksX5_move_6 19 rfl rfl)
theorem dX5_move_160 : decode cX5_move 160 = .ok (.getfield 309, 3) := dk_180 1 53 (dk_at dksX5_move_6 21 rfl rfl)
theorem dX5_move_163 : decode cX5_move 163 = .ok (.iconst 1, 1) := dk_4 (dk_at dksX5_move_7 0 rfl rfl)
theorem dX5_move_164 : decode cX5_move 164 = .ok (.if_icmp .ne 17, 3) := dk_160 0 17 (dk_at dksX5_move_7 1 rfl rfl)
theorem dX5_move_167 : decode cX5_move 167 = .ok (.aload 7, 2) := dk_25 7 (dk_at dksX5_move_7 4 rfl rfl)
theorem dX5_move_169 : decode cX5_move 169 = .ok (.aload 5, 2) := dk_25 5 (dk_at dksX5_move_7 6 rfl rfl)
theorem dX5_move_171 : decode cX5_move 171 = .ok (.getfield 306, 3) := dk_180 1 50 (dk_at dksX5_move_7 8 rfl rfl)
theorem dX5_move_174 : decode cX5_move 174 = .ok (.iconst 0, 1) := dk_3 (dk_at dksX5_move_7 11 rfl rfl)
theorem dX5_move_175 : decode cX5_move 175 = .ok (.invokevirtual 312, 3) := dk_182 1 56 (dk_at dksX5_move_7 12 rfl rfl)
theorem dX5_move_178 : decode cX5_move 178 = .ok (.goto 4, 3) := dk_167 0 4 (dk_at dksX5_move_7 15 rfl rfl)
theorem dX5_move_181 : decode cX5_move 181 = .ok (.aconst_null, 1) := dk_1 (dk_at dksX5_move_7 18 rfl rfl)
theorem dX5_move_182 : decode cX5_move 182 = .ok (.astore 8, 2) := dk_58 8 (dk_at dksX5_move_7 19 rfl rfl)
theorem dX5_move_184 : decode cX5_move 184 = .ok (.aload 8, 2) := dk_25 8 (dk_at dksX5_move_7 21 rfl rfl)
theorem dX5_move_186 : decode cX5_move 186 = .ok (.ifnull 25, 3) := dk_198 0 25 (dk_at dksX5_move_8 0 rfl rfl)
theorem dX5_move_189 : decode cX5_move 189 = .ok (.aload 8, 2) := dk_25 8 (dk_at dksX5_move_8 3 rfl rfl)
theorem dX5_move_191 : decode cX5_move 191 = .ok (.aload_n 0, 1) := dk_42 (dk_at dksX5_move_8 5 rfl rfl)
theorem dX5_move_192 : decode cX5_move 192 = .ok (.getfield 149, 3) := dk_180 0 149 (dk_at dksX5_move_8 6 rfl rfl)
theorem dX5_move_195 : decode cX5_move 195 = .ok (.invokevirtual 316, 3) := dk_182 1 60 (dk_at dksX5_move_8 9 rfl rfl)
theorem dX5_move_198 : decode cX5_move 198 = .ok (.ifCond .eq 13, 3) := dk_153 0 13 (dk_at dksX5_move_8 12 rfl rfl)
theorem dX5_move_201 : decode cX5_move 201 = .ok (.aload 8, 2) := dk_25 8 (dk_at dksX5_move_8 15 rfl rfl)
theorem dX5_move_203 : decode cX5_move 203 = .ok (.getfield 253, 3) := dk_180 0 253 (dk_at dksX5_move_8 17 rfl rfl)
theorem dX5_move_206 : decode cX5_move 206 = .ok (.iload 4, 2) := dk_21 4 (dk_at dksX5_move_8 20 rfl rfl)
theorem dX5_move_208 : decode cX5_move 208 = .ok (.if_icmp .ne 7, 3) := dk_160 0 7 (dk_at dksX5_move_9 0 rfl rfl)
theorem dX5_move_211 : decode cX5_move 211 = .ok (.iconst 1, 1) := dk_4 (dk_at dksX5_move_9 3 rfl rfl)
theorem dX5_move_212 : decode cX5_move 212 = .ok (.goto 4, 3) := dk_167 0 4 (dk_at dksX5_move_9 4 rfl rfl)
theorem dX5_move_215 : decode cX5_move 215 = .ok (.iconst 0, 1) := dk_3 (dk_at dksX5_move_9 7 rfl rfl)
theorem dX5_move_216 : decode cX5_move 216 = .ok (.bipush (-8), 2) := dk_16 248 (dk_at dksX5_move_9 8 rfl rfl)
theorem dX5_move_218 : decode cX5_move 218 = .ok (.invokestatic 43, 3) := dk_184 0 43 (dk_at dksX5_move_9 10 rfl rfl)
theorem dX5_move_221 : decode cX5_move 221 = .ok (.aload_n 0, 1) := dk_42 (dk_at dksX5_move_9 13 rfl rfl)
theorem dX5_move_222 : decode cX5_move 222 = .ok (.aload 6, 2) := dk_25 6 (dk_at dksX5_move_9 14 rfl rfl)
theorem dX5_move_224 : decode cX5_move 224 = .ok (.iload_n 3, 1) := dk_29 (dk_at dksX5_move_9 16 rfl rfl)
theorem dX5_move_225 : decode cX5_move 225 = .ok (.aload 5, 2) := dk_25 5 (dk_at dksX5_move_9 17 rfl rfl)
theorem dX5_move_227 : decode cX5_move 227 = .ok (.aload 5, 2) := dk_25 5 (dk_at dksX5_move_9 19 rfl rfl)
theorem dX5_move_229 : decode cX5_move 229 = .ok (.getfield 265, 3) := dk_180 1 9 (dk_at dksX5_move_9 21 rfl rfl)
theorem dX5_move_232 : decode cX5_move 232 = .ok (.aload 5, 2) := dk_25 5 (dk_at dksX5_move_10 0 rfl rfl)
theorem dX5_move_234 : decode cX5_move 234 = .ok (.getfield 289, 3) := dk_180 1 33 (dk_at dksX5_move_10 2 rfl rfl)
theorem dX5_move_237 : decode cX5_move 237 = .ok (.iconst 1, 1) := dk_4 (dk_at dksX5_move_10 5 rfl rfl)
theorem dX5_move_238 : decode cX5_move 238 = .ok (.invokevirtual 285, 3) := dk_182 1 29 (dk_at dksX5_move_10 6 rfl rfl)
theorem dX5_move_241 : decode cX5_move 241 = .ok (.istore 9, 2) := dk_54 9 (dk_at dksX5_move_10 9 rfl rfl)
theorem dX5_move_243 : decode cX5_move 243 = .ok (.iload 9, 2) := dk_21 9 (dk_at dksX5_move_10 11 rfl rfl)
theorem dX5_move_245 : decode cX5_move 245 = .ok (.ifCond .ne 7, 3) := dk_154 0 7 (dk_at dksX5_move_10 13 rfl rfl)
theorem dX5_move_248 : decode cX5_move 248 = .ok (.iconst 1, 1) := dk_4 (dk_at dksX5_move_10 16 rfl rfl)
theorem dX5_move_249 : decode cX5_move 249 = .ok (.goto 4, 3) := dk_167 0 4 (dk_at dksX5_move_10 17 rfl rfl)
theorem dX5_move_252 : decode cX5_move 252 = .ok (.iconst 0, 1) := dk_3 (dk_at dksX5_move_10 20 rfl rfl)
theorem dX5_move_253 : decode cX5_move 253 = .ok (.iload 9, 2) := dk_21 9 (dk_at dksX5_move_10 21 rfl rfl)
theorem dX5_move_255 : decode cX5_move 255 = .ok (.ineg, 1) := dk_116 (dk_at dksX5_move_10 23 rfl rfl)
theorem dX5_move_256 : decode cX5_move 256 = .ok (.invokestatic 43, 3) := dk_184 0 43 (dk_at dksX5_move_11 0 rfl rfl)
theorem dX5_move_259 : decode cX5_move 259 = .ok (.aload 7, 2) := dk_25 7 (dk_at dksX5_move_11 3 rfl rfl)
theorem dX5_move_261 : decode cX5_move 261 = .ok (.aload 5, 2) := dk_25 5 (dk_at dksX5_move_11 5 rfl rfl)
theorem dX5_move_263 : decode cX5_move 263 = .ok (.invokevirtual 319, 3) := dk_182 1 63 (dk_at dksX5_move_11 7 rfl rfl)
theorem dX5_move_266 : decode cX5_move 266 = .ok (.aload 8, 2) := dk_25 8 (dk_at dksX5_move_11 10 rfl rfl)
theorem dX5_move_268 : decode cX5_move 268 = .ok (.ifnull 21, 3) := dk_198 0 21 (dk_at dksX5_move_11 12 rfl rfl)
theorem dX5_move_271 : decode cX5_move 271 = .ok (.aload 8, 2) := dk_25 8 (dk_at dksX5_move_11 15 rfl rfl)
theorem dX5_move_273 : decode cX5_move 273 = .ok (.aload_n 0, 1) := dk_42 (dk_at dksX5_move_11 17 rfl rfl)
theorem dX5_move_274 : decode cX5_move 274 = .ok (.getfield 149, 3) := dk_180 0 149 (dk_at dksX5_move_11 18 rfl rfl)
theorem dX5_move_277 : decode cX5_move 277 = .ok (.invokevirtual 316, 3) := dk_182 1 60 (dk_at dksX5_move_11 21 rfl rfl)
theorem dX5_move_280 : decode cX5_move 280 = .ok (.ifCond .ne 9, 3) := dk_154 0 9 (dk_at dksX5_move_12 0 rfl rfl)
theorem dX5_move_283 : decode cX5_move 283 = .ok (.aload 8, 2) := dk_25 8 (dk_at dksX5_move_12 3 rfl rfl)
theorem dX5_move_285 : decode cX5_move 285 = .ok (.iconst 2, 1) := dk_5 (dk_at dksX5_move_12 5 rfl rfl)
theorem dX5_move_286 : decode cX5_move 286 = .ok (.putfield 309, 3) := dk_181 1 53 (dk_at dksX5_move_12 6 rfl rfl)
theorem dX5_move_289 : decode cX5_move 289 = .ok (.aload_n 0, 1) := dk_42 (dk_at dksX5_move_12 9 rfl rfl)
theorem dX5_move_290 : decode cX5_move 290 = .ok (.bipush 90, 2) := dk_16 90 (dk_at dksX5_move_12 10 rfl rfl)
theorem dX5_move_292 : decode cX5_move 292 = .ok (.aload_n 0, 1) := dk_42 (dk_at dksX5_move_12 12 rfl rfl)
theorem dX5_move_293 : decode cX5_move 293 = .ok (.aload 6, 2) := dk_25 6 (dk_at dksX5_move_12 13 rfl rfl)
theorem dX5_move_295 : decode cX5_move 295 = .ok (.iload_n 3, 1) := dk_29 (dk_at dksX5_move_12 15 rfl rfl)
theorem dX5_move_296 : decode cX5_move 296 = .ok (.aload 5, 2) := dk_25 5 (dk_at dksX5_move_12 16 rfl rfl)
theorem dX5_move_298 : decode cX5_move 298 = .ok (.aload 5, 2) := dk_25 5 (dk_at dksX5_move_12 18 rfl rfl)
theorem dX5_move_300 : decode cX5_move 300 = .ok (.getfield 265, 3) := dk_180 1 9 (dk_at dksX5_move_12 20 rfl rfl)
theorem dX5_move_303 : decode cX5_move 303 = .ok (.invokevirtual 299, 3) := dk_182 1 43 (dk_at dksX5_move_13 0 rfl rfl)
theorem dX5_move_306 : decode cX5_move 306 = .ok (.iadd, 1) := dk_96 (dk_at dksX5_move_13 3 rfl rfl)
theorem dX5_move_307 : decode cX5_move 307 = .ok (.invokevirtual 204, 3) := dk_182 0 204 (dk_at dksX5_move_13 4 rfl rfl)
theorem dX5_move_310 : decode cX5_move 310 = .ok (.ireturn, 1) := dk_172 (dk_at dksX5_move_13 7 rfl rfl)
abbrev cX5_clear : ByteArray := prog_2_method_38_code
def yX5_clear : MethodName := ⟨RX5, "clear", "(I)I"⟩
def dkwX5_clear_14 : List UInt8 := [83, 132, 7, 1, 167, 255, 233, 21, 5, 172]
abbrev dktX5_clear_14 : List UInt8 := dkwX5_clear_14 ++ []
def dkwX5_clear_13 : List UInt8 := [180, 1, 92, 54, 7, 21, 7, 44, 180, 1, 92, 44, 180, 1, 95, 96, 162, 0, 15, 25, 6, 21, 7, 1]
abbrev dktX5_clear_13 : List UInt8 := dkwX5_clear_13 ++ dktX5_clear_14
def dkwX5_clear_12 : List UInt8 := [180, 0, 20, 44, 180, 1, 71, 182, 0, 35, 192, 0, 47, 180, 0, 53, 44, 180, 1, 90, 50, 58, 6, 44]
abbrev dktX5_clear_12 : List UInt8 := dkwX5_clear_12 ++ dktX5_clear_13
def dkwX5_clear_11 : List UInt8 := [182, 1, 87, 132, 6, 1, 167, 255, 225, 44, 180, 1, 78, 182, 0, 246, 44, 7, 181, 0, 188, 42]
abbrev dktX5_clear_11 : List UInt8 := dkwX5_clear_11 ++ dktX5_clear_12
def dkwX5_clear_10 : List UInt8 := [180, 1, 78, 182, 0, 31, 162, 0, 25, 42, 44, 180, 1, 78, 21, 6, 182, 0, 35, 192, 0, 41]
abbrev dktX5_clear_10 : List UInt8 := dkwX5_clear_10 ++ dktX5_clear_11
def dkwX5_clear_9 : List UInt8 := [3, 182, 1, 56, 182, 1, 84, 132, 6, 1, 167, 255, 232, 167, 0, 40, 3, 54, 6, 21, 6, 44]
abbrev dktX5_clear_9 : List UInt8 := dkwX5_clear_9 ++ dktX5_clear_10
def dkwX5_clear_8 : List UInt8 := [3, 54, 5, 29, 153, 0, 36, 3, 54, 6, 21, 6, 44, 182, 1, 81, 162, 0, 21, 42, 44, 44, 21, 6]
abbrev dktX5_clear_8 : List UInt8 := dkwX5_clear_8 ++ dktX5_clear_9
def dkwX5_clear_7 : List UInt8 := [4, 167, 0, 4, 3, 16, 252, 184, 0, 43, 29, 153, 0, 13, 44, 180, 1, 78, 182, 0, 31, 167, 0, 4]
abbrev dktX5_clear_7 : List UInt8 := dkwX5_clear_7 ++ dktX5_clear_8
def dkwX5_clear_6 : List UInt8 := [54, 4, 132, 5, 1, 167, 255, 188, 29, 153, 0, 15, 21, 4, 44, 180, 1, 78, 182, 0, 31, 161, 0, 7]
abbrev dktX5_clear_6 : List UInt8 := dkwX5_clear_6 ++ dktX5_clear_7
def dkwX5_clear_5 : List UInt8 := [180, 0, 25, 21, 5, 182, 0, 35, 192, 0, 39, 180, 1, 78, 182, 0, 31, 100, 167, 0, 4, 3, 96]
abbrev dktX5_clear_5 : List UInt8 := dkwX5_clear_5 ++ dktX5_clear_6
def dkwX5_clear_4 : List UInt8 := [180, 0, 25, 21, 5, 182, 0, 35, 192, 0, 39, 44, 180, 1, 71, 182, 1, 74, 153, 0, 27, 16, 40, 42]
abbrev dktX5_clear_4 : List UInt8 := dkwX5_clear_4 ++ dktX5_clear_5
def dkwX5_clear_3 : List UInt8 := [3, 54, 4, 3, 54, 5, 21, 5, 42, 180, 0, 25, 182, 0, 31, 162, 0, 62, 21, 4, 42, 42]
abbrev dktX5_clear_3 : List UInt8 := dkwX5_clear_3 ++ dktX5_clear_4
def dkwX5_clear_2 : List UInt8 := [4, 167, 0, 4, 3, 16, 253, 184, 0, 43, 44, 182, 1, 69, 7, 160, 0, 7, 4, 167, 0, 4, 3, 62]
abbrev dktX5_clear_2 : List UInt8 := dkwX5_clear_2 ++ dktX5_clear_3
def dkwX5_clear_1 : List UInt8 := [160, 0, 7, 4, 167, 0, 4, 3, 16, 254, 184, 0, 43, 44, 42, 180, 0, 149, 182, 1, 66, 154, 0, 7]
abbrev dktX5_clear_1 : List UInt8 := dkwX5_clear_1 ++ dktX5_clear_2
def dkwX5_clear_0 : List UInt8 := [42, 27, 182, 0, 184, 77, 44, 198, 0, 7, 4, 167, 0, 4, 3, 2, 184, 0, 43, 44, 180, 0, 188, 6]
abbrev dktX5_clear_0 : List UInt8 := dkwX5_clear_0 ++ dktX5_clear_1
theorem dksX5_clear_0 : cX5_clear.data.toList.drop 0 = dktX5_clear_0 := by decide +kernel
theorem dksX5_clear_1 : cX5_clear.data.toList.drop 24 = dktX5_clear_1 := dk_seg dksX5_clear_0 24 rfl rfl
theorem dksX5_clear_2 : cX5_clear.data.toList.drop 48 = dktX5_clear_2 := dk_seg dksX5_clear_1 24 rfl rfl
theorem dksX5_clear_3 : cX5_clear.data.toList.drop 72 = dktX5_clear_3 := dk_seg dksX5_clear_2 24 rfl rfl
theorem dksX5_clear_4 : cX5_clear.data.toList.drop 94 = dktX5_clear_4 := dk_seg dksX5_clear_3 22 rfl rfl
theorem dksX5_clear_5 : cX5_clear.data.toList.drop 118 = dktX5_clear_5 := dk_seg dksX5_clear_4 24 rfl rfl
theorem dksX5_clear_6 : cX5_clear.data.toList.drop 141 = dktX5_clear_6 := dk_seg dksX5_clear_5 23 rfl rfl
theorem dksX5_clear_7 : cX5_clear.data.toList.drop 165 = dktX5_clear_7 := dk_seg dksX5_clear_6 24 rfl rfl
theorem dksX5_clear_8 : cX5_clear.data.toList.drop 189 = dktX5_clear_8 := dk_seg dksX5_clear_7 24 rfl rfl
theorem dksX5_clear_9 : cX5_clear.data.toList.drop 213 = dktX5_clear_9 := dk_seg dksX5_clear_8 24 rfl rfl
theorem dksX5_clear_10 : cX5_clear.data.toList.drop 235 = dktX5_clear_10 := dk_seg dksX5_clear_9 22 rfl rfl
theorem dksX5_clear_11 : cX5_clear.data.toList.drop 257 = dktX5_clear_11 := dk_seg dksX5_clear_10 22 rfl rfl
theorem dksX5_clear_12 : cX5_clear.data.toList.drop 279 = dktX5_clear_12 := dk_seg dksX5_clear_11 22 rfl rfl
theorem dksX5_clear_13 : cX5_clear.data.toList.drop 303 = dktX5_clear_13 := dk_seg dksX5_clear_12 24 rfl rfl
theorem dksX5_clear_14 : cX5_clear.data.toList.drop 327 = dktX5_clear_14 := dk_seg dksX5_clear_13 24 rfl rfl
theorem dX5_clear_0 : decode cX5_clear 0 = .ok (.aload_n 0, 1) := dk_42 (dk_at dksX5_clear_0 0 rfl rfl)
theorem dX5_clear_1 : decode cX5_clear 1 = .ok (.iload_n 1, 1) := dk_27 (dk_at dksX5_clear_0 1 rfl rfl)
theorem dX5_clear_2 : decode cX5_clear 2 = .ok (.invokevirtual 184, 3) := dk_182 0 184 (dk_at dksX5_clear_0 2 rfl rfl)
theorem dX5_clear_5 : decode cX5_clear 5 = .ok (.astore_n 2, 1) := dk_77 (dk_at dksX5_clear_0 5 rfl rfl)
theorem dX5_clear_6 : decode cX5_clear 6 = .ok (.aload_n 2, 1) := dk_44 (dk_at dksX5_clear_0 6 rfl rfl)
theorem dX5_clear_7 : decode cX5_clear 7 = .ok (.ifnull 7, 3) := dk_198 0 7 (dk_at dksX5_clear_0 7 rfl rfl)
theorem dX5_clear_10 : decode cX5_clear 10 = .ok (.iconst 1, 1) := dk_4 (dk_at dksX5_clear_0 10 rfl rfl)
theorem dX5_clear_11 : decode cX5_clear 11 = .ok (.goto 4, 3) := dk_167 0 4 (dk_at dksX5_clear_0 11 rfl rfl)
theorem dX5_clear_14 : decode cX5_clear 14 = .ok (.iconst 0, 1) := dk_3 (dk_at dksX5_clear_0 14 rfl rfl)
theorem dX5_clear_15 : decode cX5_clear 15 = .ok (.iconst (-1), 1) := dk_2 (dk_at dksX5_clear_0 15 rfl rfl)
theorem dX5_clear_16 : decode cX5_clear 16 = .ok (.invokestatic 43, 3) := dk_184 0 43 (dk_at dksX5_clear_0 16 rfl rfl)
theorem dX5_clear_19 : decode cX5_clear 19 = .ok (.aload_n 2, 1) := dk_44 (dk_at dksX5_clear_0 19 rfl rfl)
theorem dX5_clear_20 : decode cX5_clear 20 = .ok (.getfield 188, 3) := dk_180 0 188 (dk_at dksX5_clear_0 20 rfl rfl)
theorem dX5_clear_23 : decode cX5_clear 23 = .ok (.iconst 3, 1) := dk_6 (dk_at dksX5_clear_0 23 rfl rfl)
theorem dX5_clear_24 : decode cX5_clear 24 = .ok (.if_icmp .ne 7, 3) := dk_160 0 7 (dk_at dksX5_clear_1 0 rfl rfl)
theorem dX5_clear_27 : decode cX5_clear 27 = .ok (.iconst 1, 1) := dk_4 (dk_at dksX5_clear_1 3 rfl rfl)
theorem dX5_clear_28 : decode cX5_clear 28 = .ok (.goto 4, 3) := dk_167 0 4 (dk_at dksX5_clear_1 4 rfl rfl)
theorem dX5_clear_31 : decode cX5_clear 31 = .ok (.iconst 0, 1) := dk_3 (dk_at dksX5_clear_1 7 rfl rfl)
theorem dX5_clear_32 : decode cX5_clear 32 = .ok (.bipush (-2), 2) := dk_16 254 (dk_at dksX5_clear_1 8 rfl rfl)
theorem dX5_clear_34 : decode cX5_clear 34 = .ok (.invokestatic 43, 3) := dk_184 0 43 (dk_at dksX5_clear_1 10 rfl rfl)
theorem dX5_clear_37 : decode cX5_clear 37 = .ok (.aload_n 2, 1) := dk_44 (dk_at dksX5_clear_1 13 rfl rfl)
theorem dX5_clear_38 : decode cX5_clear 38 = .ok (.aload_n 0, 1) := dk_42 (dk_at dksX5_clear_1 14 rfl rfl)
theorem dX5_clear_39 : decode cX5_clear 39 = .ok (.getfield 149, 3) := dk_180 0 149 (dk_at dksX5_clear_1 15 rfl rfl)
theorem dX5_clear_42 : decode cX5_clear 42 = .ok (.invokevirtual 322, 3) := dk_182 1 66 (dk_at dksX5_clear_1 18 rfl rfl)
theorem dX5_clear_45 : decode cX5_clear 45 = .ok (.ifCond .ne 7, 3) := dk_154 0 7 (dk_at dksX5_clear_1 21 rfl rfl)
theorem dX5_clear_48 : decode cX5_clear 48 = .ok (.iconst 1, 1) := dk_4 (dk_at dksX5_clear_2 0 rfl rfl)
theorem dX5_clear_49 : decode cX5_clear 49 = .ok (.goto 4, 3) := dk_167 0 4 (dk_at dksX5_clear_2 1 rfl rfl)
theorem dX5_clear_52 : decode cX5_clear 52 = .ok (.iconst 0, 1) := dk_3 (dk_at dksX5_clear_2 4 rfl rfl)
theorem dX5_clear_53 : decode cX5_clear 53 = .ok (.bipush (-3), 2) := dk_16 253 (dk_at dksX5_clear_2 5 rfl rfl)
theorem dX5_clear_55 : decode cX5_clear 55 = .ok (.invokestatic 43, 3) := dk_184 0 43 (dk_at dksX5_clear_2 7 rfl rfl)
theorem dX5_clear_58 : decode cX5_clear 58 = .ok (.aload_n 2, 1) := dk_44 (dk_at dksX5_clear_2 10 rfl rfl)
theorem dX5_clear_59 : decode cX5_clear 59 = .ok (.invokevirtual 325, 3) := dk_182 1 69 (dk_at dksX5_clear_2 11 rfl rfl)
theorem dX5_clear_62 : decode cX5_clear 62 = .ok (.iconst 4, 1) := dk_7 (dk_at dksX5_clear_2 14 rfl rfl)
theorem dX5_clear_63 : decode cX5_clear 63 = .ok (.if_icmp .ne 7, 3) := dk_160 0 7 (dk_at dksX5_clear_2 15 rfl rfl)
theorem dX5_clear_66 : decode cX5_clear 66 = .ok (.iconst 1, 1) := dk_4 (dk_at dksX5_clear_2 18 rfl rfl)
theorem dX5_clear_67 : decode cX5_clear 67 = .ok (.goto 4, 3) := dk_167 0 4 (dk_at dksX5_clear_2 19 rfl rfl)
theorem dX5_clear_70 : decode cX5_clear 70 = .ok (.iconst 0, 1) := dk_3 (dk_at dksX5_clear_2 22 rfl rfl)
theorem dX5_clear_71 : decode cX5_clear 71 = .ok (.istore_n 3, 1) := dk_62 (dk_at dksX5_clear_2 23 rfl rfl)
theorem dX5_clear_72 : decode cX5_clear 72 = .ok (.iconst 0, 1) := dk_3 (dk_at dksX5_clear_3 0 rfl rfl)
theorem dX5_clear_73 : decode cX5_clear 73 = .ok (.istore 4, 2) := dk_54 4 (dk_at dksX5_clear_3 1 rfl rfl)
theorem dX5_clear_75 : decode cX5_clear 75 = .ok (.iconst 0, 1) := dk_3 (dk_at dksX5_clear_3 3 rfl rfl)
theorem dX5_clear_76 : decode cX5_clear 76 = .ok (.istore 5, 2) := dk_54 5 (dk_at dksX5_clear_3 4 rfl rfl)
theorem dX5_clear_78 : decode cX5_clear 78 = .ok (.iload 5, 2) := dk_21 5 (dk_at dksX5_clear_3 6 rfl rfl)
theorem dX5_clear_80 : decode cX5_clear 80 = .ok (.aload_n 0, 1) := dk_42 (dk_at dksX5_clear_3 8 rfl rfl)
theorem dX5_clear_81 : decode cX5_clear 81 = .ok (.getfield 25, 3) := dk_180 0 25 (dk_at dksX5_clear_3 9 rfl rfl)
theorem dX5_clear_84 : decode cX5_clear 84 = .ok (.invokevirtual 31, 3) := dk_182 0 31 (dk_at dksX5_clear_3 12 rfl rfl)
theorem dX5_clear_87 : decode cX5_clear 87 = .ok (.if_icmp .ge 62, 3) := dk_162 0 62 (dk_at dksX5_clear_3 15 rfl rfl)
theorem dX5_clear_90 : decode cX5_clear 90 = .ok (.iload 4, 2) := dk_21 4 (dk_at dksX5_clear_3 18 rfl rfl)
theorem dX5_clear_92 : decode cX5_clear 92 = .ok (.aload_n 0, 1) := dk_42 (dk_at dksX5_clear_3 20 rfl rfl)
theorem dX5_clear_93 : decode cX5_clear 93 = .ok (.aload_n 0, 1) := dk_42 (dk_at dksX5_clear_3 21 rfl rfl)
theorem dX5_clear_94 : decode cX5_clear 94 = .ok (.getfield 25, 3) := dk_180 0 25 (dk_at dksX5_clear_4 0 rfl rfl)
theorem dX5_clear_97 : decode cX5_clear 97 = .ok (.iload 5, 2) := dk_21 5 (dk_at dksX5_clear_4 3 rfl rfl)
theorem dX5_clear_99 : decode cX5_clear 99 = .ok (.invokevirtual 35, 3) := dk_182 0 35 (dk_at dksX5_clear_4 5 rfl rfl)
theorem dX5_clear_102 : decode cX5_clear 102 = .ok (.checkcast 39, 3) := dk_192 0 39 (dk_at dksX5_clear_4 8 rfl rfl)
theorem dX5_clear_105 : decode cX5_clear 105 = .ok (.aload_n 2, 1) := dk_44 (dk_at dksX5_clear_4 11 rfl rfl)
theorem dX5_clear_106 : decode cX5_clear 106 = .ok (.getfield 327, 3) := dk_180 1 71 (dk_at dksX5_clear_4 12 rfl rfl)
theorem dX5_clear_109 : decode cX5_clear 109 = .ok (.invokevirtual 330, 3) := dk_182 1 74 (dk_at dksX5_clear_4 15 rfl rfl)
theorem dX5_clear_112 : decode cX5_clear 112 = .ok (.ifCond .eq 27, 3) := dk_153 0 27 (dk_at dksX5_clear_4 18 rfl rfl)
theorem dX5_clear_115 : decode cX5_clear 115 = .ok (.bipush 40, 2) := dk_16 40 (dk_at dksX5_clear_4 21 rfl rfl)
theorem dX5_clear_117 : decode cX5_clear 117 = .ok (.aload_n 0, 1) := dk_42 (dk_at dksX5_clear_4 23 rfl rfl)
theorem dX5_clear_118 : decode cX5_clear 118 = .ok (.getfield 25, 3) := dk_180 0 25 (dk_at dksX5_clear_5 0 rfl rfl)
theorem dX5_clear_121 : decode cX5_clear 121 = .ok (.iload 5, 2) := dk_21 5 (dk_at dksX5_clear_5 3 rfl rfl)
theorem dX5_clear_123 : decode cX5_clear 123 = .ok (.invokevirtual 35, 3) := dk_182 0 35 (dk_at dksX5_clear_5 5 rfl rfl)
theorem dX5_clear_126 : decode cX5_clear 126 = .ok (.checkcast 39, 3) := dk_192 0 39 (dk_at dksX5_clear_5 8 rfl rfl)
theorem dX5_clear_129 : decode cX5_clear 129 = .ok (.getfield 334, 3) := dk_180 1 78 (dk_at dksX5_clear_5 11 rfl rfl)
theorem dX5_clear_132 : decode cX5_clear 132 = .ok (.invokevirtual 31, 3) := dk_182 0 31 (dk_at dksX5_clear_5 14 rfl rfl)
theorem dX5_clear_135 : decode cX5_clear 135 = .ok (.isub, 1) := dk_100 (dk_at dksX5_clear_5 17 rfl rfl)
theorem dX5_clear_136 : decode cX5_clear 136 = .ok (.goto 4, 3) := dk_167 0 4 (dk_at dksX5_clear_5 18 rfl rfl)
theorem dX5_clear_139 : decode cX5_clear 139 = .ok (.iconst 0, 1) := dk_3 (dk_at dksX5_clear_5 21 rfl rfl)
theorem dX5_clear_140 : decode cX5_clear 140 = .ok (.iadd, 1) := dk_96 (dk_at dksX5_clear_5 22 rfl rfl)
theorem dX5_clear_141 : decode cX5_clear 141 = .ok (.istore 4, 2) := dk_54 4 (dk_at dksX5_clear_6 0 rfl rfl)
theorem dX5_clear_143 : decode cX5_clear 143 = .ok (.iinc 5 1, 3) := dk_132 5 1 (dk_at dksX5_clear_6 2 rfl rfl)
theorem dX5_clear_146 : decode cX5_clear 146 = .ok (.goto (-68), 3) := dk_167 255 188 (dk_at dksX5_clear_6 5 rfl rfl)
theorem dX5_clear_149 : decode cX5_clear 149 = .ok (.iload_n 3, 1) := dk_29 (dk_at dksX5_clear_6 8 rfl rfl)
theorem dX5_clear_150 : decode cX5_clear 150 = .ok (.ifCond .eq 15, 3) := dk_153 0 15 (dk_at dksX5_clear_6 9 rfl rfl)
theorem dX5_clear_153 : decode cX5_clear 153 = .ok (.iload 4, 2) := dk_21 4 (dk_at dksX5_clear_6 12 rfl rfl)
theorem dX5_clear_155 : decode cX5_clear 155 = .ok (.aload_n 2, 1) := dk_44 (dk_at dksX5_clear_6 14 rfl rfl)
theorem dX5_clear_156 : decode cX5_clear 156 = .ok (.getfield 334, 3) := dk_180 1 78 (dk_at dksX5_clear_6 15 rfl rfl)
theorem dX5_clear_159 : decode cX5_clear 159 = .ok (.invokevirtual 31, 3) := dk_182 0 31 (dk_at dksX5_clear_6 18 rfl rfl)
theorem dX5_clear_162 : decode cX5_clear 162 = .ok (.if_icmp .lt 7, 3) := dk_161 0 7 (dk_at dksX5_clear_6 21 rfl rfl)
theorem dX5_clear_165 : decode cX5_clear 165 = .ok (.iconst 1, 1) := dk_4 (dk_at dksX5_clear_7 0 rfl rfl)
theorem dX5_clear_166 : decode cX5_clear 166 = .ok (.goto 4, 3) := dk_167 0 4 (dk_at dksX5_clear_7 1 rfl rfl)
theorem dX5_clear_169 : decode cX5_clear 169 = .ok (.iconst 0, 1) := dk_3 (dk_at dksX5_clear_7 4 rfl rfl)
theorem dX5_clear_170 : decode cX5_clear 170 = .ok (.bipush (-4), 2) := dk_16 252 (dk_at dksX5_clear_7 5 rfl rfl)
theorem dX5_clear_172 : decode cX5_clear 172 = .ok (.invokestatic 43, 3) := dk_184 0 43 (dk_at dksX5_clear_7 7 rfl rfl)
theorem dX5_clear_175 : decode cX5_clear 175 = .ok (.iload_n 3, 1) := dk_29 (dk_at dksX5_clear_7 10 rfl rfl)
theorem dX5_clear_176 : decode cX5_clear 176 = .ok (.ifCond .eq 13, 3) := dk_153 0 13 (dk_at dksX5_clear_7 11 rfl rfl)
theorem dX5_clear_179 : decode cX5_clear 179 = .ok (.aload_n 2, 1) := dk_44 (dk_at dksX5_clear_7 14 rfl rfl)
theorem dX5_clear_180 : decode cX5_clear 180 = .ok (.getfield 334, 3) := dk_180 1 78 (dk_at dksX5_clear_7 15 rfl rfl)
theorem dX5_clear_183 : decode cX5_clear 183 = .ok (.invokevirtual 31, 3) := dk_182 0 31 (dk_at dksX5_clear_7 18 rfl rfl)
theorem dX5_clear_186 : decode cX5_clear 186 = .ok (.goto 4, 3) := dk_167 0 4 (dk_at dksX5_clear_7 21 rfl rfl)
theorem dX5_clear_189 : decode cX5_clear 189 = .ok (.iconst 0, 1) := dk_3 (dk_at dksX5_clear_8 0 rfl rfl)
theorem dX5_clear_190 : decode cX5_clear 190 = .ok (.istore 5, 2) := dk_54 5 (dk_at dksX5_clear_8 1 rfl rfl)
theorem dX5_clear_192 : decode cX5_clear 192 = .ok (.iload_n 3, 1) := dk_29 (dk_at dksX5_clear_8 3 rfl rfl)
theorem dX5_clear_193 : decode cX5_clear 193 = .ok (.ifCond .eq 36, 3) := dk_153 0 36 (dk_at dksX5_clear_8 4 rfl rfl)
theorem dX5_clear_196 : decode cX5_clear 196 = .ok (.iconst 0, 1) := dk_3 (dk_at dksX5_clear_8 7 rfl rfl)
theorem dX5_clear_197 : decode cX5_clear 197 = .ok (.istore 6, 2) := dk_54 6 (dk_at dksX5_clear_8 8 rfl rfl)
theorem dX5_clear_199 : decode cX5_clear 199 = .ok (.iload 6, 2) := dk_21 6 (dk_at dksX5_clear_8 10 rfl rfl)
theorem dX5_clear_201 : decode cX5_clear 201 = .ok (.aload_n 2, 1) := dk_44 (dk_at dksX5_clear_8 12 rfl rfl)
theorem dX5_clear_202 : decode cX5_clear 202 = .ok (.invokevirtual 337, 3) := dk_182 1 81 (dk_at dksX5_clear_8 13 rfl rfl)
theorem dX5_clear_205 : decode cX5_clear 205 = .ok (.if_icmp .ge 21, 3) := dk_162 0 21 (dk_at dksX5_clear_8 16 rfl rfl)
theorem dX5_clear_208 : decode cX5_clear 208 = .ok (.aload_n 0, 1) := dk_42 (dk_at dksX5_clear_8 19 rfl rfl)
theorem dX5_clear_209 : decode cX5_clear 209 = .ok (.aload_n 2, 1) := dk_44 (dk_at dksX5_clear_8 20 rfl rfl)
theorem dX5_clear_210 : decode cX5_clear 210 = .ok (.aload_n 2, 1) := dk_44 (dk_at dksX5_clear_8 21 rfl rfl)
theorem dX5_clear_211 : decode cX5_clear 211 = .ok (.iload 6, 2) := dk_21 6 (dk_at dksX5_clear_8 22 rfl rfl)
theorem dX5_clear_213 : decode cX5_clear 213 = .ok (.iconst 0, 1) := dk_3 (dk_at dksX5_clear_9 0 rfl rfl)
theorem dX5_clear_214 : decode cX5_clear 214 = .ok (.invokevirtual 312, 3) := dk_182 1 56 (dk_at dksX5_clear_9 1 rfl rfl)
theorem dX5_clear_217 : decode cX5_clear 217 = .ok (.invokevirtual 340, 3) := dk_182 1 84 (dk_at dksX5_clear_9 4 rfl rfl)
theorem dX5_clear_220 : decode cX5_clear 220 = .ok (.iinc 6 1, 3) := dk_132 6 1 (dk_at dksX5_clear_9 7 rfl rfl)
theorem dX5_clear_223 : decode cX5_clear 223 = .ok (.goto (-24), 3) := dk_167 255 232 (dk_at dksX5_clear_9 10 rfl rfl)
theorem dX5_clear_226 : decode cX5_clear 226 = .ok (.goto 40, 3) := dk_167 0 40 (dk_at dksX5_clear_9 13 rfl rfl)
theorem dX5_clear_229 : decode cX5_clear 229 = .ok (.iconst 0, 1) := dk_3 (dk_at dksX5_clear_9 16 rfl rfl)
theorem dX5_clear_230 : decode cX5_clear 230 = .ok (.istore 6, 2) := dk_54 6 (dk_at dksX5_clear_9 17 rfl rfl)
theorem dX5_clear_232 : decode cX5_clear 232 = .ok (.iload 6, 2) := dk_21 6 (dk_at dksX5_clear_9 19 rfl rfl)
theorem dX5_clear_234 : decode cX5_clear 234 = .ok (.aload_n 2, 1) := dk_44 (dk_at dksX5_clear_9 21 rfl rfl)
theorem dX5_clear_235 : decode cX5_clear 235 = .ok (.getfield 334, 3) := dk_180 1 78 (dk_at dksX5_clear_10 0 rfl rfl)
theorem dX5_clear_238 : decode cX5_clear 238 = .ok (.invokevirtual 31, 3) := dk_182 0 31 (dk_at dksX5_clear_10 3 rfl rfl)
theorem dX5_clear_241 : decode cX5_clear 241 = .ok (.if_icmp .ge 25, 3) := dk_162 0 25 (dk_at dksX5_clear_10 6 rfl rfl)
theorem dX5_clear_244 : decode cX5_clear 244 = .ok (.aload_n 0, 1) := dk_42 (dk_at dksX5_clear_10 9 rfl rfl)
theorem dX5_clear_245 : decode cX5_clear 245 = .ok (.aload_n 2, 1) := dk_44 (dk_at dksX5_clear_10 10 rfl rfl)
theorem dX5_clear_246 : decode cX5_clear 246 = .ok (.getfield 334, 3) := dk_180 1 78 (dk_at dksX5_clear_10 11 rfl rfl)
theorem dX5_clear_249 : decode cX5_clear 249 = .ok (.iload 6, 2) := dk_21 6 (dk_at dksX5_clear_10 14 rfl rfl)
theorem dX5_clear_251 : decode cX5_clear 251 = .ok (.invokevirtual 35, 3) := dk_182 0 35 (dk_at dksX5_clear_10 16 rfl rfl)
theorem dX5_clear_254 : decode cX5_clear 254 = .ok (.checkcast 41, 3) := dk_192 0 41 (dk_at dksX5_clear_10 19 rfl rfl)
theorem dX5_clear_257 : decode cX5_clear 257 = .ok (.invokevirtual 343, 3) := dk_182 1 87 (dk_at dksX5_clear_11 0 rfl rfl)
theorem dX5_clear_260 : decode cX5_clear 260 = .ok (.iinc 6 1, 3) := dk_132 6 1 (dk_at dksX5_clear_11 3 rfl rfl)
theorem dX5_clear_263 : decode cX5_clear 263 = .ok (.goto (-31), 3) := dk_167 255 225 (dk_at dksX5_clear_11 6 rfl rfl)
theorem dX5_clear_266 : decode cX5_clear 266 = .ok (.aload_n 2, 1) := dk_44 (dk_at dksX5_clear_11 9 rfl rfl)
theorem dX5_clear_267 : decode cX5_clear 267 = .ok (.getfield 334, 3) := dk_180 1 78 (dk_at dksX5_clear_11 10 rfl rfl)
theorem dX5_clear_270 : decode cX5_clear 270 = .ok (.invokevirtual 246, 3) := dk_182 0 246 (dk_at dksX5_clear_11 13 rfl rfl)
theorem dX5_clear_273 : decode cX5_clear 273 = .ok (.aload_n 2, 1) := dk_44 (dk_at dksX5_clear_11 16 rfl rfl)
theorem dX5_clear_274 : decode cX5_clear 274 = .ok (.iconst 4, 1) := dk_7 (dk_at dksX5_clear_11 17 rfl rfl)
theorem dX5_clear_275 : decode cX5_clear 275 = .ok (.putfield 188, 3) := dk_181 0 188 (dk_at dksX5_clear_11 18 rfl rfl)
theorem dX5_clear_278 : decode cX5_clear 278 = .ok (.aload_n 0, 1) := dk_42 (dk_at dksX5_clear_11 21 rfl rfl)
theorem dX5_clear_279 : decode cX5_clear 279 = .ok (.getfield 20, 3) := dk_180 0 20 (dk_at dksX5_clear_12 0 rfl rfl)
theorem dX5_clear_282 : decode cX5_clear 282 = .ok (.aload_n 2, 1) := dk_44 (dk_at dksX5_clear_12 3 rfl rfl)
theorem dX5_clear_283 : decode cX5_clear 283 = .ok (.getfield 327, 3) := dk_180 1 71 (dk_at dksX5_clear_12 4 rfl rfl)
theorem dX5_clear_286 : decode cX5_clear 286 = .ok (.invokevirtual 35, 3) := dk_182 0 35 (dk_at dksX5_clear_12 7 rfl rfl)
theorem dX5_clear_289 : decode cX5_clear 289 = .ok (.checkcast 47, 3) := dk_192 0 47 (dk_at dksX5_clear_12 10 rfl rfl)
theorem dX5_clear_292 : decode cX5_clear 292 = .ok (.getfield 53, 3) := dk_180 0 53 (dk_at dksX5_clear_12 13 rfl rfl)
theorem dX5_clear_295 : decode cX5_clear 295 = .ok (.aload_n 2, 1) := dk_44 (dk_at dksX5_clear_12 16 rfl rfl)
theorem dX5_clear_296 : decode cX5_clear 296 = .ok (.getfield 346, 3) := dk_180 1 90 (dk_at dksX5_clear_12 17 rfl rfl)
theorem dX5_clear_299 : decode cX5_clear 299 = .ok (.aaload, 1) := dk_50 (dk_at dksX5_clear_12 20 rfl rfl)
theorem dX5_clear_300 : decode cX5_clear 300 = .ok (.astore 6, 2) := dk_58 6 (dk_at dksX5_clear_12 21 rfl rfl)
theorem dX5_clear_302 : decode cX5_clear 302 = .ok (.aload_n 2, 1) := dk_44 (dk_at dksX5_clear_12 23 rfl rfl)
theorem dX5_clear_303 : decode cX5_clear 303 = .ok (.getfield 348, 3) := dk_180 1 92 (dk_at dksX5_clear_13 0 rfl rfl)
theorem dX5_clear_306 : decode cX5_clear 306 = .ok (.istore 7, 2) := dk_54 7 (dk_at dksX5_clear_13 3 rfl rfl)
theorem dX5_clear_308 : decode cX5_clear 308 = .ok (.iload 7, 2) := dk_21 7 (dk_at dksX5_clear_13 5 rfl rfl)
theorem dX5_clear_310 : decode cX5_clear 310 = .ok (.aload_n 2, 1) := dk_44 (dk_at dksX5_clear_13 7 rfl rfl)
theorem dX5_clear_311 : decode cX5_clear 311 = .ok (.getfield 348, 3) := dk_180 1 92 (dk_at dksX5_clear_13 8 rfl rfl)
theorem dX5_clear_314 : decode cX5_clear 314 = .ok (.aload_n 2, 1) := dk_44 (dk_at dksX5_clear_13 11 rfl rfl)
theorem dX5_clear_315 : decode cX5_clear 315 = .ok (.getfield 351, 3) := dk_180 1 95 (dk_at dksX5_clear_13 12 rfl rfl)
theorem dX5_clear_318 : decode cX5_clear 318 = .ok (.iadd, 1) := dk_96 (dk_at dksX5_clear_13 15 rfl rfl)
theorem dX5_clear_319 : decode cX5_clear 319 = .ok (.if_icmp .ge 15, 3) := dk_162 0 15 (dk_at dksX5_clear_13 16 rfl rfl)
theorem dX5_clear_322 : decode cX5_clear 322 = .ok (.aload 6, 2) := dk_25 6 (dk_at dksX5_clear_13 19 rfl rfl)
theorem dX5_clear_324 : decode cX5_clear 324 = .ok (.iload 7, 2) := dk_21 7 (dk_at dksX5_clear_13 21 rfl rfl)
theorem dX5_clear_326 : decode cX5_clear 326 = .ok (.aconst_null, 1) := dk_1 (dk_at dksX5_clear_13 23 rfl rfl)
theorem dX5_clear_327 : decode cX5_clear 327 = .ok (.aastore, 1) := dk_83 (dk_at dksX5_clear_14 0 rfl rfl)
theorem dX5_clear_328 : decode cX5_clear 328 = .ok (.iinc 7 1, 3) := dk_132 7 1 (dk_at dksX5_clear_14 1 rfl rfl)
theorem dX5_clear_331 : decode cX5_clear 331 = .ok (.goto (-23), 3) := dk_167 255 233 (dk_at dksX5_clear_14 4 rfl rfl)
theorem dX5_clear_334 : decode cX5_clear 334 = .ok (.iload 5, 2) := dk_21 5 (dk_at dksX5_clear_14 7 rfl rfl)
theorem dX5_clear_336 : decode cX5_clear 336 = .ok (.ireturn, 1) := dk_172 (dk_at dksX5_clear_14 9 rfl rfl)
abbrev cX5_isMeadow : ByteArray := prog_2_method_39_code
def yX5_isMeadow : MethodName := ⟨RX5, "isMeadow", "(LChurchyardBook$Grave;I)Z"⟩
def dkwX5_isMeadow_0 : List UInt8 := [43, 180, 1, 71, 28, 160, 0, 15, 43, 182, 1, 69, 8, 160, 0, 7, 4, 167, 0, 4, 3, 172]
abbrev dktX5_isMeadow_0 : List UInt8 := dkwX5_isMeadow_0 ++ []
theorem dksX5_isMeadow_0 : cX5_isMeadow.data.toList.drop 0 = dktX5_isMeadow_0 := by decide +kernel
theorem dX5_isMeadow_0 : decode cX5_isMeadow 0 = .ok (.aload_n 1, 1) := dk_43 (dk_at dksX5_isMeadow_0 0 rfl rfl)
theorem dX5_isMeadow_1 : decode cX5_isMeadow 1 = .ok (.getfield 327, 3) := dk_180 1 71 (dk_at dksX5_isMeadow_0 1 rfl rfl)
theorem dX5_isMeadow_4 : decode cX5_isMeadow 4 = .ok (.iload_n 2, 1) := dk_28 (dk_at dksX5_isMeadow_0 4 rfl rfl)
theorem dX5_isMeadow_5 : decode cX5_isMeadow 5 = .ok (.if_icmp .ne 15, 3) := dk_160 0 15 (dk_at dksX5_isMeadow_0 5 rfl rfl)
theorem dX5_isMeadow_8 : decode cX5_isMeadow 8 = .ok (.aload_n 1, 1) := dk_43 (dk_at dksX5_isMeadow_0 8 rfl rfl)
theorem dX5_isMeadow_9 : decode cX5_isMeadow 9 = .ok (.invokevirtual 325, 3) := dk_182 1 69 (dk_at dksX5_isMeadow_0 9 rfl rfl)
theorem dX5_isMeadow_12 : decode cX5_isMeadow 12 = .ok (.iconst 5, 1) := dk_8 (dk_at dksX5_isMeadow_0 12 rfl rfl)
theorem dX5_isMeadow_13 : decode cX5_isMeadow 13 = .ok (.if_icmp .ne 7, 3) := dk_160 0 7 (dk_at dksX5_isMeadow_0 13 rfl rfl)
theorem dX5_isMeadow_16 : decode cX5_isMeadow 16 = .ok (.iconst 1, 1) := dk_4 (dk_at dksX5_isMeadow_0 16 rfl rfl)
theorem dX5_isMeadow_17 : decode cX5_isMeadow 17 = .ok (.goto 4, 3) := dk_167 0 4 (dk_at dksX5_isMeadow_0 17 rfl rfl)
theorem dX5_isMeadow_20 : decode cX5_isMeadow 20 = .ok (.iconst 0, 1) := dk_3 (dk_at dksX5_isMeadow_0 20 rfl rfl)
theorem dX5_isMeadow_21 : decode cX5_isMeadow 21 = .ok (.ireturn, 1) := dk_172 (dk_at dksX5_isMeadow_0 21 rfl rfl)
abbrev cX5_urn : ByteArray := prog_2_method_40_code
def yX5_urn : MethodName := ⟨RX5, "urn", "(LChurchyardBook$Grave;LChurchyardBook$Person;)V"⟩
def dkwX5_urn_3 : List UInt8 := [182, 1, 36, 177, 132, 3, 1, 167, 255, 183, 177]
abbrev dktX5_urn_3 : List UInt8 := dkwX5_urn_3 ++ []
def dkwX5_urn_2 : List UInt8 := [180, 1, 78, 182, 0, 31, 16, 40, 160, 0, 6, 167, 0, 16, 25, 4, 44, 3, 3, 42, 180, 0, 149]
abbrev dktX5_urn_2 : List UInt8 := dkwX5_urn_2 ++ dktX5_urn_3
def dkwX5_urn_1 : List UInt8 := [182, 0, 35, 192, 0, 39, 58, 4, 42, 25, 4, 43, 180, 1, 71, 182, 1, 74, 153, 0, 32, 25, 4]
abbrev dktX5_urn_1 : List UInt8 := dkwX5_urn_1 ++ dktX5_urn_2
def dkwX5_urn_0 : List UInt8 := [3, 62, 29, 42, 180, 0, 25, 182, 0, 31, 162, 0, 68, 44, 198, 0, 64, 42, 180, 0, 25, 29]
abbrev dktX5_urn_0 : List UInt8 := dkwX5_urn_0 ++ dktX5_urn_1
theorem dksX5_urn_0 : cX5_urn.data.toList.drop 0 = dktX5_urn_0 := by decide +kernel
theorem dksX5_urn_1 : cX5_urn.data.toList.drop 22 = dktX5_urn_1 := dk_seg dksX5_urn_0 22 rfl rfl
theorem dksX5_urn_2 : cX5_urn.data.toList.drop 45 = dktX5_urn_2 := dk_seg dksX5_urn_1 23 rfl rfl
theorem dksX5_urn_3 : cX5_urn.data.toList.drop 68 = dktX5_urn_3 := dk_seg dksX5_urn_2 23 rfl rfl
theorem dX5_urn_0 : decode cX5_urn 0 = .ok (.iconst 0, 1) := dk_3 (dk_at dksX5_urn_0 0 rfl rfl)
theorem dX5_urn_1 : decode cX5_urn 1 = .ok (.istore_n 3, 1) := dk_62 (dk_at dksX5_urn_0 1 rfl rfl)
theorem dX5_urn_2 : decode cX5_urn 2 = .ok (.iload_n 3, 1) := dk_29 (dk_at dksX5_urn_0 2 rfl rfl)
theorem dX5_urn_3 : decode cX5_urn 3 = .ok (.aload_n 0, 1) := dk_42 (dk_at dksX5_urn_0 3 rfl rfl)
theorem dX5_urn_4 : decode cX5_urn 4 = .ok (.getfield 25, 3) := dk_180 0 25 (dk_at dksX5_urn_0 4 rfl rfl)
theorem dX5_urn_7 : decode cX5_urn 7 = .ok (.invokevirtual 31, 3) := dk_182 0 31 (dk_at dksX5_urn_0 7 rfl rfl)
theorem dX5_urn_10 : decode cX5_urn 10 = .ok (.if_icmp .ge 68, 3) := dk_162 0 68 (dk_at dksX5_urn_0 10 rfl rfl)
theorem dX5_urn_13 : decode cX5_urn 13 = .ok (.aload_n 2, 1) := dk_44 (dk_at dksX5_urn_0 13 rfl rfl)
theorem dX5_urn_14 : decode cX5_urn 14 = .ok (.ifnull 64, 3) := dk_198 0 64 (dk_at dksX5_urn_0 14 rfl rfl)
theorem dX5_urn_17 : decode cX5_urn 17 = .ok (.aload_n 0, 1) := dk_42 (dk_at dksX5_urn_0 17 rfl rfl)
theorem dX5_urn_18 : decode cX5_urn 18 = .ok (.getfield 25, 3) := dk_180 0 25 (dk_at dksX5_urn_0 18 rfl rfl)
theorem dX5_urn_21 : decode cX5_urn 21 = .ok (.iload_n 3, 1) := dk_29 (dk_at dksX5_urn_0 21 rfl rfl)
theorem dX5_urn_22 : decode cX5_urn 22 = .ok (.invokevirtual 35, 3) := dk_182 0 35 (dk_at dksX5_urn_1 0 rfl rfl)
theorem dX5_urn_25 : decode cX5_urn 25 = .ok (.checkcast 39, 3) := dk_192 0 39 (dk_at dksX5_urn_1 3 rfl rfl)
theorem dX5_urn_28 : decode cX5_urn 28 = .ok (.astore 4, 2) := dk_58 4 (dk_at dksX5_urn_1 6 rfl rfl)
theorem dX5_urn_30 : decode cX5_urn 30 = .ok (.aload_n 0, 1) := dk_42 (dk_at dksX5_urn_1 8 rfl rfl)
theorem dX5_urn_31 : decode cX5_urn 31 = .ok (.aload 4, 2) := dk_25 4 (dk_at dksX5_urn_1 9 rfl rfl)
theorem dX5_urn_33 : decode cX5_urn 33 = .ok (.aload_n 1, 1) := dk_43 (dk_at dksX5_urn_1 11 rfl rfl)
theorem dX5_urn_34 : decode cX5_urn 34 = .ok (.getfield 327, 3) := dk_180 1 71 (dk_at dksX5_urn_1 12 rfl rfl)
theorem dX5_urn_37 : decode cX5_urn 37 = .ok (.invokevirtual 330, 3) := dk_182 1 74 (dk_at dksX5_urn_1 15 rfl rfl)
theorem dX5_urn_40 : decode cX5_urn 40 = .ok (.ifCond .eq 32, 3) := dk_153 0 32 (dk_at dksX5_urn_1 18 rfl rfl)
theorem dX5_urn_43 : decode cX5_urn 43 = .ok (.aload 4, 2) := dk_25 4 (dk_at dksX5_urn_1 21 rfl rfl)
theorem dX5_urn_45 : decode cX5_urn 45 = .ok (.getfield 334, 3) := dk_180 1 78 (dk_at dksX5_urn_2 0 rfl rfl)
theorem dX5_urn_48 : decode cX5_urn 48 = .ok (.invokevirtual 31, 3) := dk_182 0 31 (dk_at dksX5_urn_2 3 rfl rfl)
theorem dX5_urn_51 : decode cX5_urn 51 = .ok (.bipush 40, 2) := dk_16 40 (dk_at dksX5_urn_2 6 rfl rfl)
theorem dX5_urn_53 : decode cX5_urn 53 = .ok (.if_icmp .ne 6, 3) := dk_160 0 6 (dk_at dksX5_urn_2 8 rfl rfl)
theorem dX5_urn_56 : decode cX5_urn 56 = .ok (.goto 16, 3) := dk_167 0 16 (dk_at dksX5_urn_2 11 rfl rfl)
theorem dX5_urn_59 : decode cX5_urn 59 = .ok (.aload 4, 2) := dk_25 4 (dk_at dksX5_urn_2 14 rfl rfl)
theorem dX5_urn_61 : decode cX5_urn 61 = .ok (.aload_n 2, 1) := dk_44 (dk_at dksX5_urn_2 16 rfl rfl)
theorem dX5_urn_62 : decode cX5_urn 62 = .ok (.iconst 0, 1) := dk_3 (dk_at dksX5_urn_2 17 rfl rfl)
theorem dX5_urn_63 : decode cX5_urn 63 = .ok (.iconst 0, 1) := dk_3 (dk_at dksX5_urn_2 18 rfl rfl)
theorem dX5_urn_64 : decode cX5_urn 64 = .ok (.aload_n 0, 1) := dk_42 (dk_at dksX5_urn_2 19 rfl rfl)
theorem dX5_urn_65 : decode cX5_urn 65 = .ok (.getfield 149, 3) := dk_180 0 149 (dk_at dksX5_urn_2 20 rfl rfl)
theorem dX5_urn_68 : decode cX5_urn 68 = .ok (.invokevirtual 292, 3) := dk_182 1 36 (dk_at dksX5_urn_3 0 rfl rfl)
theorem dX5_urn_71 : decode cX5_urn 71 = .ok (.return_, 1) := dk_177 (dk_at dksX5_urn_3 3 rfl rfl)
theorem dX5_urn_72 : decode cX5_urn 72 = .ok (.iinc 3 1, 3) := dk_132 3 1 (dk_at dksX5_urn_3 4 rfl rfl)
theorem dX5_urn_75 : decode cX5_urn 75 = .ok (.goto (-73), 3) := dk_167 255 183 (dk_at dksX5_urn_3 7 rfl rfl)
theorem dX5_urn_78 : decode cX5_urn 78 = .ok (.return_, 1) := dk_177 (dk_at dksX5_urn_3 10 rfl rfl)
abbrev cX5_goes : ByteArray := prog_2_method_41_code
def yX5_goes : MethodName := ⟨RX5, "goes", "(LChurchyardBook$Person;)V"⟩
def dkwX5_goes_0 : List UInt8 := [43, 4, 181, 1, 98, 43, 42, 180, 0, 149, 1, 3, 3, 182, 1, 101, 177]
abbrev dktX5_goes_0 : List UInt8 := dkwX5_goes_0 ++ []
theorem dksX5_goes_0 : cX5_goes.data.toList.drop 0 = dktX5_goes_0 := by decide +kernel
theorem dX5_goes_0 : decode cX5_goes 0 = .ok (.aload_n 1, 1) := dk_43 (dk_at dksX5_goes_0 0 rfl rfl)
theorem dX5_goes_1 : decode cX5_goes 1 = .ok (.iconst 1, 1) := dk_4 (dk_at dksX5_goes_0 1 rfl rfl)
theorem dX5_goes_2 : decode cX5_goes 2 = .ok (.putfield 354, 3) := dk_181 1 98 (dk_at dksX5_goes_0 2 rfl rfl)
theorem dX5_goes_5 : decode cX5_goes 5 = .ok (.aload_n 1, 1) := dk_43 (dk_at dksX5_goes_0 5 rfl rfl)
theorem dX5_goes_6 : decode cX5_goes 6 = .ok (.aload_n 0, 1) := dk_42 (dk_at dksX5_goes_0 6 rfl rfl)
theorem dX5_goes_7 : decode cX5_goes 7 = .ok (.getfield 149, 3) := dk_180 0 149 (dk_at dksX5_goes_0 7 rfl rfl)
theorem dX5_goes_10 : decode cX5_goes 10 = .ok (.aconst_null, 1) := dk_1 (dk_at dksX5_goes_0 10 rfl rfl)
theorem dX5_goes_11 : decode cX5_goes 11 = .ok (.iconst 0, 1) := dk_3 (dk_at dksX5_goes_0 11 rfl rfl)
theorem dX5_goes_12 : decode cX5_goes 12 = .ok (.iconst 0, 1) := dk_3 (dk_at dksX5_goes_0 12 rfl rfl)
theorem dX5_goes_13 : decode cX5_goes 13 = .ok (.invokevirtual 357, 3) := dk_182 1 101 (dk_at dksX5_goes_0 13 rfl rfl)
theorem dX5_goes_16 : decode cX5_goes 16 = .ok (.return_, 1) := dk_177 (dk_at dksX5_goes_0 16 rfl rfl)
abbrev cX5_turn : ByteArray := prog_2_method_42_code
def yX5_turn : MethodName := ⟨RX5, "turn", "(I)I"⟩
def dkwX5_turn_3 : List UInt8 := [182, 1, 107, 132, 2, 1, 167, 255, 224, 42, 180, 0, 149, 172]
abbrev dktX5_turn_3 : List UInt8 := dkwX5_turn_3 ++ []
def dkwX5_turn_2 : List UInt8 := [180, 0, 25, 182, 0, 31, 162, 0, 27, 42, 180, 0, 25, 28, 182, 0, 35, 192, 0, 39, 42, 180, 0, 149]
abbrev dktX5_turn_2 : List UInt8 := dkwX5_turn_2 ++ dktX5_turn_3
def dkwX5_turn_1 : List UInt8 := [4, 167, 0, 4, 3, 2, 184, 0, 43, 42, 89, 180, 0, 149, 27, 96, 181, 0, 149, 3, 61, 28, 42]
abbrev dktX5_turn_1 : List UInt8 := dkwX5_turn_1 ++ dktX5_turn_2
def dkwX5_turn_0 : List UInt8 := [27, 4, 161, 0, 26, 27, 19, 1, 105, 163, 0, 19, 42, 180, 0, 149, 27, 96, 19, 1, 106, 163, 0, 7]
abbrev dktX5_turn_0 : List UInt8 := dkwX5_turn_0 ++ dktX5_turn_1
theorem dksX5_turn_0 : cX5_turn.data.toList.drop 0 = dktX5_turn_0 := by decide +kernel
theorem dksX5_turn_1 : cX5_turn.data.toList.drop 24 = dktX5_turn_1 := dk_seg dksX5_turn_0 24 rfl rfl
theorem dksX5_turn_2 : cX5_turn.data.toList.drop 47 = dktX5_turn_2 := dk_seg dksX5_turn_1 23 rfl rfl
theorem dksX5_turn_3 : cX5_turn.data.toList.drop 71 = dktX5_turn_3 := dk_seg dksX5_turn_2 24 rfl rfl
theorem dX5_turn_0 : decode cX5_turn 0 = .ok (.iload_n 1, 1) := dk_27 (dk_at dksX5_turn_0 0 rfl rfl)
theorem dX5_turn_1 : decode cX5_turn 1 = .ok (.iconst 1, 1) := dk_4 (dk_at dksX5_turn_0 1 rfl rfl)
theorem dX5_turn_2 : decode cX5_turn 2 = .ok (.if_icmp .lt 26, 3) := dk_161 0 26 (dk_at dksX5_turn_0 2 rfl rfl)
theorem dX5_turn_5 : decode cX5_turn 5 = .ok (.iload_n 1, 1) := dk_27 (dk_at dksX5_turn_0 5 rfl rfl)
theorem dX5_turn_6 : decode cX5_turn 6 = .ok (.ldc_w 361, 3) := dk_19 1 105 (dk_at dksX5_turn_0 6 rfl rfl)
theorem dX5_turn_9 : decode cX5_turn 9 = .ok (.if_icmp .gt 19, 3) := dk_163 0 19 (dk_at dksX5_turn_0 9 rfl rfl)
theorem dX5_turn_12 : decode cX5_turn 12 = .ok (.aload_n 0, 1) := dk_42 (dk_at dksX5_turn_0 12 rfl rfl)
theorem dX5_turn_13 : decode cX5_turn 13 = .ok (.getfield 149, 3) := dk_180 0 149 (dk_at dksX5_turn_0 13 rfl rfl)
theorem dX5_turn_16 : decode cX5_turn 16 = .ok (.iload_n 1, 1) := dk_27 (dk_at dksX5_turn_0 16 rfl rfl)
theorem dX5_turn_17 : decode cX5_turn 17 = .ok (.iadd, 1) := dk_96 (dk_at dksX5_turn_0 17 rfl rfl)
theorem dX5_turn_18 : decode cX5_turn 18 = .ok (.ldc_w 362, 3) := dk_19 1 106 (dk_at dksX5_turn_0 18 rfl rfl)
theorem dX5_turn_21 : decode cX5_turn 21 = .ok (.if_icmp .gt 7, 3) := dk_163 0 7 (dk_at dksX5_turn_0 21 rfl rfl)
theorem dX5_turn_24 : decode cX5_turn 24 = .ok (.iconst 1, 1) := dk_4 (dk_at dksX5_turn_1 0 rfl rfl)
theorem dX5_turn_25 : decode cX5_turn 25 = .ok (.goto 4, 3) := dk_167 0 4 (dk_at dksX5_turn_1 1 rfl rfl)
theorem dX5_turn_28 : decode cX5_turn 28 = .ok (.iconst 0, 1) := dk_3 (dk_at dksX5_turn_1 4 rfl rfl)
theorem dX5_turn_29 : decode cX5_turn 29 = .ok (.iconst (-1), 1) := dk_2 (dk_at dksX5_turn_1 5 rfl rfl)
theorem dX5_turn_30 : decode cX5_turn 30 = .ok (.invokestatic 43, 3) := dk_184 0 43 (dk_at dksX5_turn_1 6 rfl rfl)
theorem dX5_turn_33 : decode cX5_turn 33 = .ok (.aload_n 0, 1) := dk_42 (dk_at dksX5_turn_1 9 rfl rfl)
theorem dX5_turn_34 : decode cX5_turn 34 = .ok (.dup, 1) := dk_89 (dk_at dksX5_turn_1 10 rfl rfl)
theorem dX5_turn_35 : decode cX5_turn 35 = .ok (.getfield 149, 3) := dk_180 0 149 (dk_at dksX5_turn_1 11 rfl rfl)
theorem dX5_turn_38 : decode cX5_turn 38 = .ok (.iload_n 1, 1) := dk_27 (dk_at dksX5_turn_1 14 rfl rfl)
theorem dX5_turn_39 : decode cX5_turn 39 = .ok (.iadd, 1) := dk_96 (dk_at dksX5_turn_1 15 rfl rfl)
theorem dX5_turn_40 : decode cX5_turn 40 = .ok (.putfield 149, 3) := dk_181 0 149 (dk_at dksX5_turn_1 16 rfl rfl)
theorem dX5_turn_43 : decode cX5_turn 43 = .ok (.iconst 0, 1) := dk_3 (dk_at dksX5_turn_1 19 rfl rfl)
theorem dX5_turn_44 : decode cX5_turn 44 = .ok (.istore_n 2, 1) := dk_61 (dk_at dksX5_turn_1 20 rfl rfl)
theorem dX5_turn_45 : decode cX5_turn 45 = .ok (.iload_n 2, 1) := dk_28 (dk_at dksX5_turn_1 21 rfl rfl)
theorem dX5_turn_46 : decode cX5_turn 46 = .ok (.aload_n 0, 1) := dk_42 (dk_at dksX5_turn_1 22 rfl rfl)
theorem dX5_turn_47 : decode cX5_turn 47 = .ok (.getfield 25, 3) := dk_180 0 25 (dk_at dksX5_turn_2 0 rfl rfl)
theorem dX5_turn_50 : decode cX5_turn 50 = .ok (.invokevirtual 31, 3) := dk_182 0 31 (dk_at dksX5_turn_2 3 rfl rfl)
theorem dX5_turn_53 : decode cX5_turn 53 = .ok (.if_icmp .ge 27, 3) := dk_162 0 27 (dk_at dksX5_turn_2 6 rfl rfl)
theorem dX5_turn_56 : decode cX5_turn 56 = .ok (.aload_n 0, 1) := dk_42 (dk_at dksX5_turn_2 9 rfl rfl)
theorem dX5_turn_57 : decode cX5_turn 57 = .ok (.getfield 25, 3) := dk_180 0 25 (dk_at dksX5_turn_2 10 rfl rfl)
theorem dX5_turn_60 : decode cX5_turn 60 = .ok (.iload_n 2, 1) := dk_28 (dk_at dksX5_turn_2 13 rfl rfl)
theorem dX5_turn_61 : decode cX5_turn 61 = .ok (.invokevirtual 35, 3) := dk_182 0 35 (dk_at dksX5_turn_2 14 rfl rfl)
theorem dX5_turn_64 : decode cX5_turn 64 = .ok (.checkcast 39, 3) := dk_192 0 39 (dk_at dksX5_turn_2 17 rfl rfl)
theorem dX5_turn_67 : decode cX5_turn 67 = .ok (.aload_n 0, 1) := dk_42 (dk_at dksX5_turn_2 20 rfl rfl)
theorem dX5_turn_68 : decode cX5_turn 68 = .ok (.getfield 149, 3) := dk_180 0 149 (dk_at dksX5_turn_2 21 rfl rfl)
theorem dX5_turn_71 : decode cX5_turn 71 = .ok (.invokevirtual 363, 3) := dk_182 1 107 (dk_at dksX5_turn_3 0 rfl rfl)
theorem dX5_turn_74 : decode cX5_turn 74 = .ok (.iinc 2 1, 3) := dk_132 2 1 (dk_at dksX5_turn_3 3 rfl rfl)
theorem dX5_turn_77 : decode cX5_turn 77 = .ok (.goto (-32), 3) := dk_167 255 224 (dk_at dksX5_turn_3 6 rfl rfl)
theorem dX5_turn_80 : decode cX5_turn 80 = .ok (.aload_n 0, 1) := dk_42 (dk_at dksX5_turn_3 9 rfl rfl)
theorem dX5_turn_81 : decode cX5_turn 81 = .ok (.getfield 149, 3) := dk_180 0 149 (dk_at dksX5_turn_3 10 rfl rfl)
theorem dX5_turn_84 : decode cX5_turn 84 = .ok (.ireturn, 1) := dk_172 (dk_at dksX5_turn_3 13 rfl rfl)
abbrev cX5_isFree : ByteArray := prog_2_method_17_code
def yX5_isFree : MethodName := ⟨RX5, "isFree", "([LChurchyardBook$Place;IIILChurchyardBook$Grave;)Z"⟩
def dkwX5_isFree_4 : List UInt8 := [132, 7, 1, 167, 255, 225, 21, 6, 172]
abbrev dktX5_isFree_4 : List UInt8 := dkwX5_isFree_4 ++ []
def dkwX5_isFree_3 : List UInt8 := [162, 0, 28, 21, 6, 153, 0, 23, 43, 21, 7, 50, 199, 0, 7, 4, 167, 0, 4, 3, 54, 6]
abbrev dktX5_isFree_3 : List UInt8 := dkwX5_isFree_3 ++ dktX5_isFree_4
def dkwX5_isFree_2 : List UInt8 := [182, 0, 114, 154, 0, 7, 4, 167, 0, 4, 3, 54, 6, 28, 54, 7, 21, 7, 28, 21, 4, 96]
abbrev dktX5_isFree_2 : List UInt8 := dkwX5_isFree_2 ++ dktX5_isFree_3
def dkwX5_isFree_1 : List UInt8 := [29, 8, 159, 0, 26, 42, 43, 28, 4, 100, 182, 0, 114, 154, 0, 19, 42, 43, 28, 21, 4, 96]
abbrev dktX5_isFree_1 : List UInt8 := dkwX5_isFree_1 ++ dktX5_isFree_2
def dkwX5_isFree_0 : List UInt8 := [28, 21, 4, 96, 43, 190, 163, 0, 50, 42, 43, 25, 5, 182, 0, 145, 153, 0, 40, 29, 7, 159, 0, 31]
abbrev dktX5_isFree_0 : List UInt8 := dkwX5_isFree_0 ++ dktX5_isFree_1
theorem dksX5_isFree_0 : cX5_isFree.data.toList.drop 0 = dktX5_isFree_0 := by decide +kernel
theorem dksX5_isFree_1 : cX5_isFree.data.toList.drop 24 = dktX5_isFree_1 := dk_seg dksX5_isFree_0 24 rfl rfl
theorem dksX5_isFree_2 : cX5_isFree.data.toList.drop 46 = dktX5_isFree_2 := dk_seg dksX5_isFree_1 22 rfl rfl
theorem dksX5_isFree_3 : cX5_isFree.data.toList.drop 68 = dktX5_isFree_3 := dk_seg dksX5_isFree_2 22 rfl rfl
theorem dksX5_isFree_4 : cX5_isFree.data.toList.drop 90 = dktX5_isFree_4 := dk_seg dksX5_isFree_3 22 rfl rfl
theorem dX5_isFree_0 : decode cX5_isFree 0 = .ok (.iload_n 2, 1) := dk_28 (dk_at dksX5_isFree_0 0 rfl rfl)
theorem dX5_isFree_1 : decode cX5_isFree 1 = .ok (.iload 4, 2) := dk_21 4 (dk_at dksX5_isFree_0 1 rfl rfl)
theorem dX5_isFree_3 : decode cX5_isFree 3 = .ok (.iadd, 1) := dk_96 (dk_at dksX5_isFree_0 3 rfl rfl)
theorem dX5_isFree_4 : decode cX5_isFree 4 = .ok (.aload_n 1, 1) := dk_43 (dk_at dksX5_isFree_0 4 rfl rfl)
theorem dX5_isFree_5 : decode cX5_isFree 5 = .ok (.arraylength, 1) := dk_190 (dk_at dksX5_isFree_0 5 rfl rfl)
theorem dX5_isFree_6 : decode cX5_isFree 6 = .ok (.if_icmp .gt 50, 3) := dk_163 0 50 (dk_at dksX5_isFree_0 6 rfl rfl)
theorem dX5_isFree_9 : decode cX5_isFree 9 = .ok (.aload_n 0, 1) := dk_42 (dk_at dksX5_isFree_0 9 rfl rfl)
theorem dX5_isFree_10 : decode cX5_isFree 10 = .ok (.aload_n 1, 1) := dk_43 (dk_at dksX5_isFree_0 10 rfl rfl)
theorem dX5_isFree_11 : decode cX5_isFree 11 = .ok (.aload 5, 2) := dk_25 5 (dk_at dksX5_isFree_0 11 rfl rfl)
theorem dX5_isFree_13 : decode cX5_isFree 13 = .ok (.invokevirtual 145, 3) := dk_182 0 145 (dk_at dksX5_isFree_0 13 rfl rfl)
theorem dX5_isFree_16 : decode cX5_isFree 16 = .ok (.ifCond .eq 40, 3) := dk_153 0 40 (dk_at dksX5_isFree_0 16 rfl rfl)
theorem dX5_isFree_19 : decode cX5_isFree 19 = .ok (.iload_n 3, 1) := dk_29 (dk_at dksX5_isFree_0 19 rfl rfl)
theorem dX5_isFree_20 : decode cX5_isFree 20 = .ok (.iconst 4, 1) := dk_7 (dk_at dksX5_isFree_0 20 rfl rfl)
theorem dX5_isFree_21 : decode cX5_isFree 21 = .ok (.if_icmp .eq 31, 3) := dk_159 0 31 (dk_at dksX5_isFree_0 21 rfl rfl)
theorem dX5_isFree_24 : decode cX5_isFree 24 = .ok (.iload_n 3, 1) := dk_29 (dk_at dksX5_isFree_1 0 rfl rfl)
theorem dX5_isFree_25 : decode cX5_isFree 25 = .ok (.iconst 5, 1) := dk_8 (dk_at dksX5_isFree_1 1 rfl rfl)
theorem dX5_isFree_26 : decode cX5_isFree 26 = .ok (.if_icmp .eq 26, 3) := dk_159 0 26 (dk_at dksX5_isFree_1 2 rfl rfl)
theorem dX5_isFree_29 : decode cX5_isFree 29 = .ok (.aload_n 0, 1) := dk_42 (dk_at dksX5_isFree_1 5 rfl rfl)
theorem dX5_isFree_30 : decode cX5_isFree 30 = .ok (.aload_n 1, 1) := dk_43 (dk_at dksX5_isFree_1 6 rfl rfl)
theorem dX5_isFree_31 : decode cX5_isFree 31 = .ok (.iload_n 2, 1) := dk_28 (dk_at dksX5_isFree_1 7 rfl rfl)
theorem dX5_isFree_32 : decode cX5_isFree 32 = .ok (.iconst 1, 1) := dk_4 (dk_at dksX5_isFree_1 8 rfl rfl)
theorem dX5_isFree_33 : decode cX5_isFree 33 = .ok (.isub, 1) := dk_100 (dk_at dksX5_isFree_1 9 rfl rfl)
theorem dX5_isFree_34 : decode cX5_isFree 34 = .ok (.invokevirtual 114, 3) := dk_182 0 114 (dk_at dksX5_isFree_1 10 rfl rfl)
theorem dX5_isFree_37 : decode cX5_isFree 37 = .ok (.ifCond .ne 19, 3) := dk_154 0 19 (dk_at dksX5_isFree_1 13 rfl rfl)
theorem dX5_isFree_40 : decode cX5_isFree 40 = .ok (.aload_n 0, 1) := dk_42 (dk_at dksX5_isFree_1 16 rfl rfl)
theorem dX5_isFree_41 : decode cX5_isFree 41 = .ok (.aload_n 1, 1) := dk_43 (dk_at dksX5_isFree_1 17 rfl rfl)
theorem dX5_isFree_42 : decode cX5_isFree 42 = .ok (.iload_n 2, 1) := dk_28 (dk_at dksX5_isFree_1 18 rfl rfl)
theorem dX5_isFree_43 : decode cX5_isFree 43 = .ok (.iload 4, 2) := dk_21 4 (dk_at dksX5_isFree_1 19 rfl rfl)
theorem dX5_isFree_45 : decode cX5_isFree 45 = .ok (.iadd, 1) := dk_96 (dk_at dksX5_isFree_1 21 rfl rfl)
theorem dX5_isFree_46 : decode cX5_isFree 46 = .ok (.invokevirtual 114, 3) := dk_182 0 114 (dk_at dksX5_isFree_2 0 rfl rfl)
theorem dX5_isFree_49 : decode cX5_isFree 49 = .ok (.ifCond .ne 7, 3) := dk_154 0 7 (dk_at dksX5_isFree_2 3 rfl rfl)
theorem dX5_isFree_52 : decode cX5_isFree 52 = .ok (.iconst 1, 1) := dk_4 (dk_at dksX5_isFree_2 6 rfl rfl)
theorem dX5_isFree_53 : decode cX5_isFree 53 = .ok (.goto 4, 3) := dk_167 0 4 (dk_at dksX5_isFree_2 7 rfl rfl)
theorem dX5_isFree_56 : decode cX5_isFree 56 = .ok (.iconst 0, 1) := dk_3 (dk_at dksX5_isFree_2 10 rfl rfl)
theorem dX5_isFree_57 : decode cX5_isFree 57 = .ok (.istore 6, 2) := dk_54 6 (dk_at dksX5_isFree_2 11 rfl rfl)
theorem dX5_isFree_59 : decode cX5_isFree 59 = .ok (.iload_n 2, 1) := dk_28 (dk_at dksX5_isFree_2 13 rfl rfl)
theorem dX5_isFree_60 : decode cX5_isFree 60 = .ok (.istore 7, 2) := dk_54 7 (dk_at dksX5_isFree_2 14 rfl rfl)
theorem dX5_isFree_62 : decode cX5_isFree 62 = .ok (.iload 7, 2) := dk_21 7 (dk_at dksX5_isFree_2 16 rfl rfl)
theorem dX5_isFree_64 : decode cX5_isFree 64 = .ok (.iload_n 2, 1) := dk_28 (dk_at dksX5_isFree_2 18 rfl rfl)
theorem dX5_isFree_65 : decode cX5_isFree 65 = .ok (.iload 4, 2) := dk_21 4 (dk_at dksX5_isFree_2 19 rfl rfl)
theorem dX5_isFree_67 : decode cX5_isFree 67 = .ok (.iadd, 1) := dk_96 (dk_at dksX5_isFree_2 21 rfl rfl)
theorem dX5_isFree_68 : decode cX5_isFree 68 = .ok (.if_icmp .ge 28, 3) := dk_162 0 28 (dk_at dksX5_isFree_3 0 rfl rfl)
theorem dX5_isFree_71 : decode cX5_isFree 71 = .ok (.iload 6, 2) := dk_21 6 (dk_at dksX5_isFree_3 3 rfl rfl)
theorem dX5_isFree_73 : decode cX5_isFree 73 = .ok (.ifCond .eq 23, 3) := dk_153 0 23 (dk_at dksX5_isFree_3 5 rfl rfl)
theorem dX5_isFree_76 : decode cX5_isFree 76 = .ok (.aload_n 1, 1) := dk_43 (dk_at dksX5_isFree_3 8 rfl rfl)
theorem dX5_isFree_77 : decode cX5_isFree 77 = .ok (.iload 7, 2) := dk_21 7 (dk_at dksX5_isFree_3 9 rfl rfl)
theorem dX5_isFree_79 : decode cX5_isFree 79 = .ok (.aaload, 1) := dk_50 (dk_at dksX5_isFree_3 11 rfl rfl)
theorem dX5_isFree_80 : decode cX5_isFree 80 = .ok (.ifnonnull 7, 3) := dk_199 0 7 (dk_at dksX5_isFree_3 12 rfl rfl)
theorem dX5_isFree_83 : decode cX5_isFree 83 = .ok (.iconst 1, 1) := dk_4 (dk_at dksX5_isFree_3 15 rfl rfl)
theorem dX5_isFree_84 : decode cX5_isFree 84 = .ok (.goto 4, 3) := dk_167 0 4 (dk_at dksX5_isFree_3 16 rfl rfl)
theorem dX5_isFree_87 : decode cX5_isFree 87 = .ok (.iconst 0, 1) := dk_3 (dk_at dksX5_isFree_3 19 rfl rfl)
theorem dX5_isFree_88 : decode cX5_isFree 88 = .ok (.istore 6, 2) := dk_54 6 (dk_at dksX5_isFree_3 20 rfl rfl)
theorem dX5_isFree_90 : decode cX5_isFree 90 = .ok (.iinc 7 1, 3) := dk_132 7 1 (dk_at dksX5_isFree_4 0 rfl rfl)
theorem dX5_isFree_93 : decode cX5_isFree 93 = .ok (.goto (-31), 3) := dk_167 255 225 (dk_at dksX5_isFree_4 3 rfl rfl)
theorem dX5_isFree_96 : decode cX5_isFree 96 = .ok (.iload 6, 2) := dk_21 6 (dk_at dksX5_isFree_4 6 rfl rfl)
theorem dX5_isFree_98 : decode cX5_isFree 98 = .ok (.ireturn, 1) := dk_172 (dk_at dksX5_isFree_4 8 rfl rfl)
abbrev cX5_isOf : ByteArray := prog_2_method_16_code
def yX5_isOf : MethodName := ⟨RX5, "isOf", "([LChurchyardBook$Place;LChurchyardBook$Place;)Z"⟩
def dkwX5_isOf_1 : List UInt8 := [43, 193, 0, 143, 153, 0, 10, 44, 193, 0, 39, 153, 0, 7, 4, 167, 0, 4, 3, 172]
abbrev dktX5_isOf_1 : List UInt8 := dkwX5_isOf_1 ++ []
def dkwX5_isOf_0 : List UInt8 := [43, 193, 0, 135, 153, 0, 8, 44, 193, 0, 137, 172, 43, 193, 0, 139, 153, 0, 8, 44, 193, 0, 141, 172]
abbrev dktX5_isOf_0 : List UInt8 := dkwX5_isOf_0 ++ dktX5_isOf_1
theorem dksX5_isOf_0 : cX5_isOf.data.toList.drop 0 = dktX5_isOf_0 := by decide +kernel
theorem dksX5_isOf_1 : cX5_isOf.data.toList.drop 24 = dktX5_isOf_1 := dk_seg dksX5_isOf_0 24 rfl rfl
theorem dX5_isOf_0 : decode cX5_isOf 0 = .ok (.aload_n 1, 1) := dk_43 (dk_at dksX5_isOf_0 0 rfl rfl)
theorem dX5_isOf_1 : decode cX5_isOf 1 = .ok (.instanceof 135, 3) := dk_193 0 135 (dk_at dksX5_isOf_0 1 rfl rfl)
theorem dX5_isOf_4 : decode cX5_isOf 4 = .ok (.ifCond .eq 8, 3) := dk_153 0 8 (dk_at dksX5_isOf_0 4 rfl rfl)
theorem dX5_isOf_7 : decode cX5_isOf 7 = .ok (.aload_n 2, 1) := dk_44 (dk_at dksX5_isOf_0 7 rfl rfl)
theorem dX5_isOf_8 : decode cX5_isOf 8 = .ok (.instanceof 137, 3) := dk_193 0 137 (dk_at dksX5_isOf_0 8 rfl rfl)
theorem dX5_isOf_11 : decode cX5_isOf 11 = .ok (.ireturn, 1) := dk_172 (dk_at dksX5_isOf_0 11 rfl rfl)
theorem dX5_isOf_12 : decode cX5_isOf 12 = .ok (.aload_n 1, 1) := dk_43 (dk_at dksX5_isOf_0 12 rfl rfl)
theorem dX5_isOf_13 : decode cX5_isOf 13 = .ok (.instanceof 139, 3) := dk_193 0 139 (dk_at dksX5_isOf_0 13 rfl rfl)
theorem dX5_isOf_16 : decode cX5_isOf 16 = .ok (.ifCond .eq 8, 3) := dk_153 0 8 (dk_at dksX5_isOf_0 16 rfl rfl)
theorem dX5_isOf_19 : decode cX5_isOf 19 = .ok (.aload_n 2, 1) := dk_44 (dk_at dksX5_isOf_0 19 rfl rfl)
theorem dX5_isOf_20 : decode cX5_isOf 20 = .ok (.instanceof 141, 3) := dk_193 0 141 (dk_at dksX5_isOf_0 20 rfl rfl)
theorem dX5_isOf_23 : decode cX5_isOf 23 = .ok (.ireturn, 1) := dk_172 (dk_at dksX5_isOf_0 23 rfl rfl)
theorem dX5_isOf_24 : decode cX5_isOf 24 = .ok (.aload_n 1, 1) := dk_43 (dk_at dksX5_isOf_1 0 rfl rfl)
theorem dX5_isOf_25 : decode cX5_isOf 25 = .ok (.instanceof 143, 3) := dk_193 0 143 (dk_at dksX5_isOf_1 1 rfl rfl)
theorem dX5_isOf_28 : decode cX5_isOf 28 = .ok (.ifCond .eq 10, 3) := dk_153 0 10 (dk_at dksX5_isOf_1 4 rfl rfl)
theorem dX5_isOf_31 : decode cX5_isOf 31 = .ok (.aload_n 2, 1) := dk_44 (dk_at dksX5_isOf_1 7 rfl rfl)
theorem dX5_isOf_32 : decode cX5_isOf 32 = .ok (.instanceof 39, 3) := dk_193 0 39 (dk_at dksX5_isOf_1 8 rfl rfl)
theorem dX5_isOf_35 : decode cX5_isOf 35 = .ok (.ifCond .eq 7, 3) := dk_153 0 7 (dk_at dksX5_isOf_1 11 rfl rfl)
theorem dX5_isOf_38 : decode cX5_isOf 38 = .ok (.iconst 1, 1) := dk_4 (dk_at dksX5_isOf_1 14 rfl rfl)
theorem dX5_isOf_39 : decode cX5_isOf 39 = .ok (.goto 4, 3) := dk_167 0 4 (dk_at dksX5_isOf_1 15 rfl rfl)
theorem dX5_isOf_42 : decode cX5_isOf 42 = .ok (.iconst 0, 1) := dk_3 (dk_at dksX5_isOf_1 18 rfl rfl)
theorem dX5_isOf_43 : decode cX5_isOf 43 = .ok (.ireturn, 1) := dk_172 (dk_at dksX5_isOf_1 19 rfl rfl)
theorem q91 : (Jvm.Cond.initialized "ChurchyardBook$Book") ∈ lw_all := lw_g (lw_at lw_m1 5 rfl) rfl
theorem q150 : (Jvm.Cond.instantiable "ChurchyardBook$Book" (6 : Nat)) ∈ lw_all := lw_g (lw_at lw_m1 64 rfl) rfl
theorem q152 : (Jvm.Cond.instanceMethod ({ cls := "ChurchyardBook$Book", name := "<init>", desc := "(LChurchyardBook;)V" } : Jvm.MethodName)) ∈ lw_all := lw_g (lw_at lw_m1 66 rfl) rfl
theorem q153 : (Jvm.Cond.code ({ cls := "ChurchyardBook$Book", name := "<init>", desc := "(LChurchyardBook;)V" } : Jvm.MethodName) prog_2_method_1_code (2 : Nat) (Option.none : Option Jvm.ClassFile.FieldType)) ∈ lw_all := lw_g (lw_at lw_m1 67 rfl) rfl
theorem q154 : (Jvm.Cond.methodLink "ChurchyardBook$Book" (9 : Nat) ({ cls := "java/lang/Object", name := "<init>", desc := "()V" } : Jvm.MethodName)) ∈ lw_all := lw_g (lw_at lw_m1 68 rfl) rfl
theorem q155 : (Jvm.Cond.classLink "ChurchyardBook$Book" (15 : Nat) "java/util/ArrayList") ∈ lw_all := lw_g (lw_at lw_m1 69 rfl) rfl
theorem q157 : (Jvm.Cond.methodLink "ChurchyardBook$Book" (17 : Nat) ({ cls := "java/util/ArrayList", name := "<init>", desc := "(I)V" } : Jvm.MethodName)) ∈ lw_all := lw_g (lw_at lw_m1 71 rfl) rfl
theorem q183 : (Jvm.Cond.methodLink "ChurchyardBook$Book" (24 : Nat) ({ cls := "java/util/ArrayList", name := "<init>", desc := "()V" } : Jvm.MethodName)) ∈ lw_all := lw_g (lw_at lw_m1 97 rfl) rfl
theorem q188 : (Jvm.Cond.fieldLink "ChurchyardBook$Book" (20 : Nat) "ChurchyardBook$Book" "fields" "Ljava/util/ArrayList;") ∈ lw_all := lw_g (lw_at lw_m1 102 rfl) rfl
theorem q190 : (Jvm.Cond.fieldLink "ChurchyardBook$Book" (25 : Nat) "ChurchyardBook$Book" "graves" "Ljava/util/ArrayList;") ∈ lw_all := lw_g (lw_at lw_m1 104 rfl) rfl
theorem q192 : (Jvm.Cond.fieldLink "ChurchyardBook$Book" (28 : Nat) "ChurchyardBook$Book" "persons" "Ljava/util/ArrayList;") ∈ lw_all := lw_g (lw_at lw_m1 106 rfl) rfl
theorem q194 : (Jvm.Cond.fieldLink "ChurchyardBook$Book" (149 : Nat) "ChurchyardBook$Book" "today" "I") ∈ lw_all := lw_g (lw_at lw_m1 108 rfl) rfl
theorem q196 : (Jvm.Cond.fieldLink "ChurchyardBook$Book" (208 : Nat) "ChurchyardBook$Book" "prices" "I") ∈ lw_all := lw_g (lw_at lw_m1 110 rfl) rfl
theorem q198 : (Jvm.Cond.fieldLink "ChurchyardBook$Book" (3 : Nat) "ChurchyardBook$Book" "this$0" "LChurchyardBook;") ∈ lw_all := lw_g (lw_at lw_m1 112 rfl) rfl
theorem q199 : (Jvm.Cond.laysFinal "ChurchyardBook$Book" "ChurchyardBook$Book" "fields" "Ljava/util/ArrayList;") ∈ lw_all := lw_g (lw_at lw_m1 113 rfl) rfl
theorem q200 : (Jvm.Cond.soleField "ChurchyardBook$Book" "fields") ∈ lw_all := lw_g (lw_at lw_m1 114 rfl) rfl
theorem q201 : (Jvm.Cond.laysFinal "ChurchyardBook$Book" "ChurchyardBook$Book" "graves" "Ljava/util/ArrayList;") ∈ lw_all := lw_g (lw_at lw_m1 115 rfl) rfl
theorem q202 : (Jvm.Cond.soleField "ChurchyardBook$Book" "graves") ∈ lw_all := lw_g (lw_at lw_m1 116 rfl) rfl
theorem q203 : (Jvm.Cond.laysFinal "ChurchyardBook$Book" "ChurchyardBook$Book" "persons" "Ljava/util/ArrayList;") ∈ lw_all := lw_g (lw_at lw_m1 117 rfl) rfl
theorem q204 : (Jvm.Cond.soleField "ChurchyardBook$Book" "persons") ∈ lw_all := lw_g (lw_at lw_m1 118 rfl) rfl
theorem q205 : (Jvm.Cond.lays "ChurchyardBook$Book" "ChurchyardBook$Book" "today" "I") ∈ lw_all := lw_g (lw_at lw_m1 119 rfl) rfl
theorem q206 : (Jvm.Cond.soleField "ChurchyardBook$Book" "today") ∈ lw_all := lw_g (lw_at lw_m1 120 rfl) rfl
theorem q207 : (Jvm.Cond.lays "ChurchyardBook$Book" "ChurchyardBook$Book" "prices" "I") ∈ lw_all := lw_g (lw_at lw_m1 121 rfl) rfl
theorem q208 : (Jvm.Cond.soleField "ChurchyardBook$Book" "prices") ∈ lw_all := lw_g (lw_at lw_m1 122 rfl) rfl
theorem q209 : (Jvm.Cond.laysFinal "ChurchyardBook$Book" "ChurchyardBook$Book" "this$0" "LChurchyardBook;") ∈ lw_all := lw_g (lw_at lw_m1 123 rfl) rfl
theorem q210 : (Jvm.Cond.soleField "ChurchyardBook$Book" "this$0") ∈ lw_all := lw_g (lw_at lw_m1 124 rfl) rfl
theorem q211 : (Jvm.Cond.superclass "ChurchyardBook$Book" "java/lang/Object") ∈ lw_all := lw_g (lw_at lw_m1 125 rfl) rfl
theorem q213 : (Jvm.Cond.fieldLinkNest "ChurchyardBook$Book" (102 : Nat) "ChurchyardBook" "tree" "LChurchyardBook$Tree;" "ChurchyardBook") ∈ lw_tbl := lw_at lw_m1 127 rfl
theorem q215 : (Jvm.Cond.fieldLinkNest "ChurchyardBook$Book" (106 : Nat) "ChurchyardBook" "way" "LChurchyardBook$Way;" "ChurchyardBook") ∈ lw_tbl := lw_at lw_m1 129 rfl
theorem q260 : (Jvm.Cond.instanceMethod ({ cls := "ChurchyardBook$Book", name := "works", desc := "(IIIIII)I" } : Jvm.MethodName)) ∈ lw_all := lw_g (lw_at lw_m1 174 rfl) rfl
theorem q261 : (Jvm.Cond.selects "ChurchyardBook$Book" ({ cls := "ChurchyardBook$Book", name := "works", desc := "(IIIIII)I" } : Jvm.MethodName) ({ cls := "ChurchyardBook$Book", name := "works", desc := "(IIIIII)I" } : Jvm.MethodName)) ∈ lw_all := lw_g (lw_at lw_m1 175 rfl) rfl
theorem q262 : (Jvm.Cond.code ({ cls := "ChurchyardBook$Book", name := "works", desc := "(IIIIII)I" } : Jvm.MethodName) prog_2_method_43_code (8 : Nat) (Option.some Jvm.ClassFile.FieldType.int)) ∈ lw_all := lw_g (lw_at lw_m1 176 rfl) rfl
theorem q263 : (Jvm.Cond.methodLinkNest "ChurchyardBook$Book" (43 : Nat) ({ cls := "ChurchyardBook", name := "need", desc := "(ZI)V" } : Jvm.MethodName) "ChurchyardBook") ∈ lw_tbl := lw_at lw_m1 177 rfl
theorem q345 : (Jvm.Cond.methodLink "ChurchyardBook$Book" (366 : Nat) ({ cls := "ChurchyardBook$Book", name := "field", desc := "(I)I" } : Jvm.MethodName)) ∈ lw_all := lw_g (lw_at lw_m2 19 rfl) rfl
theorem q346 : (Jvm.Cond.instanceMethod ({ cls := "ChurchyardBook$Book", name := "field", desc := "(I)I" } : Jvm.MethodName)) ∈ lw_all := lw_g (lw_at lw_m2 20 rfl) rfl
theorem q347 : (Jvm.Cond.selects "ChurchyardBook$Book" ({ cls := "ChurchyardBook$Book", name := "field", desc := "(I)I" } : Jvm.MethodName) ({ cls := "ChurchyardBook$Book", name := "field", desc := "(I)I" } : Jvm.MethodName)) ∈ lw_all := lw_g (lw_at lw_m2 21 rfl) rfl
theorem q348 : (Jvm.Cond.code ({ cls := "ChurchyardBook$Book", name := "field", desc := "(I)I" } : Jvm.MethodName) prog_2_method_10_code (2 : Nat) (Option.some Jvm.ClassFile.FieldType.int)) ∈ lw_all := lw_g (lw_at lw_m2 22 rfl) rfl
theorem q349 : (Jvm.Cond.methodLink "ChurchyardBook$Book" (31 : Nat) ({ cls := "java/util/ArrayList", name := "size", desc := "()I" } : Jvm.MethodName)) ∈ lw_all := lw_g (lw_at lw_m2 23 rfl) rfl
theorem q353 : (Jvm.Cond.classLink "ChurchyardBook$Book" (47 : Nat) "ChurchyardBook$Field") ∈ lw_all := lw_g (lw_at lw_m2 27 rfl) rfl
theorem q355 : (Jvm.Cond.methodLink "ChurchyardBook$Book" (76 : Nat) ({ cls := "ChurchyardBook$Field", name := "<init>", desc := "(I)V" } : Jvm.MethodName)) ∈ lw_all := lw_g (lw_at lw_m2 29 rfl) rfl
theorem q363 : (Jvm.Cond.fieldLink "ChurchyardBook$Book" (125 : Nat) "ChurchyardBook$Field" "ground" "I") ∈ lw_all := lw_g (lw_at lw_m2 37 rfl) rfl
theorem q365 : (Jvm.Cond.fieldLink "ChurchyardBook$Book" (53 : Nat) "ChurchyardBook$Field" "rows" "[[LChurchyardBook$Place;") ∈ lw_all := lw_g (lw_at lw_m2 39 rfl) rfl
theorem q367 : (Jvm.Cond.fieldLink "ChurchyardBook$Book" (49 : Nat) "ChurchyardBook$Field" "many" "I") ∈ lw_all := lw_g (lw_at lw_m2 41 rfl) rfl
theorem q376 : (Jvm.Cond.methodLink "ChurchyardBook$Book" (77 : Nat) ({ cls := "java/util/ArrayList", name := "add", desc := "(Ljava/lang/Object;)Z" } : Jvm.MethodName)) ∈ lw_all := lw_g (lw_at lw_m2 50 rfl) rfl
theorem q409 : (Jvm.Cond.selects "ChurchyardBook$Book" ({ cls := "java/lang/Object", name := "getClass", desc := "()Ljava/lang/Class;" } : Jvm.MethodName) ({ cls := "java/lang/Object", name := "getClass", desc := "()Ljava/lang/Class;" } : Jvm.MethodName)) ∈ lw_all := lw_g (lw_at lw_m2 83 rfl) rfl
theorem q441 : (Jvm.Cond.methodLink "ChurchyardBook$Book" (368 : Nat) ({ cls := "ChurchyardBook$Book", name := "newRow", desc := "(III)I" } : Jvm.MethodName)) ∈ lw_all := lw_g (lw_at lw_m2 115 rfl) rfl
theorem q442 : (Jvm.Cond.instanceMethod ({ cls := "ChurchyardBook$Book", name := "newRow", desc := "(III)I" } : Jvm.MethodName)) ∈ lw_all := lw_g (lw_at lw_m2 116 rfl) rfl
theorem q443 : (Jvm.Cond.selects "ChurchyardBook$Book" ({ cls := "ChurchyardBook$Book", name := "newRow", desc := "(III)I" } : Jvm.MethodName) ({ cls := "ChurchyardBook$Book", name := "newRow", desc := "(III)I" } : Jvm.MethodName)) ∈ lw_all := lw_g (lw_at lw_m2 117 rfl) rfl
theorem q444 : (Jvm.Cond.codeWith ({ cls := "ChurchyardBook$Book", name := "newRow", desc := "(III)I" } : Jvm.MethodName) prog_2_method_11_code (6 : Nat) (Option.some Jvm.ClassFile.FieldType.int) [((72 : Nat), (88 : Nat), (91 : Nat), (85 : Nat))]) ∈ lw_all := lw_g (lw_at lw_m2 118 rfl) rfl
theorem q445 : (Jvm.Cond.classLink "ChurchyardBook$Book" (85 : Nat) "java/lang/NegativeArraySizeException") ∈ lw_all := lw_g (lw_at lw_m2 119 rfl) rfl
theorem q475 : (Jvm.Cond.methodLink "ChurchyardBook$Book" (35 : Nat) ({ cls := "java/util/ArrayList", name := "get", desc := "(I)Ljava/lang/Object;" } : Jvm.MethodName)) ∈ lw_all := lw_g (lw_at lw_m2 149 rfl) rfl
theorem q489 : (Jvm.Cond.methodLinkNest "ChurchyardBook$Book" (81 : Nat) ({ cls := "ChurchyardBook", name := "newRow", desc := "(II)[LChurchyardBook$Place;" } : Jvm.MethodName) "ChurchyardBook") ∈ lw_tbl := lw_at lw_m2 163 rfl
theorem q499 : (Jvm.Cond.classLink "ChurchyardBook$Book" (59 : Nat) "ChurchyardBook$Refused") ∈ lw_all := lw_g (lw_at lw_m2 173 rfl) rfl
theorem q500 : (Jvm.Cond.methodLink "ChurchyardBook$Book" (61 : Nat) ({ cls := "ChurchyardBook$Refused", name := "<init>", desc := "(I)V" } : Jvm.MethodName)) ∈ lw_all := lw_g (lw_at lw_m2 174 rfl) rfl
theorem q501 : (Jvm.Cond.methodLink "ChurchyardBook$Book" (371 : Nat) ({ cls := "ChurchyardBook$Book", name := "tear", desc := "(II)I" } : Jvm.MethodName)) ∈ lw_all := lw_g (lw_at lw_m2 175 rfl) rfl
theorem q502 : (Jvm.Cond.instanceMethod ({ cls := "ChurchyardBook$Book", name := "tear", desc := "(II)I" } : Jvm.MethodName)) ∈ lw_all := lw_g (lw_at lw_m2 176 rfl) rfl
theorem q503 : (Jvm.Cond.selects "ChurchyardBook$Book" ({ cls := "ChurchyardBook$Book", name := "tear", desc := "(II)I" } : Jvm.MethodName) ({ cls := "ChurchyardBook$Book", name := "tear", desc := "(II)I" } : Jvm.MethodName)) ∈ lw_all := lw_g (lw_at lw_m2 177 rfl) rfl
theorem q504 : (Jvm.Cond.code ({ cls := "ChurchyardBook$Book", name := "tear", desc := "(II)I" } : Jvm.MethodName) prog_2_method_12_code (8 : Nat) (Option.some Jvm.ClassFile.FieldType.int)) ∈ lw_all := lw_g (lw_at lw_m2 178 rfl) rfl
theorem q505 : (Jvm.Cond.methodLink "ChurchyardBook$Book" (87 : Nat) ({ cls := "ChurchyardBook$Book", name := "row", desc := "(II)[LChurchyardBook$Place;" } : Jvm.MethodName)) ∈ lw_all := lw_g (lw_at lw_m2 179 rfl) rfl
theorem q506 : (Jvm.Cond.instanceMethod ({ cls := "ChurchyardBook$Book", name := "row", desc := "(II)[LChurchyardBook$Place;" } : Jvm.MethodName)) ∈ lw_all := lw_g (lw_at lw_m2 180 rfl) rfl
theorem q507 : (Jvm.Cond.selects "ChurchyardBook$Book" ({ cls := "ChurchyardBook$Book", name := "row", desc := "(II)[LChurchyardBook$Place;" } : Jvm.MethodName) ({ cls := "ChurchyardBook$Book", name := "row", desc := "(II)[LChurchyardBook$Place;" } : Jvm.MethodName)) ∈ lw_all := lw_g (lw_at lw_m2 181 rfl) rfl
theorem q508 : (Jvm.Cond.codeWith ({ cls := "ChurchyardBook$Book", name := "row", desc := "(II)[LChurchyardBook$Place;" } : Jvm.MethodName) prog_2_method_4_code (5 : Nat) (Option.some (Jvm.ClassFile.FieldType.array (Jvm.ClassFile.FieldType.object "ChurchyardBook$Place"))) [((59 : Nat), (79 : Nat), (82 : Nat), (57 : Nat))]) ∈ lw_all := lw_g (lw_at lw_m2 182 rfl) rfl
theorem q509 : (Jvm.Cond.classLink "ChurchyardBook$Book" (57 : Nat) "java/lang/NullPointerException") ∈ lw_all := lw_g (lw_at lw_m2 183 rfl) rfl
theorem q531 : (Jvm.Cond.classLink "ChurchyardBook$Book" (39 : Nat) "ChurchyardBook$Grave") ∈ lw_all := lw_g (lw_at lw_m2 205 rfl) rfl
theorem q532 : (Jvm.Cond.methodLink "ChurchyardBook$Book" (374 : Nat) ({ cls := "ChurchyardBook$Book", name := "place", desc := "(IIII)I" } : Jvm.MethodName)) ∈ lw_all := lw_g (lw_at lw_m2 206 rfl) rfl
theorem q533 : (Jvm.Cond.instanceMethod ({ cls := "ChurchyardBook$Book", name := "place", desc := "(IIII)I" } : Jvm.MethodName)) ∈ lw_all := lw_g (lw_at lw_m2 207 rfl) rfl
theorem q534 : (Jvm.Cond.selects "ChurchyardBook$Book" ({ cls := "ChurchyardBook$Book", name := "place", desc := "(IIII)I" } : Jvm.MethodName) ({ cls := "ChurchyardBook$Book", name := "place", desc := "(IIII)I" } : Jvm.MethodName)) ∈ lw_all := lw_g (lw_at lw_m2 208 rfl) rfl
theorem q535 : (Jvm.Cond.code ({ cls := "ChurchyardBook$Book", name := "place", desc := "(IIII)I" } : Jvm.MethodName) prog_2_method_13_code (7 : Nat) (Option.some Jvm.ClassFile.FieldType.int)) ∈ lw_all := lw_g (lw_at lw_m2 209 rfl) rfl
theorem q536 : (Jvm.Cond.methodLink "ChurchyardBook$Book" (90 : Nat) ({ cls := "ChurchyardBook$Book", name := "at", desc := "([LChurchyardBook$Place;I)LChurchyardBook$Place;" } : Jvm.MethodName)) ∈ lw_all := lw_g (lw_at lw_m2 210 rfl) rfl
theorem q537 : (Jvm.Cond.instanceMethod ({ cls := "ChurchyardBook$Book", name := "at", desc := "([LChurchyardBook$Place;I)LChurchyardBook$Place;" } : Jvm.MethodName)) ∈ lw_all := lw_g (lw_at lw_m2 211 rfl) rfl
theorem q538 : (Jvm.Cond.selects "ChurchyardBook$Book" ({ cls := "ChurchyardBook$Book", name := "at", desc := "([LChurchyardBook$Place;I)LChurchyardBook$Place;" } : Jvm.MethodName) ({ cls := "ChurchyardBook$Book", name := "at", desc := "([LChurchyardBook$Place;I)LChurchyardBook$Place;" } : Jvm.MethodName)) ∈ lw_all := lw_g (lw_at lw_m2 212 rfl) rfl
theorem q539 : (Jvm.Cond.codeWith ({ cls := "ChurchyardBook$Book", name := "at", desc := "([LChurchyardBook$Place;I)LChurchyardBook$Place;" } : Jvm.MethodName) prog_2_method_5_code (4 : Nat) (Option.some (Jvm.ClassFile.FieldType.object "ChurchyardBook$Place")) [((0 : Nat), (3 : Nat), (4 : Nat), (62 : Nat))]) ∈ lw_all := lw_g (lw_at lw_m2 213 rfl) rfl
theorem q540 : (Jvm.Cond.classLink "ChurchyardBook$Book" (62 : Nat) "java/lang/ArrayIndexOutOfBoundsException") ∈ lw_all := lw_g (lw_at lw_m2 214 rfl) rfl
theorem q559 : (Jvm.Cond.methodLink "ChurchyardBook$Book" (94 : Nat) ({ cls := "ChurchyardBook$Book", name := "isGrave", desc := "(LChurchyardBook$Place;)Z" } : Jvm.MethodName)) ∈ lw_all := lw_g (lw_at lw_m2 233 rfl) rfl
theorem q560 : (Jvm.Cond.instanceMethod ({ cls := "ChurchyardBook$Book", name := "isGrave", desc := "(LChurchyardBook$Place;)Z" } : Jvm.MethodName)) ∈ lw_all := lw_g (lw_at lw_m2 234 rfl) rfl
theorem q561 : (Jvm.Cond.selects "ChurchyardBook$Book" ({ cls := "ChurchyardBook$Book", name := "isGrave", desc := "(LChurchyardBook$Place;)Z" } : Jvm.MethodName) ({ cls := "ChurchyardBook$Book", name := "isGrave", desc := "(LChurchyardBook$Place;)Z" } : Jvm.MethodName)) ∈ lw_all := lw_g (lw_at lw_m2 235 rfl) rfl
theorem q562 : (Jvm.Cond.codeWith ({ cls := "ChurchyardBook$Book", name := "isGrave", desc := "(LChurchyardBook$Place;)Z" } : Jvm.MethodName) prog_2_method_6_code (3 : Nat) (Option.some Jvm.ClassFile.FieldType.boolean) [((0 : Nat), (14 : Nat), (15 : Nat), (64 : Nat))]) ∈ lw_all := lw_g (lw_at lw_m2 236 rfl) rfl
theorem q563 : (Jvm.Cond.classLink "ChurchyardBook$Book" (64 : Nat) "java/lang/ClassCastException") ∈ lw_all := lw_g (lw_at lw_m2 237 rfl) rfl
theorem q577 : (Jvm.Cond.methodLink "ChurchyardBook$Book" (98 : Nat) ({ cls := "ChurchyardBook$Book", name := "shuns", desc := "([LChurchyardBook$Place;I)Z" } : Jvm.MethodName)) ∈ lw_all := lw_g (lw_at lw_m3 11 rfl) rfl
theorem q578 : (Jvm.Cond.privateMethod ({ cls := "ChurchyardBook$Book", name := "shuns", desc := "([LChurchyardBook$Place;I)Z" } : Jvm.MethodName)) ∈ lw_tbl := lw_at lw_m3 12 rfl
theorem q579 : (Jvm.Cond.instanceMethod ({ cls := "ChurchyardBook$Book", name := "shuns", desc := "([LChurchyardBook$Place;I)Z" } : Jvm.MethodName)) ∈ lw_all := lw_g (lw_at lw_m3 13 rfl) rfl
theorem q580 : (Jvm.Cond.code ({ cls := "ChurchyardBook$Book", name := "shuns", desc := "([LChurchyardBook$Place;I)Z" } : Jvm.MethodName) prog_2_method_8_code (3 : Nat) (Option.some Jvm.ClassFile.FieldType.boolean)) ∈ lw_all := lw_g (lw_at lw_m3 14 rfl) rfl
theorem q581 : (Jvm.Cond.classLink "ChurchyardBook$Book" (68 : Nat) "ChurchyardBook$Takes") ∈ lw_all := lw_g (lw_at lw_m3 15 rfl) rfl
theorem q582 : (Jvm.Cond.interfaceEntry "ChurchyardBook$Book" (70 : Nat)) ∈ lw_tbl := lw_at lw_m3 16 rfl
theorem q583 : (Jvm.Cond.methodLink "ChurchyardBook$Book" (70 : Nat) ({ cls := "ChurchyardBook$Takes", name := "shunsTrees", desc := "()Z" } : Jvm.MethodName)) ∈ lw_all := lw_g (lw_at lw_m3 17 rfl) rfl
theorem q606 : (Jvm.Cond.methodLink "ChurchyardBook$Book" (110 : Nat) ({ cls := "ChurchyardBook$Book", name := "store", desc := "([LChurchyardBook$Place;IILChurchyardBook$Place;)V" } : Jvm.MethodName)) ∈ lw_all := lw_g (lw_at lw_m3 40 rfl) rfl
theorem q607 : (Jvm.Cond.privateMethod ({ cls := "ChurchyardBook$Book", name := "store", desc := "([LChurchyardBook$Place;IILChurchyardBook$Place;)V" } : Jvm.MethodName)) ∈ lw_tbl := lw_at lw_m3 41 rfl
theorem q608 : (Jvm.Cond.instanceMethod ({ cls := "ChurchyardBook$Book", name := "store", desc := "([LChurchyardBook$Place;IILChurchyardBook$Place;)V" } : Jvm.MethodName)) ∈ lw_all := lw_g (lw_at lw_m3 42 rfl) rfl
theorem q609 : (Jvm.Cond.codeWith ({ cls := "ChurchyardBook$Book", name := "store", desc := "([LChurchyardBook$Place;IILChurchyardBook$Place;)V" } : Jvm.MethodName) prog_2_method_9_code (6 : Nat) (Option.none : Option Jvm.ClassFile.FieldType) [((0 : Nat), (23 : Nat), (26 : Nat), (74 : Nat))]) ∈ lw_all := lw_g (lw_at lw_m3 43 rfl) rfl
theorem q610 : (Jvm.Cond.classLink "ChurchyardBook$Book" (74 : Nat) "java/lang/ArrayStoreException") ∈ lw_all := lw_g (lw_at lw_m3 44 rfl) rfl
theorem q624 : (Jvm.Cond.methodLink "ChurchyardBook$Book" (376 : Nat) ({ cls := "ChurchyardBook$Book", name := "newGrave", desc := "(IIIII)I" } : Jvm.MethodName)) ∈ lw_all := lw_g (lw_at lw_m3 58 rfl) rfl
theorem q625 : (Jvm.Cond.instanceMethod ({ cls := "ChurchyardBook$Book", name := "newGrave", desc := "(IIIII)I" } : Jvm.MethodName)) ∈ lw_all := lw_g (lw_at lw_m3 59 rfl) rfl
theorem q626 : (Jvm.Cond.selects "ChurchyardBook$Book" ({ cls := "ChurchyardBook$Book", name := "newGrave", desc := "(IIIII)I" } : Jvm.MethodName) ({ cls := "ChurchyardBook$Book", name := "newGrave", desc := "(IIIII)I" } : Jvm.MethodName)) ∈ lw_all := lw_g (lw_at lw_m3 60 rfl) rfl
theorem q627 : (Jvm.Cond.code ({ cls := "ChurchyardBook$Book", name := "newGrave", desc := "(IIIII)I" } : Jvm.MethodName) prog_2_method_15_code (8 : Nat) (Option.some Jvm.ClassFile.FieldType.int)) ∈ lw_all := lw_g (lw_at lw_m3 61 rfl) rfl
theorem q628 : (Jvm.Cond.methodLinkNest "ChurchyardBook$Book" (117 : Nat) ({ cls := "ChurchyardBook", name := "isWide", desc := "(II)Z" } : Jvm.MethodName) "ChurchyardBook") ∈ lw_tbl := lw_at lw_m3 62 rfl
theorem q631 : (Jvm.Cond.methodLink "ChurchyardBook$Book" (121 : Nat) ({ cls := "ChurchyardBook$Book", name := "asks", desc := "([LChurchyardBook$Place;III)V" } : Jvm.MethodName)) ∈ lw_all := lw_g (lw_at lw_m3 65 rfl) rfl
theorem q632 : (Jvm.Cond.privateMethod ({ cls := "ChurchyardBook$Book", name := "asks", desc := "([LChurchyardBook$Place;III)V" } : Jvm.MethodName)) ∈ lw_tbl := lw_at lw_m3 66 rfl
theorem q633 : (Jvm.Cond.instanceMethod ({ cls := "ChurchyardBook$Book", name := "asks", desc := "([LChurchyardBook$Place;III)V" } : Jvm.MethodName)) ∈ lw_all := lw_g (lw_at lw_m3 67 rfl) rfl
theorem q634 : (Jvm.Cond.code ({ cls := "ChurchyardBook$Book", name := "asks", desc := "([LChurchyardBook$Place;III)V" } : Jvm.MethodName) prog_2_method_14_code (6 : Nat) (Option.none : Option Jvm.ClassFile.FieldType)) ∈ lw_all := lw_g (lw_at lw_m3 68 rfl) rfl
theorem q635 : (Jvm.Cond.methodLink "ChurchyardBook$Book" (114 : Nat) ({ cls := "ChurchyardBook$Book", name := "isTree", desc := "([LChurchyardBook$Place;I)Z" } : Jvm.MethodName)) ∈ lw_all := lw_g (lw_at lw_m3 69 rfl) rfl
theorem q636 : (Jvm.Cond.privateMethod ({ cls := "ChurchyardBook$Book", name := "isTree", desc := "([LChurchyardBook$Place;I)Z" } : Jvm.MethodName)) ∈ lw_tbl := lw_at lw_m3 70 rfl
theorem q637 : (Jvm.Cond.instanceMethod ({ cls := "ChurchyardBook$Book", name := "isTree", desc := "([LChurchyardBook$Place;I)Z" } : Jvm.MethodName)) ∈ lw_all := lw_g (lw_at lw_m3 71 rfl) rfl
theorem q638 : (Jvm.Cond.code ({ cls := "ChurchyardBook$Book", name := "isTree", desc := "([LChurchyardBook$Place;I)Z" } : Jvm.MethodName) prog_2_method_7_code (3 : Nat) (Option.some Jvm.ClassFile.FieldType.boolean)) ∈ lw_all := lw_g (lw_at lw_m3 72 rfl) rfl
theorem q639 : (Jvm.Cond.classLink "ChurchyardBook$Book" (66 : Nat) "ChurchyardBook$Tree") ∈ lw_all := lw_g (lw_at lw_m3 73 rfl) rfl
theorem q640 : (Jvm.Cond.methodLinkNest "ChurchyardBook$Book" (128 : Nat) ({ cls := "ChurchyardBook", name := "newGrave", desc := "(IIIIIII)LChurchyardBook$Grave;" } : Jvm.MethodName) "ChurchyardBook") ∈ lw_tbl := lw_at lw_m3 74 rfl
theorem q655 : (Jvm.Cond.fieldLink "ChurchyardBook$Book" (132 : Nat) "ChurchyardBook$Grave" "number" "I") ∈ lw_all := lw_g (lw_at lw_m3 89 rfl) rfl
theorem q659 : (Jvm.Cond.fieldLink "ChurchyardBook$Book" (327 : Nat) "ChurchyardBook$Grave" "field" "I") ∈ lw_all := lw_g (lw_at lw_m3 93 rfl) rfl
theorem q662 : (Jvm.Cond.fieldLink "ChurchyardBook$Book" (346 : Nat) "ChurchyardBook$Grave" "row" "I") ∈ lw_all := lw_g (lw_at lw_m3 96 rfl) rfl
theorem q665 : (Jvm.Cond.fieldLink "ChurchyardBook$Book" (348 : Nat) "ChurchyardBook$Grave" "place" "I") ∈ lw_all := lw_g (lw_at lw_m3 99 rfl) rfl
theorem q669 : (Jvm.Cond.fieldLink "ChurchyardBook$Book" (351 : Nat) "ChurchyardBook$Grave" "wide" "I") ∈ lw_all := lw_g (lw_at lw_m3 103 rfl) rfl
theorem q672 : (Jvm.Cond.fieldLink "ChurchyardBook$Book" (188 : Nat) "ChurchyardBook$Grave" "state" "I") ∈ lw_all := lw_g (lw_at lw_m3 106 rfl) rfl
theorem q675 : (Jvm.Cond.fieldLink "ChurchyardBook$Book" (231 : Nat) "ChurchyardBook$Grave" "holder" "LChurchyardBook$Person;") ∈ lw_all := lw_g (lw_at lw_m3 109 rfl) rfl
theorem q678 : (Jvm.Cond.fieldLink "ChurchyardBook$Book" (198 : Nat) "ChurchyardBook$Grave" "to" "I") ∈ lw_all := lw_g (lw_at lw_m3 112 rfl) rfl
theorem q681 : (Jvm.Cond.fieldLink "ChurchyardBook$Book" (237 : Nat) "ChurchyardBook$Grave" "offered" "LChurchyardBook$Person;") ∈ lw_all := lw_g (lw_at lw_m3 115 rfl) rfl
theorem q686 : (Jvm.Cond.fieldLink "ChurchyardBook$Book" (215 : Nat) "ChurchyardBook$Grave" "order" "Ljava/util/ArrayList;") ∈ lw_all := lw_g (lw_at lw_m3 120 rfl) rfl
theorem q689 : (Jvm.Cond.fieldLink "ChurchyardBook$Book" (254 : Nat) "ChurchyardBook$Grave" "at" "I") ∈ lw_all := lw_g (lw_at lw_m3 123 rfl) rfl
theorem q692 : (Jvm.Cond.fieldLink "ChurchyardBook$Book" (211 : Nat) "ChurchyardBook$Grave" "told" "[Z") ∈ lw_all := lw_g (lw_at lw_m3 126 rfl) rfl
theorem q694 : (Jvm.Cond.fieldLink "ChurchyardBook$Book" (243 : Nat) "ChurchyardBook$Grave" "from" "LChurchyardBook$Person;") ∈ lw_all := lw_g (lw_at lw_m3 128 rfl) rfl
theorem q701 : (Jvm.Cond.fieldLink "ChurchyardBook$Book" (334 : Nat) "ChurchyardBook$Grave" "lying" "Ljava/util/ArrayList;") ∈ lw_all := lw_g (lw_at lw_m3 135 rfl) rfl
theorem q848 : (Jvm.Cond.methodLink "ChurchyardBook$Book" (379 : Nat) ({ cls := "ChurchyardBook$Book", name := "newPerson", desc := "(I)I" } : Jvm.MethodName)) ∈ lw_all := lw_g (lw_at lw_m4 42 rfl) rfl
theorem q849 : (Jvm.Cond.instanceMethod ({ cls := "ChurchyardBook$Book", name := "newPerson", desc := "(I)I" } : Jvm.MethodName)) ∈ lw_all := lw_g (lw_at lw_m4 43 rfl) rfl
theorem q850 : (Jvm.Cond.selects "ChurchyardBook$Book" ({ cls := "ChurchyardBook$Book", name := "newPerson", desc := "(I)I" } : Jvm.MethodName) ({ cls := "ChurchyardBook$Book", name := "newPerson", desc := "(I)I" } : Jvm.MethodName)) ∈ lw_all := lw_g (lw_at lw_m4 44 rfl) rfl
theorem q851 : (Jvm.Cond.code ({ cls := "ChurchyardBook$Book", name := "newPerson", desc := "(I)I" } : Jvm.MethodName) prog_2_method_18_code (2 : Nat) (Option.some Jvm.ClassFile.FieldType.int)) ∈ lw_all := lw_g (lw_at lw_m4 45 rfl) rfl
theorem q852 : (Jvm.Cond.constant "ChurchyardBook$Book" (152 : Nat) (-40000 : Int32)) ∈ lw_all := lw_g (lw_at lw_m4 46 rfl) rfl
theorem q853 : (Jvm.Cond.classLink "ChurchyardBook$Book" (41 : Nat) "ChurchyardBook$Person") ∈ lw_all := lw_g (lw_at lw_m4 47 rfl) rfl
theorem q855 : (Jvm.Cond.methodLink "ChurchyardBook$Book" (153 : Nat) ({ cls := "ChurchyardBook$Person", name := "<init>", desc := "(II)V" } : Jvm.MethodName)) ∈ lw_all := lw_g (lw_at lw_m4 49 rfl) rfl
theorem q863 : (Jvm.Cond.fieldLink "ChurchyardBook$Book" (253 : Nat) "ChurchyardBook$Person" "number" "I") ∈ lw_all := lw_g (lw_at lw_m4 57 rfl) rfl
theorem q866 : (Jvm.Cond.fieldLink "ChurchyardBook$Book" (168 : Nat) "ChurchyardBook$Person" "born" "I") ∈ lw_all := lw_g (lw_at lw_m4 60 rfl) rfl
theorem q868 : (Jvm.Cond.fieldLink "ChurchyardBook$Book" (177 : Nat) "ChurchyardBook$Person" "isDead" "Z") ∈ lw_all := lw_g (lw_at lw_m4 62 rfl) rfl
theorem q872 : (Jvm.Cond.fieldLink "ChurchyardBook$Book" (354 : Nat) "ChurchyardBook$Person" "isGone" "Z") ∈ lw_all := lw_g (lw_at lw_m4 66 rfl) rfl
theorem q873 : (Jvm.Cond.fieldLink "ChurchyardBook$Book" (160 : Nat) "ChurchyardBook$Person" "wed" "LChurchyardBook$Person;") ∈ lw_all := lw_g (lw_at lw_m4 67 rfl) rfl
theorem q877 : (Jvm.Cond.fieldLink "ChurchyardBook$Book" (171 : Nat) "ChurchyardBook$Person" "first" "LChurchyardBook$Person;") ∈ lw_all := lw_g (lw_at lw_m4 71 rfl) rfl
theorem q880 : (Jvm.Cond.fieldLink "ChurchyardBook$Book" (174 : Nat) "ChurchyardBook$Person" "second" "LChurchyardBook$Person;") ∈ lw_all := lw_g (lw_at lw_m4 74 rfl) rfl
theorem q882 : (Jvm.Cond.fieldLink "ChurchyardBook$Book" (181 : Nat) "ChurchyardBook$Person" "heir" "LChurchyardBook$Person;") ∈ lw_all := lw_g (lw_at lw_m4 76 rfl) rfl
theorem q884 : (Jvm.Cond.fieldLink "ChurchyardBook$Book" (265 : Nat) "ChurchyardBook$Person" "kind" "I") ∈ lw_all := lw_g (lw_at lw_m4 78 rfl) rfl
theorem q889 : (Jvm.Cond.fieldLink "ChurchyardBook$Book" (289 : Nat) "ChurchyardBook$Person" "end" "I") ∈ lw_all := lw_g (lw_at lw_m4 83 rfl) rfl
theorem q892 : (Jvm.Cond.fieldLink "ChurchyardBook$Book" (303 : Nat) "ChurchyardBook$Person" "grave" "LChurchyardBook$Grave;") ∈ lw_all := lw_g (lw_at lw_m4 86 rfl) rfl
theorem q896 : (Jvm.Cond.fieldLink "ChurchyardBook$Book" (306 : Nat) "ChurchyardBook$Person" "column" "I") ∈ lw_all := lw_g (lw_at lw_m4 90 rfl) rfl
theorem q900 : (Jvm.Cond.fieldLink "ChurchyardBook$Book" (309 : Nat) "ChurchyardBook$Person" "depth" "I") ∈ lw_all := lw_g (lw_at lw_m4 94 rfl) rfl
theorem q933 : (Jvm.Cond.methodLink "ChurchyardBook$Book" (382 : Nat) ({ cls := "ChurchyardBook$Book", name := "kin", desc := "(III)I" } : Jvm.MethodName)) ∈ lw_all := lw_g (lw_at lw_m4 127 rfl) rfl
theorem q934 : (Jvm.Cond.instanceMethod ({ cls := "ChurchyardBook$Book", name := "kin", desc := "(III)I" } : Jvm.MethodName)) ∈ lw_all := lw_g (lw_at lw_m4 128 rfl) rfl
theorem q935 : (Jvm.Cond.selects "ChurchyardBook$Book" ({ cls := "ChurchyardBook$Book", name := "kin", desc := "(III)I" } : Jvm.MethodName) ({ cls := "ChurchyardBook$Book", name := "kin", desc := "(III)I" } : Jvm.MethodName)) ∈ lw_all := lw_g (lw_at lw_m4 129 rfl) rfl
theorem q936 : (Jvm.Cond.code ({ cls := "ChurchyardBook$Book", name := "kin", desc := "(III)I" } : Jvm.MethodName) prog_2_method_19_code (6 : Nat) (Option.some Jvm.ClassFile.FieldType.int)) ∈ lw_all := lw_g (lw_at lw_m4 130 rfl) rfl
theorem q937 : (Jvm.Cond.methodLink "ChurchyardBook$Book" (156 : Nat) ({ cls := "ChurchyardBook$Book", name := "person", desc := "(I)LChurchyardBook$Person;" } : Jvm.MethodName)) ∈ lw_all := lw_g (lw_at lw_m4 131 rfl) rfl
theorem q938 : (Jvm.Cond.instanceMethod ({ cls := "ChurchyardBook$Book", name := "person", desc := "(I)LChurchyardBook$Person;" } : Jvm.MethodName)) ∈ lw_all := lw_g (lw_at lw_m4 132 rfl) rfl
theorem q939 : (Jvm.Cond.selects "ChurchyardBook$Book" ({ cls := "ChurchyardBook$Book", name := "person", desc := "(I)LChurchyardBook$Person;" } : Jvm.MethodName) ({ cls := "ChurchyardBook$Book", name := "person", desc := "(I)LChurchyardBook$Person;" } : Jvm.MethodName)) ∈ lw_all := lw_g (lw_at lw_m4 133 rfl) rfl
theorem q940 : (Jvm.Cond.code ({ cls := "ChurchyardBook$Book", name := "person", desc := "(I)LChurchyardBook$Person;" } : Jvm.MethodName) prog_2_method_3_code (2 : Nat) (Option.some (Jvm.ClassFile.FieldType.object "ChurchyardBook$Person"))) ∈ lw_all := lw_g (lw_at lw_m4 134 rfl) rfl
theorem q941 : (Jvm.Cond.methodLink "ChurchyardBook$Book" (164 : Nat) ({ cls := "ChurchyardBook$Person", name := "isParentOf", desc := "(LChurchyardBook$Person;)Z" } : Jvm.MethodName)) ∈ lw_all := lw_g (lw_at lw_m4 135 rfl) rfl
theorem q945 : (Jvm.Cond.methodLink "ChurchyardBook$Book" (385 : Nat) ({ cls := "ChurchyardBook$Book", name := "paper", desc := "(II)I" } : Jvm.MethodName)) ∈ lw_all := lw_g (lw_at lw_m4 139 rfl) rfl
theorem q946 : (Jvm.Cond.instanceMethod ({ cls := "ChurchyardBook$Book", name := "paper", desc := "(II)I" } : Jvm.MethodName)) ∈ lw_all := lw_g (lw_at lw_m4 140 rfl) rfl
theorem q947 : (Jvm.Cond.selects "ChurchyardBook$Book" ({ cls := "ChurchyardBook$Book", name := "paper", desc := "(II)I" } : Jvm.MethodName) ({ cls := "ChurchyardBook$Book", name := "paper", desc := "(II)I" } : Jvm.MethodName)) ∈ lw_all := lw_g (lw_at lw_m4 141 rfl) rfl
theorem q948 : (Jvm.Cond.code ({ cls := "ChurchyardBook$Book", name := "paper", desc := "(II)I" } : Jvm.MethodName) prog_2_method_20_code (4 : Nat) (Option.some Jvm.ClassFile.FieldType.int)) ∈ lw_all := lw_g (lw_at lw_m4 142 rfl) rfl
theorem q949 : (Jvm.Cond.methodLink "ChurchyardBook$Book" (388 : Nat) ({ cls := "ChurchyardBook$Book", name := "right", desc := "(III)I" } : Jvm.MethodName)) ∈ lw_all := lw_g (lw_at lw_m4 143 rfl) rfl
theorem q950 : (Jvm.Cond.instanceMethod ({ cls := "ChurchyardBook$Book", name := "right", desc := "(III)I" } : Jvm.MethodName)) ∈ lw_all := lw_g (lw_at lw_m4 144 rfl) rfl
theorem q951 : (Jvm.Cond.selects "ChurchyardBook$Book" ({ cls := "ChurchyardBook$Book", name := "right", desc := "(III)I" } : Jvm.MethodName) ({ cls := "ChurchyardBook$Book", name := "right", desc := "(III)I" } : Jvm.MethodName)) ∈ lw_all := lw_g (lw_at lw_m4 145 rfl) rfl
theorem q952 : (Jvm.Cond.code ({ cls := "ChurchyardBook$Book", name := "right", desc := "(III)I" } : Jvm.MethodName) prog_2_method_21_code (6 : Nat) (Option.some Jvm.ClassFile.FieldType.int)) ∈ lw_all := lw_g (lw_at lw_m4 146 rfl) rfl
theorem q953 : (Jvm.Cond.methodLink "ChurchyardBook$Book" (184 : Nat) ({ cls := "ChurchyardBook$Book", name := "grave", desc := "(I)LChurchyardBook$Grave;" } : Jvm.MethodName)) ∈ lw_all := lw_g (lw_at lw_m4 147 rfl) rfl
theorem q954 : (Jvm.Cond.instanceMethod ({ cls := "ChurchyardBook$Book", name := "grave", desc := "(I)LChurchyardBook$Grave;" } : Jvm.MethodName)) ∈ lw_all := lw_g (lw_at lw_m4 148 rfl) rfl
theorem q955 : (Jvm.Cond.selects "ChurchyardBook$Book" ({ cls := "ChurchyardBook$Book", name := "grave", desc := "(I)LChurchyardBook$Grave;" } : Jvm.MethodName) ({ cls := "ChurchyardBook$Book", name := "grave", desc := "(I)LChurchyardBook$Grave;" } : Jvm.MethodName)) ∈ lw_all := lw_g (lw_at lw_m4 149 rfl) rfl
theorem q956 : (Jvm.Cond.code ({ cls := "ChurchyardBook$Book", name := "grave", desc := "(I)LChurchyardBook$Grave;" } : Jvm.MethodName) prog_2_method_2_code (2 : Nat) (Option.some (Jvm.ClassFile.FieldType.object "ChurchyardBook$Grave"))) ∈ lw_all := lw_g (lw_at lw_m4 150 rfl) rfl
theorem q957 : (Jvm.Cond.methodLink "ChurchyardBook$Book" (191 : Nat) ({ cls := "ChurchyardBook$Grave", name := "needsHolder", desc := "()Z" } : Jvm.MethodName)) ∈ lw_all := lw_g (lw_at lw_m4 151 rfl) rfl
theorem q969 : (Jvm.Cond.methodLink "ChurchyardBook$Book" (194 : Nat) ({ cls := "ChurchyardBook$Grave", name := "hold", desc := "(LChurchyardBook$Person;)V" } : Jvm.MethodName)) ∈ lw_all := lw_g (lw_at lw_m4 163 rfl) rfl
theorem q983 : (Jvm.Cond.methodLink "ChurchyardBook$Book" (201 : Nat) ({ cls := "ChurchyardBook$Grave", name := "yearly", desc := "()I" } : Jvm.MethodName)) ∈ lw_all := lw_g (lw_at lw_m4 177 rfl) rfl
theorem q998 : (Jvm.Cond.methodLink "ChurchyardBook$Book" (204 : Nat) ({ cls := "ChurchyardBook$Book", name := "paid", desc := "(I)I" } : Jvm.MethodName)) ∈ lw_all := lw_g (lw_at lw_m4 192 rfl) rfl
theorem q999 : (Jvm.Cond.privateMethod ({ cls := "ChurchyardBook$Book", name := "paid", desc := "(I)I" } : Jvm.MethodName)) ∈ lw_tbl := lw_at lw_m4 193 rfl
theorem q1000 : (Jvm.Cond.instanceMethod ({ cls := "ChurchyardBook$Book", name := "paid", desc := "(I)I" } : Jvm.MethodName)) ∈ lw_all := lw_g (lw_at lw_m4 194 rfl) rfl
theorem q1001 : (Jvm.Cond.code ({ cls := "ChurchyardBook$Book", name := "paid", desc := "(I)I" } : Jvm.MethodName) prog_2_method_22_code (2 : Nat) (Option.some Jvm.ClassFile.FieldType.int)) ∈ lw_all := lw_g (lw_at lw_m4 195 rfl) rfl
theorem q1002 : (Jvm.Cond.methodLink "ChurchyardBook$Book" (391 : Nat) ({ cls := "ChurchyardBook$Book", name := "longer", desc := "(II)I" } : Jvm.MethodName)) ∈ lw_all := lw_g (lw_at lw_m4 196 rfl) rfl
theorem q1003 : (Jvm.Cond.instanceMethod ({ cls := "ChurchyardBook$Book", name := "longer", desc := "(II)I" } : Jvm.MethodName)) ∈ lw_all := lw_g (lw_at lw_m4 197 rfl) rfl
theorem q1004 : (Jvm.Cond.selects "ChurchyardBook$Book" ({ cls := "ChurchyardBook$Book", name := "longer", desc := "(II)I" } : Jvm.MethodName) ({ cls := "ChurchyardBook$Book", name := "longer", desc := "(II)I" } : Jvm.MethodName)) ∈ lw_all := lw_g (lw_at lw_m4 198 rfl) rfl
theorem q1005 : (Jvm.Cond.code ({ cls := "ChurchyardBook$Book", name := "longer", desc := "(II)I" } : Jvm.MethodName) prog_2_method_23_code (4 : Nat) (Option.some Jvm.ClassFile.FieldType.int)) ∈ lw_all := lw_g (lw_at lw_m4 199 rfl) rfl
theorem q1006 : (Jvm.Cond.methodLink "ChurchyardBook$Book" (394 : Nat) ({ cls := "ChurchyardBook$Book", name := "agree", desc := "(III)I" } : Jvm.MethodName)) ∈ lw_all := lw_g (lw_at lw_m4 200 rfl) rfl
theorem q1007 : (Jvm.Cond.instanceMethod ({ cls := "ChurchyardBook$Book", name := "agree", desc := "(III)I" } : Jvm.MethodName)) ∈ lw_all := lw_g (lw_at lw_m4 201 rfl) rfl
theorem q1008 : (Jvm.Cond.selects "ChurchyardBook$Book" ({ cls := "ChurchyardBook$Book", name := "agree", desc := "(III)I" } : Jvm.MethodName) ({ cls := "ChurchyardBook$Book", name := "agree", desc := "(III)I" } : Jvm.MethodName)) ∈ lw_all := lw_g (lw_at lw_m4 202 rfl) rfl
theorem q1009 : (Jvm.Cond.code ({ cls := "ChurchyardBook$Book", name := "agree", desc := "(III)I" } : Jvm.MethodName) prog_2_method_24_code (5 : Nat) (Option.some Jvm.ClassFile.FieldType.int)) ∈ lw_all := lw_g (lw_at lw_m4 203 rfl) rfl
theorem q1010 : (Jvm.Cond.methodLink "ChurchyardBook$Book" (397 : Nat) ({ cls := "ChurchyardBook$Book", name := "dies", desc := "(I)I" } : Jvm.MethodName)) ∈ lw_all := lw_g (lw_at lw_m4 204 rfl) rfl
theorem q1011 : (Jvm.Cond.instanceMethod ({ cls := "ChurchyardBook$Book", name := "dies", desc := "(I)I" } : Jvm.MethodName)) ∈ lw_all := lw_g (lw_at lw_m4 205 rfl) rfl
theorem q1012 : (Jvm.Cond.selects "ChurchyardBook$Book" ({ cls := "ChurchyardBook$Book", name := "dies", desc := "(I)I" } : Jvm.MethodName) ({ cls := "ChurchyardBook$Book", name := "dies", desc := "(I)I" } : Jvm.MethodName)) ∈ lw_all := lw_g (lw_at lw_m4 206 rfl) rfl
theorem q1013 : (Jvm.Cond.code ({ cls := "ChurchyardBook$Book", name := "dies", desc := "(I)I" } : Jvm.MethodName) prog_2_method_27_code (6 : Nat) (Option.some Jvm.ClassFile.FieldType.int)) ∈ lw_all := lw_g (lw_at lw_m4 207 rfl) rfl
theorem q1014 : (Jvm.Cond.methodLink "ChurchyardBook$Book" (234 : Nat) ({ cls := "ChurchyardBook$Book", name := "offers", desc := "(LChurchyardBook$Grave;LChurchyardBook$Person;)V" } : Jvm.MethodName)) ∈ lw_all := lw_g (lw_at lw_m4 208 rfl) rfl
theorem q1015 : (Jvm.Cond.privateMethod ({ cls := "ChurchyardBook$Book", name := "offers", desc := "(LChurchyardBook$Grave;LChurchyardBook$Person;)V" } : Jvm.MethodName)) ∈ lw_tbl := lw_at lw_m4 209 rfl
theorem q1016 : (Jvm.Cond.instanceMethod ({ cls := "ChurchyardBook$Book", name := "offers", desc := "(LChurchyardBook$Grave;LChurchyardBook$Person;)V" } : Jvm.MethodName)) ∈ lw_all := lw_g (lw_at lw_m4 210 rfl) rfl
theorem q1017 : (Jvm.Cond.code ({ cls := "ChurchyardBook$Book", name := "offers", desc := "(LChurchyardBook$Grave;LChurchyardBook$Person;)V" } : Jvm.MethodName) prog_2_method_28_code (4 : Nat) (Option.none : Option Jvm.ClassFile.FieldType)) ∈ lw_all := lw_g (lw_at lw_m4 211 rfl) rfl
theorem q1018 : (Jvm.Cond.methodLink "ChurchyardBook$Book" (246 : Nat) ({ cls := "java/util/ArrayList", name := "clear", desc := "()V" } : Jvm.MethodName)) ∈ lw_all := lw_g (lw_at lw_m4 212 rfl) rfl
theorem q1019 : (Jvm.Cond.methodLink "ChurchyardBook$Book" (227 : Nat) ({ cls := "ChurchyardBook$Book", name := "orders", desc := "(LChurchyardBook$Grave;LChurchyardBook$Person;)V" } : Jvm.MethodName)) ∈ lw_all := lw_g (lw_at lw_m4 213 rfl) rfl
theorem q1020 : (Jvm.Cond.privateMethod ({ cls := "ChurchyardBook$Book", name := "orders", desc := "(LChurchyardBook$Grave;LChurchyardBook$Person;)V" } : Jvm.MethodName)) ∈ lw_tbl := lw_at lw_m4 214 rfl
theorem q1021 : (Jvm.Cond.instanceMethod ({ cls := "ChurchyardBook$Book", name := "orders", desc := "(LChurchyardBook$Grave;LChurchyardBook$Person;)V" } : Jvm.MethodName)) ∈ lw_all := lw_g (lw_at lw_m4 215 rfl) rfl
theorem q1022 : (Jvm.Cond.code ({ cls := "ChurchyardBook$Book", name := "orders", desc := "(LChurchyardBook$Grave;LChurchyardBook$Person;)V" } : Jvm.MethodName) prog_2_method_25_code (3 : Nat) (Option.none : Option Jvm.ClassFile.FieldType)) ∈ lw_all := lw_g (lw_at lw_m4 216 rfl) rfl
theorem q1023 : (Jvm.Cond.methodLink "ChurchyardBook$Book" (218 : Nat) ({ cls := "java/util/ArrayList", name := "contains", desc := "(Ljava/lang/Object;)Z" } : Jvm.MethodName)) ∈ lw_all := lw_g (lw_at lw_m4 217 rfl) rfl
theorem q1040 : (Jvm.Cond.selects "ChurchyardBook$Book" ({ cls := "java/lang/Object", name := "equals", desc := "(Ljava/lang/Object;)Z" } : Jvm.MethodName) ({ cls := "java/lang/Object", name := "equals", desc := "(Ljava/lang/Object;)Z" } : Jvm.MethodName)) ∈ lw_all := lw_g (lw_at lw_m4 234 rfl) rfl
theorem q1060 : (Jvm.Cond.methodLink "ChurchyardBook$Book" (249 : Nat) ({ cls := "ChurchyardBook$Book", name := "ordersByAge", desc := "(LChurchyardBook$Grave;LChurchyardBook$Person;Z)V" } : Jvm.MethodName)) ∈ lw_all := lw_g (lw_at lw_m5 14 rfl) rfl
theorem q1061 : (Jvm.Cond.privateMethod ({ cls := "ChurchyardBook$Book", name := "ordersByAge", desc := "(LChurchyardBook$Grave;LChurchyardBook$Person;Z)V" } : Jvm.MethodName)) ∈ lw_tbl := lw_at lw_m5 15 rfl
theorem q1062 : (Jvm.Cond.instanceMethod ({ cls := "ChurchyardBook$Book", name := "ordersByAge", desc := "(LChurchyardBook$Grave;LChurchyardBook$Person;Z)V" } : Jvm.MethodName)) ∈ lw_all := lw_g (lw_at lw_m5 16 rfl) rfl
theorem q1063 : (Jvm.Cond.code ({ cls := "ChurchyardBook$Book", name := "ordersByAge", desc := "(LChurchyardBook$Grave;LChurchyardBook$Person;Z)V" } : Jvm.MethodName) prog_2_method_26_code (8 : Nat) (Option.none : Option Jvm.ClassFile.FieldType)) ∈ lw_all := lw_g (lw_at lw_m5 17 rfl) rfl
theorem q1064 : (Jvm.Cond.methodLink "ChurchyardBook$Book" (221 : Nat) ({ cls := "ChurchyardBook$Person", name := "isSiblingOf", desc := "(LChurchyardBook$Person;)Z" } : Jvm.MethodName)) ∈ lw_all := lw_g (lw_at lw_m5 18 rfl) rfl
theorem q1069 : (Jvm.Cond.methodLink "ChurchyardBook$Book" (224 : Nat) ({ cls := "java/util/ArrayList", name := "add", desc := "(ILjava/lang/Object;)V" } : Jvm.MethodName)) ∈ lw_all := lw_g (lw_at lw_m5 23 rfl) rfl
theorem q1078 : (Jvm.Cond.methodLink "ChurchyardBook$Book" (240 : Nat) ({ cls := "ChurchyardBook$Grave", name := "passOn", desc := "(I)V" } : Jvm.MethodName)) ∈ lw_all := lw_g (lw_at lw_m5 32 rfl) rfl
theorem q1091 : (Jvm.Cond.methodLink "ChurchyardBook$Book" (400 : Nat) ({ cls := "ChurchyardBook$Book", name := "takes", desc := "(I)I" } : Jvm.MethodName)) ∈ lw_all := lw_g (lw_at lw_m5 45 rfl) rfl
theorem q1092 : (Jvm.Cond.instanceMethod ({ cls := "ChurchyardBook$Book", name := "takes", desc := "(I)I" } : Jvm.MethodName)) ∈ lw_all := lw_g (lw_at lw_m5 46 rfl) rfl
theorem q1093 : (Jvm.Cond.selects "ChurchyardBook$Book" ({ cls := "ChurchyardBook$Book", name := "takes", desc := "(I)I" } : Jvm.MethodName) ({ cls := "ChurchyardBook$Book", name := "takes", desc := "(I)I" } : Jvm.MethodName)) ∈ lw_all := lw_g (lw_at lw_m5 47 rfl) rfl
theorem q1094 : (Jvm.Cond.code ({ cls := "ChurchyardBook$Book", name := "takes", desc := "(I)I" } : Jvm.MethodName) prog_2_method_30_code (3 : Nat) (Option.some Jvm.ClassFile.FieldType.int)) ∈ lw_all := lw_g (lw_at lw_m5 48 rfl) rfl
theorem q1095 : (Jvm.Cond.methodLink "ChurchyardBook$Book" (256 : Nat) ({ cls := "ChurchyardBook$Book", name := "offered", desc := "(I)LChurchyardBook$Grave;" } : Jvm.MethodName)) ∈ lw_all := lw_g (lw_at lw_m5 49 rfl) rfl
theorem q1096 : (Jvm.Cond.privateMethod ({ cls := "ChurchyardBook$Book", name := "offered", desc := "(I)LChurchyardBook$Grave;" } : Jvm.MethodName)) ∈ lw_tbl := lw_at lw_m5 50 rfl
theorem q1097 : (Jvm.Cond.instanceMethod ({ cls := "ChurchyardBook$Book", name := "offered", desc := "(I)LChurchyardBook$Grave;" } : Jvm.MethodName)) ∈ lw_all := lw_g (lw_at lw_m5 51 rfl) rfl
theorem q1098 : (Jvm.Cond.code ({ cls := "ChurchyardBook$Book", name := "offered", desc := "(I)LChurchyardBook$Grave;" } : Jvm.MethodName) prog_2_method_29_code (3 : Nat) (Option.some (Jvm.ClassFile.FieldType.object "ChurchyardBook$Grave"))) ∈ lw_all := lw_g (lw_at lw_m5 52 rfl) rfl
theorem q1099 : (Jvm.Cond.methodLink "ChurchyardBook$Book" (402 : Nat) ({ cls := "ChurchyardBook$Book", name := "refuses", desc := "(I)I" } : Jvm.MethodName)) ∈ lw_all := lw_g (lw_at lw_m5 53 rfl) rfl
theorem q1100 : (Jvm.Cond.instanceMethod ({ cls := "ChurchyardBook$Book", name := "refuses", desc := "(I)I" } : Jvm.MethodName)) ∈ lw_all := lw_g (lw_at lw_m5 54 rfl) rfl
theorem q1101 : (Jvm.Cond.selects "ChurchyardBook$Book" ({ cls := "ChurchyardBook$Book", name := "refuses", desc := "(I)I" } : Jvm.MethodName) ({ cls := "ChurchyardBook$Book", name := "refuses", desc := "(I)I" } : Jvm.MethodName)) ∈ lw_all := lw_g (lw_at lw_m5 55 rfl) rfl
theorem q1102 : (Jvm.Cond.code ({ cls := "ChurchyardBook$Book", name := "refuses", desc := "(I)I" } : Jvm.MethodName) prog_2_method_31_code (2 : Nat) (Option.some Jvm.ClassFile.FieldType.int)) ∈ lw_all := lw_g (lw_at lw_m5 56 rfl) rfl
theorem q1103 : (Jvm.Cond.methodLink "ChurchyardBook$Book" (405 : Nat) ({ cls := "ChurchyardBook$Book", name := "bury", desc := "(IIII)I" } : Jvm.MethodName)) ∈ lw_all := lw_g (lw_at lw_m5 57 rfl) rfl
theorem q1104 : (Jvm.Cond.instanceMethod ({ cls := "ChurchyardBook$Book", name := "bury", desc := "(IIII)I" } : Jvm.MethodName)) ∈ lw_all := lw_g (lw_at lw_m5 58 rfl) rfl
theorem q1105 : (Jvm.Cond.selects "ChurchyardBook$Book" ({ cls := "ChurchyardBook$Book", name := "bury", desc := "(IIII)I" } : Jvm.MethodName) ({ cls := "ChurchyardBook$Book", name := "bury", desc := "(IIII)I" } : Jvm.MethodName)) ∈ lw_all := lw_g (lw_at lw_m5 59 rfl) rfl
theorem q1106 : (Jvm.Cond.code ({ cls := "ChurchyardBook$Book", name := "bury", desc := "(IIII)I" } : Jvm.MethodName) prog_2_method_36_code (8 : Nat) (Option.some Jvm.ClassFile.FieldType.int)) ∈ lw_all := lw_g (lw_at lw_m5 60 rfl) rfl
theorem q1107 : (Jvm.Cond.methodLink "ChurchyardBook$Book" (296 : Nat) ({ cls := "ChurchyardBook$Book", name := "why", desc := "(IIII)I" } : Jvm.MethodName)) ∈ lw_all := lw_g (lw_at lw_m5 61 rfl) rfl
theorem q1108 : (Jvm.Cond.instanceMethod ({ cls := "ChurchyardBook$Book", name := "why", desc := "(IIII)I" } : Jvm.MethodName)) ∈ lw_all := lw_g (lw_at lw_m5 62 rfl) rfl
theorem q1109 : (Jvm.Cond.selects "ChurchyardBook$Book" ({ cls := "ChurchyardBook$Book", name := "why", desc := "(IIII)I" } : Jvm.MethodName) ({ cls := "ChurchyardBook$Book", name := "why", desc := "(IIII)I" } : Jvm.MethodName)) ∈ lw_all := lw_g (lw_at lw_m5 63 rfl) rfl
theorem q1110 : (Jvm.Cond.code ({ cls := "ChurchyardBook$Book", name := "why", desc := "(IIII)I" } : Jvm.MethodName) prog_2_method_34_code (6 : Nat) (Option.some Jvm.ClassFile.FieldType.int)) ∈ lw_all := lw_g (lw_at lw_m5 64 rfl) rfl
theorem q1111 : (Jvm.Cond.methodLink "ChurchyardBook$Book" (281 : Nat) ({ cls := "ChurchyardBook$Book", name := "endOf", desc := "(LChurchyardBook$Grave;I)I" } : Jvm.MethodName)) ∈ lw_all := lw_g (lw_at lw_m5 65 rfl) rfl
theorem q1112 : (Jvm.Cond.privateMethod ({ cls := "ChurchyardBook$Book", name := "endOf", desc := "(LChurchyardBook$Grave;I)I" } : Jvm.MethodName)) ∈ lw_tbl := lw_at lw_m5 66 rfl
theorem q1113 : (Jvm.Cond.instanceMethod ({ cls := "ChurchyardBook$Book", name := "endOf", desc := "(LChurchyardBook$Grave;I)I" } : Jvm.MethodName)) ∈ lw_all := lw_g (lw_at lw_m5 67 rfl) rfl
theorem q1114 : (Jvm.Cond.code ({ cls := "ChurchyardBook$Book", name := "endOf", desc := "(LChurchyardBook$Grave;I)I" } : Jvm.MethodName) prog_2_method_33_code (3 : Nat) (Option.some Jvm.ClassFile.FieldType.int)) ∈ lw_all := lw_g (lw_at lw_m5 68 rfl) rfl
theorem q1151 : (Jvm.Cond.methodLink "ChurchyardBook$Book" (285 : Nat) ({ cls := "ChurchyardBook$Book", name := "why", desc := "(LChurchyardBook$Grave;ILChurchyardBook$Person;IIZ)I" } : Jvm.MethodName)) ∈ lw_all := lw_g (lw_at lw_m5 105 rfl) rfl
theorem q1152 : (Jvm.Cond.privateMethod ({ cls := "ChurchyardBook$Book", name := "why", desc := "(LChurchyardBook$Grave;ILChurchyardBook$Person;IIZ)I" } : Jvm.MethodName)) ∈ lw_tbl := lw_at lw_m5 106 rfl
theorem q1153 : (Jvm.Cond.instanceMethod ({ cls := "ChurchyardBook$Book", name := "why", desc := "(LChurchyardBook$Grave;ILChurchyardBook$Person;IIZ)I" } : Jvm.MethodName)) ∈ lw_all := lw_g (lw_at lw_m5 107 rfl) rfl
theorem q1154 : (Jvm.Cond.code ({ cls := "ChurchyardBook$Book", name := "why", desc := "(LChurchyardBook$Grave;ILChurchyardBook$Person;IIZ)I" } : Jvm.MethodName) prog_2_method_32_code (8 : Nat) (Option.some Jvm.ClassFile.FieldType.int)) ∈ lw_all := lw_g (lw_at lw_m5 108 rfl) rfl
theorem q1155 : (Jvm.Cond.methodLink "ChurchyardBook$Book" (258 : Nat) ({ cls := "ChurchyardBook$Grave", name := "isColumn", desc := "(I)Z" } : Jvm.MethodName)) ∈ lw_all := lw_g (lw_at lw_m5 109 rfl) rfl
theorem q1194 : (Jvm.Cond.methodLink "ChurchyardBook$Book" (268 : Nat) ({ cls := "ChurchyardBook$Grave", name := "room", desc := "(II)I" } : Jvm.MethodName)) ∈ lw_all := lw_g (lw_at lw_m5 148 rfl) rfl
theorem q1247 : (Jvm.Cond.methodLink "ChurchyardBook$Book" (272 : Nat) ({ cls := "ChurchyardBook$Grave", name := "isAgreed", desc := "(LChurchyardBook$Person;)Z" } : Jvm.MethodName)) ∈ lw_all := lw_g (lw_at lw_m5 201 rfl) rfl
theorem q1293 : (Jvm.Cond.methodLink "ChurchyardBook$Book" (299 : Nat) ({ cls := "ChurchyardBook$Book", name := "laid", desc := "(LChurchyardBook$Grave;ILChurchyardBook$Person;I)I" } : Jvm.MethodName)) ∈ lw_all := lw_g (lw_at lw_m6 7 rfl) rfl
theorem q1294 : (Jvm.Cond.privateMethod ({ cls := "ChurchyardBook$Book", name := "laid", desc := "(LChurchyardBook$Grave;ILChurchyardBook$Person;I)I" } : Jvm.MethodName)) ∈ lw_tbl := lw_at lw_m6 8 rfl
theorem q1295 : (Jvm.Cond.instanceMethod ({ cls := "ChurchyardBook$Book", name := "laid", desc := "(LChurchyardBook$Grave;ILChurchyardBook$Person;I)I" } : Jvm.MethodName)) ∈ lw_all := lw_g (lw_at lw_m6 9 rfl) rfl
theorem q1296 : (Jvm.Cond.code ({ cls := "ChurchyardBook$Book", name := "laid", desc := "(LChurchyardBook$Grave;ILChurchyardBook$Person;I)I" } : Jvm.MethodName) prog_2_method_35_code (7 : Nat) (Option.some Jvm.ClassFile.FieldType.int)) ∈ lw_all := lw_g (lw_at lw_m6 10 rfl) rfl
theorem q1297 : (Jvm.Cond.methodLink "ChurchyardBook$Book" (292 : Nat) ({ cls := "ChurchyardBook$Grave", name := "put", desc := "(LChurchyardBook$Person;III)V" } : Jvm.MethodName)) ∈ lw_all := lw_g (lw_at lw_m6 11 rfl) rfl
theorem q1333 : (Jvm.Cond.methodLink "ChurchyardBook$Book" (408 : Nat) ({ cls := "ChurchyardBook$Book", name := "move", desc := "(IIII)I" } : Jvm.MethodName)) ∈ lw_all := lw_g (lw_at lw_m6 47 rfl) rfl
theorem q1334 : (Jvm.Cond.instanceMethod ({ cls := "ChurchyardBook$Book", name := "move", desc := "(IIII)I" } : Jvm.MethodName)) ∈ lw_all := lw_g (lw_at lw_m6 48 rfl) rfl
theorem q1335 : (Jvm.Cond.selects "ChurchyardBook$Book" ({ cls := "ChurchyardBook$Book", name := "move", desc := "(IIII)I" } : Jvm.MethodName) ({ cls := "ChurchyardBook$Book", name := "move", desc := "(IIII)I" } : Jvm.MethodName)) ∈ lw_all := lw_g (lw_at lw_m6 49 rfl) rfl
theorem q1336 : (Jvm.Cond.code ({ cls := "ChurchyardBook$Book", name := "move", desc := "(IIII)I" } : Jvm.MethodName) prog_2_method_37_code (10 : Nat) (Option.some Jvm.ClassFile.FieldType.int)) ∈ lw_all := lw_g (lw_at lw_m6 50 rfl) rfl
theorem q1337 : (Jvm.Cond.methodLink "ChurchyardBook$Book" (312 : Nat) ({ cls := "ChurchyardBook$Grave", name := "in", desc := "(II)LChurchyardBook$Person;" } : Jvm.MethodName)) ∈ lw_all := lw_g (lw_at lw_m6 51 rfl) rfl
theorem q1338 : (Jvm.Cond.methodLink "ChurchyardBook$Book" (316 : Nat) ({ cls := "ChurchyardBook$Person", name := "rests", desc := "(I)Z" } : Jvm.MethodName)) ∈ lw_all := lw_g (lw_at lw_m6 52 rfl) rfl
theorem q1339 : (Jvm.Cond.methodLink "ChurchyardBook$Book" (319 : Nat) ({ cls := "ChurchyardBook$Grave", name := "take", desc := "(LChurchyardBook$Person;)V" } : Jvm.MethodName)) ∈ lw_all := lw_g (lw_at lw_m6 53 rfl) rfl
theorem q1357 : (Jvm.Cond.methodLink "ChurchyardBook$Book" (411 : Nat) ({ cls := "ChurchyardBook$Book", name := "clear", desc := "(I)I" } : Jvm.MethodName)) ∈ lw_all := lw_g (lw_at lw_m6 71 rfl) rfl
theorem q1358 : (Jvm.Cond.instanceMethod ({ cls := "ChurchyardBook$Book", name := "clear", desc := "(I)I" } : Jvm.MethodName)) ∈ lw_all := lw_g (lw_at lw_m6 72 rfl) rfl
theorem q1359 : (Jvm.Cond.selects "ChurchyardBook$Book" ({ cls := "ChurchyardBook$Book", name := "clear", desc := "(I)I" } : Jvm.MethodName) ({ cls := "ChurchyardBook$Book", name := "clear", desc := "(I)I" } : Jvm.MethodName)) ∈ lw_all := lw_g (lw_at lw_m6 73 rfl) rfl
theorem q1360 : (Jvm.Cond.code ({ cls := "ChurchyardBook$Book", name := "clear", desc := "(I)I" } : Jvm.MethodName) prog_2_method_38_code (8 : Nat) (Option.some Jvm.ClassFile.FieldType.int)) ∈ lw_all := lw_g (lw_at lw_m6 74 rfl) rfl
theorem q1361 : (Jvm.Cond.methodLink "ChurchyardBook$Book" (322 : Nat) ({ cls := "ChurchyardBook$Grave", name := "hasRest", desc := "(I)Z" } : Jvm.MethodName)) ∈ lw_all := lw_g (lw_at lw_m6 75 rfl) rfl
theorem q1371 : (Jvm.Cond.methodLink "ChurchyardBook$Book" (325 : Nat) ({ cls := "ChurchyardBook$Grave", name := "kind", desc := "()I" } : Jvm.MethodName)) ∈ lw_all := lw_g (lw_at lw_m6 85 rfl) rfl
theorem q1392 : (Jvm.Cond.methodLink "ChurchyardBook$Book" (330 : Nat) ({ cls := "ChurchyardBook$Book", name := "isMeadow", desc := "(LChurchyardBook$Grave;I)Z" } : Jvm.MethodName)) ∈ lw_all := lw_g (lw_at lw_m6 106 rfl) rfl
theorem q1393 : (Jvm.Cond.privateMethod ({ cls := "ChurchyardBook$Book", name := "isMeadow", desc := "(LChurchyardBook$Grave;I)Z" } : Jvm.MethodName)) ∈ lw_tbl := lw_at lw_m6 107 rfl
theorem q1394 : (Jvm.Cond.instanceMethod ({ cls := "ChurchyardBook$Book", name := "isMeadow", desc := "(LChurchyardBook$Grave;I)Z" } : Jvm.MethodName)) ∈ lw_all := lw_g (lw_at lw_m6 108 rfl) rfl
theorem q1395 : (Jvm.Cond.code ({ cls := "ChurchyardBook$Book", name := "isMeadow", desc := "(LChurchyardBook$Grave;I)Z" } : Jvm.MethodName) prog_2_method_39_code (3 : Nat) (Option.some Jvm.ClassFile.FieldType.boolean)) ∈ lw_all := lw_g (lw_at lw_m6 109 rfl) rfl
theorem q1396 : (Jvm.Cond.methodLink "ChurchyardBook$Book" (337 : Nat) ({ cls := "ChurchyardBook$Grave", name := "columns", desc := "()I" } : Jvm.MethodName)) ∈ lw_all := lw_g (lw_at lw_m6 110 rfl) rfl
theorem q1397 : (Jvm.Cond.methodLink "ChurchyardBook$Book" (340 : Nat) ({ cls := "ChurchyardBook$Book", name := "urn", desc := "(LChurchyardBook$Grave;LChurchyardBook$Person;)V" } : Jvm.MethodName)) ∈ lw_all := lw_g (lw_at lw_m6 111 rfl) rfl
theorem q1398 : (Jvm.Cond.privateMethod ({ cls := "ChurchyardBook$Book", name := "urn", desc := "(LChurchyardBook$Grave;LChurchyardBook$Person;)V" } : Jvm.MethodName)) ∈ lw_tbl := lw_at lw_m6 112 rfl
theorem q1399 : (Jvm.Cond.instanceMethod ({ cls := "ChurchyardBook$Book", name := "urn", desc := "(LChurchyardBook$Grave;LChurchyardBook$Person;)V" } : Jvm.MethodName)) ∈ lw_all := lw_g (lw_at lw_m6 113 rfl) rfl
theorem q1400 : (Jvm.Cond.code ({ cls := "ChurchyardBook$Book", name := "urn", desc := "(LChurchyardBook$Grave;LChurchyardBook$Person;)V" } : Jvm.MethodName) prog_2_method_40_code (5 : Nat) (Option.none : Option Jvm.ClassFile.FieldType)) ∈ lw_all := lw_g (lw_at lw_m6 114 rfl) rfl
theorem q1401 : (Jvm.Cond.methodLink "ChurchyardBook$Book" (343 : Nat) ({ cls := "ChurchyardBook$Book", name := "goes", desc := "(LChurchyardBook$Person;)V" } : Jvm.MethodName)) ∈ lw_all := lw_g (lw_at lw_m6 115 rfl) rfl
theorem q1402 : (Jvm.Cond.privateMethod ({ cls := "ChurchyardBook$Book", name := "goes", desc := "(LChurchyardBook$Person;)V" } : Jvm.MethodName)) ∈ lw_tbl := lw_at lw_m6 116 rfl
theorem q1403 : (Jvm.Cond.instanceMethod ({ cls := "ChurchyardBook$Book", name := "goes", desc := "(LChurchyardBook$Person;)V" } : Jvm.MethodName)) ∈ lw_all := lw_g (lw_at lw_m6 117 rfl) rfl
theorem q1404 : (Jvm.Cond.code ({ cls := "ChurchyardBook$Book", name := "goes", desc := "(LChurchyardBook$Person;)V" } : Jvm.MethodName) prog_2_method_41_code (2 : Nat) (Option.none : Option Jvm.ClassFile.FieldType)) ∈ lw_all := lw_g (lw_at lw_m6 118 rfl) rfl
theorem q1405 : (Jvm.Cond.methodLink "ChurchyardBook$Book" (357 : Nat) ({ cls := "ChurchyardBook$Person", name := "lies", desc := "(ILChurchyardBook$Grave;II)V" } : Jvm.MethodName)) ∈ lw_all := lw_g (lw_at lw_m6 119 rfl) rfl
theorem q1406 : (Jvm.Cond.methodLink "ChurchyardBook$Book" (413 : Nat) ({ cls := "ChurchyardBook$Book", name := "turn", desc := "(I)I" } : Jvm.MethodName)) ∈ lw_all := lw_g (lw_at lw_m6 120 rfl) rfl
theorem q1407 : (Jvm.Cond.instanceMethod ({ cls := "ChurchyardBook$Book", name := "turn", desc := "(I)I" } : Jvm.MethodName)) ∈ lw_all := lw_g (lw_at lw_m6 121 rfl) rfl
theorem q1408 : (Jvm.Cond.selects "ChurchyardBook$Book" ({ cls := "ChurchyardBook$Book", name := "turn", desc := "(I)I" } : Jvm.MethodName) ({ cls := "ChurchyardBook$Book", name := "turn", desc := "(I)I" } : Jvm.MethodName)) ∈ lw_all := lw_g (lw_at lw_m6 122 rfl) rfl
theorem q1409 : (Jvm.Cond.code ({ cls := "ChurchyardBook$Book", name := "turn", desc := "(I)I" } : Jvm.MethodName) prog_2_method_42_code (3 : Nat) (Option.some Jvm.ClassFile.FieldType.int)) ∈ lw_all := lw_g (lw_at lw_m6 123 rfl) rfl
theorem q1410 : (Jvm.Cond.constant "ChurchyardBook$Book" (361 : Nat) (40000 : Int32)) ∈ lw_all := lw_g (lw_at lw_m6 124 rfl) rfl
theorem q1411 : (Jvm.Cond.constant "ChurchyardBook$Book" (362 : Nat) (200000 : Int32)) ∈ lw_all := lw_g (lw_at lw_m6 125 rfl) rfl
theorem q1412 : (Jvm.Cond.methodLink "ChurchyardBook$Book" (363 : Nat) ({ cls := "ChurchyardBook$Grave", name := "turn", desc := "(I)V" } : Jvm.MethodName)) ∈ lw_all := lw_g (lw_at lw_m6 126 rfl) rfl
theorem q1599 : (Jvm.Cond.instanceMethod ({ cls := "ChurchyardBook$Book", name := "isFree", desc := "([LChurchyardBook$Place;IIILChurchyardBook$Grave;)Z" } : Jvm.MethodName)) ∈ lw_all := lw_g (lw_at lw_m7 73 rfl) rfl
theorem q1600 : (Jvm.Cond.selects "ChurchyardBook$Book" ({ cls := "ChurchyardBook$Book", name := "isFree", desc := "([LChurchyardBook$Place;IIILChurchyardBook$Grave;)Z" } : Jvm.MethodName) ({ cls := "ChurchyardBook$Book", name := "isFree", desc := "([LChurchyardBook$Place;IIILChurchyardBook$Grave;)Z" } : Jvm.MethodName)) ∈ lw_all := lw_g (lw_at lw_m7 74 rfl) rfl
theorem q1601 : (Jvm.Cond.code ({ cls := "ChurchyardBook$Book", name := "isFree", desc := "([LChurchyardBook$Place;IIILChurchyardBook$Grave;)Z" } : Jvm.MethodName) prog_2_method_17_code (8 : Nat) (Option.some Jvm.ClassFile.FieldType.boolean)) ∈ lw_all := lw_g (lw_at lw_m7 75 rfl) rfl
theorem q1602 : (Jvm.Cond.methodLink "ChurchyardBook$Book" (145 : Nat) ({ cls := "ChurchyardBook$Book", name := "isOf", desc := "([LChurchyardBook$Place;LChurchyardBook$Place;)Z" } : Jvm.MethodName)) ∈ lw_all := lw_g (lw_at lw_m7 76 rfl) rfl
theorem q1603 : (Jvm.Cond.privateMethod ({ cls := "ChurchyardBook$Book", name := "isOf", desc := "([LChurchyardBook$Place;LChurchyardBook$Place;)Z" } : Jvm.MethodName)) ∈ lw_tbl := lw_at lw_m7 77 rfl
theorem q1604 : (Jvm.Cond.instanceMethod ({ cls := "ChurchyardBook$Book", name := "isOf", desc := "([LChurchyardBook$Place;LChurchyardBook$Place;)Z" } : Jvm.MethodName)) ∈ lw_all := lw_g (lw_at lw_m7 78 rfl) rfl
theorem q1605 : (Jvm.Cond.code ({ cls := "ChurchyardBook$Book", name := "isOf", desc := "([LChurchyardBook$Place;LChurchyardBook$Place;)Z" } : Jvm.MethodName) prog_2_method_16_code (3 : Nat) (Option.some Jvm.ClassFile.FieldType.boolean)) ∈ lw_all := lw_g (lw_at lw_m7 79 rfl) rfl
theorem q1606 : (Jvm.Cond.classLink "ChurchyardBook$Book" (135 : Nat) "[LChurchyardBook$Wall;") ∈ lw_all := lw_g (lw_at lw_m7 80 rfl) rfl
theorem q1607 : (Jvm.Cond.classLink "ChurchyardBook$Book" (137 : Nat) "ChurchyardBook$Wall") ∈ lw_all := lw_g (lw_at lw_m7 81 rfl) rfl
theorem q1608 : (Jvm.Cond.classLink "ChurchyardBook$Book" (139 : Nat) "[LChurchyardBook$Deep;") ∈ lw_all := lw_g (lw_at lw_m7 82 rfl) rfl
theorem q1609 : (Jvm.Cond.classLink "ChurchyardBook$Book" (141 : Nat) "ChurchyardBook$Deep") ∈ lw_all := lw_g (lw_at lw_m7 83 rfl) rfl
theorem q1610 : (Jvm.Cond.classLink "ChurchyardBook$Book" (143 : Nat) "[LChurchyardBook$Grave;") ∈ lw_all := lw_g (lw_at lw_m7 84 rfl) rfl
theorem q2263 : (Jvm.Cond.castable "ChurchyardBook$Book" "java/lang/Object") ∈ lw_tbl := lw_at lw_m10 17 rfl
theorem in_X5 : ∀ w ∈ wsX50, w ∈ lw_all := lw_in wsX50 [199, 201, 203, 205, 207, 209] (by decide +kernel) (by decide +kernel)

/-! java/util/AbstractCollection -/
set_option maxRecDepth 100000
def RJ0 : String := "java/util/AbstractCollection"
abbrev cJ0_init : ByteArray := prog_37_method_1_code
def yJ0_init : MethodName := ⟨RJ0, "<init>", "()V"⟩
theorem dJ0_init_0 : decode cJ0_init 0 = .ok (.aload_n 0, 1) := by decide +kernel
theorem dJ0_init_1 : decode cJ0_init 1 = .ok (.invokespecial 1, 3) := by decide +kernel
theorem dJ0_init_4 : decode cJ0_init 4 = .ok (.return_, 1) := by decide +kernel
theorem q92 : (Jvm.Cond.initialized "java/util/AbstractCollection") ∈ lw_all := lw_g (lw_at lw_m1 6 rfl) rfl
theorem q164 : (Jvm.Cond.instanceMethod ({ cls := "java/util/AbstractCollection", name := "<init>", desc := "()V" } : Jvm.MethodName)) ∈ lw_all := lw_g (lw_at lw_m1 78 rfl) rfl
theorem q165 : (Jvm.Cond.code ({ cls := "java/util/AbstractCollection", name := "<init>", desc := "()V" } : Jvm.MethodName) prog_37_method_1_code (1 : Nat) (Option.none : Option Jvm.ClassFile.FieldType)) ∈ lw_all := lw_g (lw_at lw_m1 79 rfl) rfl
theorem q166 : (Jvm.Cond.methodLink "java/util/AbstractCollection" (1 : Nat) ({ cls := "java/lang/Object", name := "<init>", desc := "()V" } : Jvm.MethodName)) ∈ lw_all := lw_g (lw_at lw_m1 80 rfl) rfl

/-! java/util/AbstractList -/
set_option maxRecDepth 100000
def RJ1 : String := "java/util/AbstractList"
abbrev cJ1_init : ByteArray := prog_38_method_1_code
def yJ1_init : MethodName := ⟨RJ1, "<init>", "()V"⟩
def dkwJ1_init_0 : List UInt8 := [42, 183, 0, 1, 42, 3, 181, 0, 7, 177]
abbrev dktJ1_init_0 : List UInt8 := dkwJ1_init_0 ++ []
theorem dksJ1_init_0 : cJ1_init.data.toList.drop 0 = dktJ1_init_0 := by decide +kernel
theorem dJ1_init_0 : decode cJ1_init 0 = .ok (.aload_n 0, 1) := dk_42 (dk_at dksJ1_init_0 0 rfl rfl)
theorem dJ1_init_1 : decode cJ1_init 1 = .ok (.invokespecial 1, 3) := dk_183 0 1 (dk_at dksJ1_init_0 1 rfl rfl)
theorem dJ1_init_4 : decode cJ1_init 4 = .ok (.aload_n 0, 1) := dk_42 (dk_at dksJ1_init_0 4 rfl rfl)
theorem dJ1_init_5 : decode cJ1_init 5 = .ok (.iconst 0, 1) := dk_3 (dk_at dksJ1_init_0 5 rfl rfl)
theorem dJ1_init_6 : decode cJ1_init 6 = .ok (.putfield 7, 3) := dk_181 0 7 (dk_at dksJ1_init_0 6 rfl rfl)
theorem dJ1_init_9 : decode cJ1_init 9 = .ok (.return_, 1) := dk_177 (dk_at dksJ1_init_0 9 rfl rfl)
theorem q93 : (Jvm.Cond.initialized "java/util/AbstractList") ∈ lw_all := lw_g (lw_at lw_m1 7 rfl) rfl
theorem q161 : (Jvm.Cond.instanceMethod ({ cls := "java/util/AbstractList", name := "<init>", desc := "()V" } : Jvm.MethodName)) ∈ lw_all := lw_g (lw_at lw_m1 75 rfl) rfl
theorem q162 : (Jvm.Cond.code ({ cls := "java/util/AbstractList", name := "<init>", desc := "()V" } : Jvm.MethodName) prog_38_method_1_code (1 : Nat) (Option.none : Option Jvm.ClassFile.FieldType)) ∈ lw_all := lw_g (lw_at lw_m1 76 rfl) rfl
theorem q163 : (Jvm.Cond.methodLink "java/util/AbstractList" (1 : Nat) ({ cls := "java/util/AbstractCollection", name := "<init>", desc := "()V" } : Jvm.MethodName)) ∈ lw_all := lw_g (lw_at lw_m1 77 rfl) rfl
theorem q173 : (Jvm.Cond.fieldLink "java/util/AbstractList" (7 : Nat) "java/util/AbstractList" "modCount" "I") ∈ lw_all := lw_g (lw_at lw_m1 87 rfl) rfl
theorem q181 : (Jvm.Cond.soleField "java/util/AbstractList" "modCount") ∈ lw_all := lw_g (lw_at lw_m1 95 rfl) rfl

/-! java/util/ArrayList -/
set_option maxRecDepth 100000
def RJ2 : String := "java/util/ArrayList"
def TJ2 : u_T := fun k => match k with
  | 0 => ("java/util/AbstractList", "modCount", "I", false)
  | 1 => ("java/util/ArrayList", "elementData", "[Ljava/lang/Object;", false)
  | _ => ("java/util/ArrayList", "size", "I", false)
def tyJ2 : Nat → FieldType := fun k => match k with
  | 0 => .int
  | 1 => .array (.object "java/lang/Object")
  | _ => .int
abbrev wsJ20 : List Cond := u_ws RJ2 TJ2 3
theorem nmJ2 : ∀ a, a < 3 → ∀ b, b < 3 → a ≠ b → (TJ2 a).2.1 ≠ (TJ2 b).2.1 := by decide +kernel
theorem tyJ2_ok : ∀ k, k < 3 → parseFieldDescriptor (TJ2 k).2.2.1 = some (tyJ2 k) := by decide +kernel
abbrev cJ2_init : ByteArray := prog_39_method_1_code
def yJ2_init : MethodName := ⟨RJ2, "<init>", "(I)V"⟩
def dkwJ2_init_2 : List UInt8 := [182, 0, 25, 27, 182, 0, 29, 182, 0, 32, 183, 0, 36, 191, 177]
abbrev dktJ2_init_2 : List UInt8 := dkwJ2_init_2 ++ []
def dkwJ2_init_1 : List UInt8 := [178, 0, 15, 181, 0, 9, 167, 0, 30, 187, 0, 18, 89, 187, 0, 20, 89, 183, 0, 22, 18, 23]
abbrev dktJ2_init_1 : List UInt8 := dkwJ2_init_1 ++ dktJ2_init_2
def dkwJ2_init_0 : List UInt8 := [42, 183, 0, 1, 27, 158, 0, 14, 42, 27, 189, 0, 7, 181, 0, 9, 167, 0, 44, 27, 154, 0, 13, 42]
abbrev dktJ2_init_0 : List UInt8 := dkwJ2_init_0 ++ dktJ2_init_1
theorem dksJ2_init_0 : cJ2_init.data.toList.drop 0 = dktJ2_init_0 := by decide +kernel
theorem dksJ2_init_1 : cJ2_init.data.toList.drop 24 = dktJ2_init_1 := dk_seg dksJ2_init_0 24 rfl rfl
theorem dksJ2_init_2 : cJ2_init.data.toList.drop 46 = dktJ2_init_2 := dk_seg dksJ2_init_1 22 rfl rfl
theorem dJ2_init_0 : decode cJ2_init 0 = .ok (.aload_n 0, 1) := dk_42 (dk_at dksJ2_init_0 0 rfl rfl)
theorem dJ2_init_1 : decode cJ2_init 1 = .ok (.invokespecial 1, 3) := dk_183 0 1 (dk_at dksJ2_init_0 1 rfl rfl)
theorem dJ2_init_4 : decode cJ2_init 4 = .ok (.iload_n 1, 1) := dk_27 (dk_at dksJ2_init_0 4 rfl rfl)
theorem dJ2_init_5 : decode cJ2_init 5 = .ok (.ifCond .le 14, 3) := dk_158 0 14 (dk_at dksJ2_init_0 5 rfl rfl)
theorem dJ2_init_8 : decode cJ2_init 8 = .ok (.aload_n 0, 1) := dk_42 (dk_at dksJ2_init_0 8 rfl rfl)
theorem dJ2_init_9 : decode cJ2_init 9 = .ok (.iload_n 1, 1) := dk_27 (dk_at dksJ2_init_0 9 rfl rfl)
theorem dJ2_init_10 : decode cJ2_init 10 = .ok (.anewarray 7, 3) := dk_189 0 7 (dk_at dksJ2_init_0 10 rfl rfl)
theorem dJ2_init_13 : decode cJ2_init 13 = .ok (.putfield 9, 3) := dk_181 0 9 (dk_at dksJ2_init_0 13 rfl rfl)
theorem dJ2_init_16 : decode cJ2_init 16 = .ok (.goto 44, 3) := dk_167 0 44 (dk_at dksJ2_init_0 16 rfl rfl)
theorem dJ2_init_19 : decode cJ2_init 19 = .ok (.iload_n 1, 1) := dk_27 (dk_at dksJ2_init_0 19 rfl rfl)
theorem dJ2_init_20 : decode cJ2_init 20 = .ok (.ifCond .ne 13, 3) := dk_154 0 13 (dk_at dksJ2_init_0 20 rfl rfl)
theorem dJ2_init_23 : decode cJ2_init 23 = .ok (.aload_n 0, 1) := dk_42 (dk_at dksJ2_init_0 23 rfl rfl)
theorem dJ2_init_24 : decode cJ2_init 24 = .ok (.getstatic 15, 3) := dk_178 0 15 (dk_at dksJ2_init_1 0 rfl rfl)
theorem dJ2_init_27 : decode cJ2_init 27 = .ok (.putfield 9, 3) := dk_181 0 9 (dk_at dksJ2_init_1 3 rfl rfl)
theorem dJ2_init_30 : decode cJ2_init 30 = .ok (.goto 30, 3) := dk_167 0 30 (dk_at dksJ2_init_1 6 rfl rfl)
theorem dJ2_init_33 : decode cJ2_init 33 = .ok (.new 18, 3) := dk_187 0 18 (dk_at dksJ2_init_1 9 rfl rfl)
theorem dJ2_init_36 : decode cJ2_init 36 = .ok (.dup, 1) := dk_89 (dk_at dksJ2_init_1 12 rfl rfl)
theorem dJ2_init_37 : decode cJ2_init 37 = .ok (.new 20, 3) := dk_187 0 20 (dk_at dksJ2_init_1 13 rfl rfl)
theorem dJ2_init_40 : decode cJ2_init 40 = .ok (.dup, 1) := dk_89 (dk_at dksJ2_init_1 16 rfl rfl)
theorem dJ2_init_41 : decode cJ2_init 41 = .ok (.invokespecial 22, 3) := dk_183 0 22 (dk_at dksJ2_init_1 17 rfl rfl)
theorem dJ2_init_44 : decode cJ2_init 44 = .ok (.ldc 23, 2) := dk_18 23 (dk_at dksJ2_init_1 20 rfl rfl)
theorem dJ2_init_46 : decode cJ2_init 46 = .ok (.invokevirtual 25, 3) := dk_182 0 25 (dk_at dksJ2_init_2 0 rfl rfl)
theorem dJ2_init_49 : decode cJ2_init 49 = .ok (.iload_n 1, 1) := dk_27 (dk_at dksJ2_init_2 3 rfl rfl)
theorem dJ2_init_50 : decode cJ2_init 50 = .ok (.invokevirtual 29, 3) := dk_182 0 29 (dk_at dksJ2_init_2 4 rfl rfl)
theorem dJ2_init_53 : decode cJ2_init 53 = .ok (.invokevirtual 32, 3) := dk_182 0 32 (dk_at dksJ2_init_2 7 rfl rfl)
theorem dJ2_init_56 : decode cJ2_init 56 = .ok (.invokespecial 36, 3) := dk_183 0 36 (dk_at dksJ2_init_2 10 rfl rfl)
theorem dJ2_init_59 : decode cJ2_init 59 = .ok (.athrow, 1) := dk_191 (dk_at dksJ2_init_2 13 rfl rfl)
theorem dJ2_init_60 : decode cJ2_init 60 = .ok (.return_, 1) := dk_177 (dk_at dksJ2_init_2 14 rfl rfl)
abbrev cJ2_init_2 : ByteArray := prog_39_method_2_code
def yJ2_init_2 : MethodName := ⟨RJ2, "<init>", "()V"⟩
def dkwJ2_init_2_0 : List UInt8 := [42, 183, 0, 1, 42, 178, 0, 39, 181, 0, 9, 177]
abbrev dktJ2_init_2_0 : List UInt8 := dkwJ2_init_2_0 ++ []
theorem dksJ2_init_2_0 : cJ2_init_2.data.toList.drop 0 = dktJ2_init_2_0 := by decide +kernel
theorem dJ2_init_2_0 : decode cJ2_init_2 0 = .ok (.aload_n 0, 1) := dk_42 (dk_at dksJ2_init_2_0 0 rfl rfl)
theorem dJ2_init_2_1 : decode cJ2_init_2 1 = .ok (.invokespecial 1, 3) := dk_183 0 1 (dk_at dksJ2_init_2_0 1 rfl rfl)
theorem dJ2_init_2_4 : decode cJ2_init_2 4 = .ok (.aload_n 0, 1) := dk_42 (dk_at dksJ2_init_2_0 4 rfl rfl)
theorem dJ2_init_2_5 : decode cJ2_init_2 5 = .ok (.getstatic 39, 3) := dk_178 0 39 (dk_at dksJ2_init_2_0 5 rfl rfl)
theorem dJ2_init_2_8 : decode cJ2_init_2 8 = .ok (.putfield 9, 3) := dk_181 0 9 (dk_at dksJ2_init_2_0 8 rfl rfl)
theorem dJ2_init_2_11 : decode cJ2_init_2 11 = .ok (.return_, 1) := dk_177 (dk_at dksJ2_init_2_0 11 rfl rfl)
abbrev cJ2_size : ByteArray := prog_39_method_8_code
def yJ2_size : MethodName := ⟨RJ2, "size", "()I"⟩
theorem dJ2_size_0 : decode cJ2_size 0 = .ok (.aload_n 0, 1) := by decide +kernel
theorem dJ2_size_1 : decode cJ2_size 1 = .ok (.getfield 48, 3) := by decide +kernel
theorem dJ2_size_4 : decode cJ2_size 4 = .ok (.ireturn, 1) := by decide +kernel
abbrev cJ2_add : ByteArray := prog_39_method_25_code
def yJ2_add : MethodName := ⟨RJ2, "add", "(Ljava/lang/Object;)Z"⟩
def dkwJ2_add_1 : List UInt8 := [172]
abbrev dktJ2_add_1 : List UInt8 := dkwJ2_add_1 ++ []
def dkwJ2_add_0 : List UInt8 := [42, 89, 180, 0, 63, 4, 96, 181, 0, 63, 42, 43, 42, 180, 0, 9, 42, 180, 0, 48, 182, 0, 131, 4]
abbrev dktJ2_add_0 : List UInt8 := dkwJ2_add_0 ++ dktJ2_add_1
theorem dksJ2_add_0 : cJ2_add.data.toList.drop 0 = dktJ2_add_0 := by decide +kernel
theorem dksJ2_add_1 : cJ2_add.data.toList.drop 24 = dktJ2_add_1 := dk_seg dksJ2_add_0 24 rfl rfl
theorem dJ2_add_0 : decode cJ2_add 0 = .ok (.aload_n 0, 1) := dk_42 (dk_at dksJ2_add_0 0 rfl rfl)
theorem dJ2_add_1 : decode cJ2_add 1 = .ok (.dup, 1) := dk_89 (dk_at dksJ2_add_0 1 rfl rfl)
theorem dJ2_add_2 : decode cJ2_add 2 = .ok (.getfield 63, 3) := dk_180 0 63 (dk_at dksJ2_add_0 2 rfl rfl)
theorem dJ2_add_5 : decode cJ2_add 5 = .ok (.iconst 1, 1) := dk_4 (dk_at dksJ2_add_0 5 rfl rfl)
theorem dJ2_add_6 : decode cJ2_add 6 = .ok (.iadd, 1) := dk_96 (dk_at dksJ2_add_0 6 rfl rfl)
theorem dJ2_add_7 : decode cJ2_add 7 = .ok (.putfield 63, 3) := dk_181 0 63 (dk_at dksJ2_add_0 7 rfl rfl)
theorem dJ2_add_10 : decode cJ2_add 10 = .ok (.aload_n 0, 1) := dk_42 (dk_at dksJ2_add_0 10 rfl rfl)
theorem dJ2_add_11 : decode cJ2_add 11 = .ok (.aload_n 1, 1) := dk_43 (dk_at dksJ2_add_0 11 rfl rfl)
theorem dJ2_add_12 : decode cJ2_add 12 = .ok (.aload_n 0, 1) := dk_42 (dk_at dksJ2_add_0 12 rfl rfl)
theorem dJ2_add_13 : decode cJ2_add 13 = .ok (.getfield 9, 3) := dk_180 0 9 (dk_at dksJ2_add_0 13 rfl rfl)
theorem dJ2_add_16 : decode cJ2_add 16 = .ok (.aload_n 0, 1) := dk_42 (dk_at dksJ2_add_0 16 rfl rfl)
theorem dJ2_add_17 : decode cJ2_add 17 = .ok (.getfield 48, 3) := dk_180 0 48 (dk_at dksJ2_add_0 17 rfl rfl)
theorem dJ2_add_20 : decode cJ2_add 20 = .ok (.invokevirtual 131, 3) := dk_182 0 131 (dk_at dksJ2_add_0 20 rfl rfl)
theorem dJ2_add_23 : decode cJ2_add 23 = .ok (.iconst 1, 1) := dk_4 (dk_at dksJ2_add_0 23 rfl rfl)
theorem dJ2_add_24 : decode cJ2_add 24 = .ok (.ireturn, 1) := dk_172 (dk_at dksJ2_add_1 0 rfl rfl)
abbrev cJ2_add_2 : ByteArray := prog_39_method_24_code
def yJ2_add_2 : MethodName := ⟨RJ2, "add", "(Ljava/lang/Object;[Ljava/lang/Object;I)V"⟩
def dkwJ2_add_2_0 : List UInt8 := [29, 44, 190, 160, 0, 8, 42, 182, 0, 129, 77, 44, 29, 43, 83, 42, 29, 4, 96, 181, 0, 48, 177]
abbrev dktJ2_add_2_0 : List UInt8 := dkwJ2_add_2_0 ++ []
theorem dksJ2_add_2_0 : cJ2_add_2.data.toList.drop 0 = dktJ2_add_2_0 := by decide +kernel
theorem dJ2_add_2_0 : decode cJ2_add_2 0 = .ok (.iload_n 3, 1) := dk_29 (dk_at dksJ2_add_2_0 0 rfl rfl)
theorem dJ2_add_2_1 : decode cJ2_add_2 1 = .ok (.aload_n 2, 1) := dk_44 (dk_at dksJ2_add_2_0 1 rfl rfl)
theorem dJ2_add_2_2 : decode cJ2_add_2 2 = .ok (.arraylength, 1) := dk_190 (dk_at dksJ2_add_2_0 2 rfl rfl)
theorem dJ2_add_2_3 : decode cJ2_add_2 3 = .ok (.if_icmp .ne 8, 3) := dk_160 0 8 (dk_at dksJ2_add_2_0 3 rfl rfl)
theorem dJ2_add_2_6 : decode cJ2_add_2 6 = .ok (.aload_n 0, 1) := dk_42 (dk_at dksJ2_add_2_0 6 rfl rfl)
theorem dJ2_add_2_7 : decode cJ2_add_2 7 = .ok (.invokevirtual 129, 3) := dk_182 0 129 (dk_at dksJ2_add_2_0 7 rfl rfl)
theorem dJ2_add_2_10 : decode cJ2_add_2 10 = .ok (.astore_n 2, 1) := dk_77 (dk_at dksJ2_add_2_0 10 rfl rfl)
theorem dJ2_add_2_11 : decode cJ2_add_2 11 = .ok (.aload_n 2, 1) := dk_44 (dk_at dksJ2_add_2_0 11 rfl rfl)
theorem dJ2_add_2_12 : decode cJ2_add_2 12 = .ok (.iload_n 3, 1) := dk_29 (dk_at dksJ2_add_2_0 12 rfl rfl)
theorem dJ2_add_2_13 : decode cJ2_add_2 13 = .ok (.aload_n 1, 1) := dk_43 (dk_at dksJ2_add_2_0 13 rfl rfl)
theorem dJ2_add_2_14 : decode cJ2_add_2 14 = .ok (.aastore, 1) := dk_83 (dk_at dksJ2_add_2_0 14 rfl rfl)
theorem dJ2_add_2_15 : decode cJ2_add_2 15 = .ok (.aload_n 0, 1) := dk_42 (dk_at dksJ2_add_2_0 15 rfl rfl)
theorem dJ2_add_2_16 : decode cJ2_add_2 16 = .ok (.iload_n 3, 1) := dk_29 (dk_at dksJ2_add_2_0 16 rfl rfl)
theorem dJ2_add_2_17 : decode cJ2_add_2 17 = .ok (.iconst 1, 1) := dk_4 (dk_at dksJ2_add_2_0 17 rfl rfl)
theorem dJ2_add_2_18 : decode cJ2_add_2 18 = .ok (.iadd, 1) := dk_96 (dk_at dksJ2_add_2_0 18 rfl rfl)
theorem dJ2_add_2_19 : decode cJ2_add_2 19 = .ok (.putfield 48, 3) := dk_181 0 48 (dk_at dksJ2_add_2_0 19 rfl rfl)
theorem dJ2_add_2_22 : decode cJ2_add_2 22 = .ok (.return_, 1) := dk_177 (dk_at dksJ2_add_2_0 22 rfl rfl)
abbrev cJ2_grow : ByteArray := prog_39_method_7_code
def yJ2_grow : MethodName := ⟨RJ2, "grow", "()[Ljava/lang/Object;"⟩
def dkwJ2_grow_0 : List UInt8 := [42, 42, 180, 0, 48, 4, 96, 182, 0, 69, 176]
abbrev dktJ2_grow_0 : List UInt8 := dkwJ2_grow_0 ++ []
theorem dksJ2_grow_0 : cJ2_grow.data.toList.drop 0 = dktJ2_grow_0 := by decide +kernel
theorem dJ2_grow_0 : decode cJ2_grow 0 = .ok (.aload_n 0, 1) := dk_42 (dk_at dksJ2_grow_0 0 rfl rfl)
theorem dJ2_grow_1 : decode cJ2_grow 1 = .ok (.aload_n 0, 1) := dk_42 (dk_at dksJ2_grow_0 1 rfl rfl)
theorem dJ2_grow_2 : decode cJ2_grow 2 = .ok (.getfield 48, 3) := dk_180 0 48 (dk_at dksJ2_grow_0 2 rfl rfl)
theorem dJ2_grow_5 : decode cJ2_grow 5 = .ok (.iconst 1, 1) := dk_4 (dk_at dksJ2_grow_0 5 rfl rfl)
theorem dJ2_grow_6 : decode cJ2_grow 6 = .ok (.iadd, 1) := dk_96 (dk_at dksJ2_grow_0 6 rfl rfl)
theorem dJ2_grow_7 : decode cJ2_grow 7 = .ok (.invokevirtual 69, 3) := dk_182 0 69 (dk_at dksJ2_grow_0 7 rfl rfl)
theorem dJ2_grow_10 : decode cJ2_grow 10 = .ok (.areturn, 1) := dk_176 (dk_at dksJ2_grow_0 10 rfl rfl)
abbrev cJ2_grow_2 : ByteArray := prog_39_method_6_code
def yJ2_grow_2 : MethodName := ⟨RJ2, "grow", "(I)[Ljava/lang/Object;"⟩
def dkwJ2_grow_2_2 : List UInt8 := [27, 184, 0, 79, 189, 0, 7, 90, 181, 0, 9, 176]
abbrev dktJ2_grow_2_2 : List UInt8 := dkwJ2_grow_2_2 ++ []
def dkwJ2_grow_2_1 : List UInt8 := [28, 4, 122, 184, 0, 73, 62, 42, 42, 180, 0, 9, 29, 184, 0, 66, 90, 181, 0, 9, 176, 42, 16, 10]
abbrev dktJ2_grow_2_1 : List UInt8 := dkwJ2_grow_2_1 ++ dktJ2_grow_2_2
def dkwJ2_grow_2_0 : List UInt8 := [42, 180, 0, 9, 190, 61, 28, 157, 0, 13, 42, 180, 0, 9, 178, 0, 39, 165, 0, 28, 28, 27, 28, 100]
abbrev dktJ2_grow_2_0 : List UInt8 := dkwJ2_grow_2_0 ++ dktJ2_grow_2_1
theorem dksJ2_grow_2_0 : cJ2_grow_2.data.toList.drop 0 = dktJ2_grow_2_0 := by decide +kernel
theorem dksJ2_grow_2_1 : cJ2_grow_2.data.toList.drop 24 = dktJ2_grow_2_1 := dk_seg dksJ2_grow_2_0 24 rfl rfl
theorem dksJ2_grow_2_2 : cJ2_grow_2.data.toList.drop 48 = dktJ2_grow_2_2 := dk_seg dksJ2_grow_2_1 24 rfl rfl
theorem dJ2_grow_2_0 : decode cJ2_grow_2 0 = .ok (.aload_n 0, 1) := dk_42 (dk_at dksJ2_grow_2_0 0 rfl rfl)
theorem dJ2_grow_2_1 : decode cJ2_grow_2 1 = .ok (.getfield 9, 3) := dk_180 0 9 (dk_at dksJ2_grow_2_0 1 rfl rfl)
theorem dJ2_grow_2_4 : decode cJ2_grow_2 4 = .ok (.arraylength, 1) := dk_190 (dk_at dksJ2_grow_2_0 4 rfl rfl)
theorem dJ2_grow_2_5 : decode cJ2_grow_2 5 = .ok (.istore_n 2, 1) := dk_61 (dk_at dksJ2_grow_2_0 5 rfl rfl)
theorem dJ2_grow_2_6 : decode cJ2_grow_2 6 = .ok (.iload_n 2, 1) := dk_28 (dk_at dksJ2_grow_2_0 6 rfl rfl)
theorem dJ2_grow_2_7 : decode cJ2_grow_2 7 = .ok (.ifCond .gt 13, 3) := dk_157 0 13 (dk_at dksJ2_grow_2_0 7 rfl rfl)
theorem dJ2_grow_2_10 : decode cJ2_grow_2 10 = .ok (.aload_n 0, 1) := dk_42 (dk_at dksJ2_grow_2_0 10 rfl rfl)
theorem dJ2_grow_2_11 : decode cJ2_grow_2 11 = .ok (.getfield 9, 3) := dk_180 0 9 (dk_at dksJ2_grow_2_0 11 rfl rfl)
theorem dJ2_grow_2_14 : decode cJ2_grow_2 14 = .ok (.getstatic 39, 3) := dk_178 0 39 (dk_at dksJ2_grow_2_0 14 rfl rfl)
theorem dJ2_grow_2_17 : decode cJ2_grow_2 17 = .ok (.if_acmp .eq 28, 3) := dk_165 0 28 (dk_at dksJ2_grow_2_0 17 rfl rfl)
theorem dJ2_grow_2_20 : decode cJ2_grow_2 20 = .ok (.iload_n 2, 1) := dk_28 (dk_at dksJ2_grow_2_0 20 rfl rfl)
theorem dJ2_grow_2_21 : decode cJ2_grow_2 21 = .ok (.iload_n 1, 1) := dk_27 (dk_at dksJ2_grow_2_0 21 rfl rfl)
theorem dJ2_grow_2_22 : decode cJ2_grow_2 22 = .ok (.iload_n 2, 1) := dk_28 (dk_at dksJ2_grow_2_0 22 rfl rfl)
theorem dJ2_grow_2_23 : decode cJ2_grow_2 23 = .ok (.isub, 1) := dk_100 (dk_at dksJ2_grow_2_0 23 rfl rfl)
theorem dJ2_grow_2_24 : decode cJ2_grow_2 24 = .ok (.iload_n 2, 1) := dk_28 (dk_at dksJ2_grow_2_1 0 rfl rfl)
theorem dJ2_grow_2_25 : decode cJ2_grow_2 25 = .ok (.iconst 1, 1) := dk_4 (dk_at dksJ2_grow_2_1 1 rfl rfl)
theorem dJ2_grow_2_26 : decode cJ2_grow_2 26 = .ok (.ishr, 1) := dk_122 (dk_at dksJ2_grow_2_1 2 rfl rfl)
theorem dJ2_grow_2_27 : decode cJ2_grow_2 27 = .ok (.invokestatic 73, 3) := dk_184 0 73 (dk_at dksJ2_grow_2_1 3 rfl rfl)
theorem dJ2_grow_2_30 : decode cJ2_grow_2 30 = .ok (.istore_n 3, 1) := dk_62 (dk_at dksJ2_grow_2_1 6 rfl rfl)
theorem dJ2_grow_2_31 : decode cJ2_grow_2 31 = .ok (.aload_n 0, 1) := dk_42 (dk_at dksJ2_grow_2_1 7 rfl rfl)
theorem dJ2_grow_2_32 : decode cJ2_grow_2 32 = .ok (.aload_n 0, 1) := dk_42 (dk_at dksJ2_grow_2_1 8 rfl rfl)
theorem dJ2_grow_2_33 : decode cJ2_grow_2 33 = .ok (.getfield 9, 3) := dk_180 0 9 (dk_at dksJ2_grow_2_1 9 rfl rfl)
theorem dJ2_grow_2_36 : decode cJ2_grow_2 36 = .ok (.iload_n 3, 1) := dk_29 (dk_at dksJ2_grow_2_1 12 rfl rfl)
theorem dJ2_grow_2_37 : decode cJ2_grow_2 37 = .ok (.invokestatic 66, 3) := dk_184 0 66 (dk_at dksJ2_grow_2_1 13 rfl rfl)
theorem dJ2_grow_2_40 : decode cJ2_grow_2 40 = .ok (.dup_x1, 1) := dk_90 (dk_at dksJ2_grow_2_1 16 rfl rfl)
theorem dJ2_grow_2_41 : decode cJ2_grow_2 41 = .ok (.putfield 9, 3) := dk_181 0 9 (dk_at dksJ2_grow_2_1 17 rfl rfl)
theorem dJ2_grow_2_44 : decode cJ2_grow_2 44 = .ok (.areturn, 1) := dk_176 (dk_at dksJ2_grow_2_1 20 rfl rfl)
theorem dJ2_grow_2_45 : decode cJ2_grow_2 45 = .ok (.aload_n 0, 1) := dk_42 (dk_at dksJ2_grow_2_1 21 rfl rfl)
theorem dJ2_grow_2_46 : decode cJ2_grow_2 46 = .ok (.bipush 10, 2) := dk_16 10 (dk_at dksJ2_grow_2_1 22 rfl rfl)
theorem dJ2_grow_2_48 : decode cJ2_grow_2 48 = .ok (.iload_n 1, 1) := dk_27 (dk_at dksJ2_grow_2_2 0 rfl rfl)
theorem dJ2_grow_2_49 : decode cJ2_grow_2 49 = .ok (.invokestatic 79, 3) := dk_184 0 79 (dk_at dksJ2_grow_2_2 1 rfl rfl)
theorem dJ2_grow_2_52 : decode cJ2_grow_2 52 = .ok (.anewarray 7, 3) := dk_189 0 7 (dk_at dksJ2_grow_2_2 4 rfl rfl)
theorem dJ2_grow_2_55 : decode cJ2_grow_2 55 = .ok (.dup_x1, 1) := dk_90 (dk_at dksJ2_grow_2_2 7 rfl rfl)
theorem dJ2_grow_2_56 : decode cJ2_grow_2 56 = .ok (.putfield 9, 3) := dk_181 0 9 (dk_at dksJ2_grow_2_2 8 rfl rfl)
theorem dJ2_grow_2_59 : decode cJ2_grow_2 59 = .ok (.areturn, 1) := dk_176 (dk_at dksJ2_grow_2_2 11 rfl rfl)
abbrev cJ2_get : ByteArray := prog_39_method_20_code
def yJ2_get : MethodName := ⟨RJ2, "get", "(I)Ljava/lang/Object;"⟩
def dkwJ2_get_0 : List UInt8 := [27, 42, 180, 0, 48, 184, 0, 118, 87, 42, 27, 182, 0, 123, 176]
abbrev dktJ2_get_0 : List UInt8 := dkwJ2_get_0 ++ []
theorem dksJ2_get_0 : cJ2_get.data.toList.drop 0 = dktJ2_get_0 := by decide +kernel
theorem dJ2_get_0 : decode cJ2_get 0 = .ok (.iload_n 1, 1) := dk_27 (dk_at dksJ2_get_0 0 rfl rfl)
theorem dJ2_get_1 : decode cJ2_get 1 = .ok (.aload_n 0, 1) := dk_42 (dk_at dksJ2_get_0 1 rfl rfl)
theorem dJ2_get_2 : decode cJ2_get 2 = .ok (.getfield 48, 3) := dk_180 0 48 (dk_at dksJ2_get_0 2 rfl rfl)
theorem dJ2_get_5 : decode cJ2_get 5 = .ok (.invokestatic 118, 3) := dk_184 0 118 (dk_at dksJ2_get_0 5 rfl rfl)
theorem dJ2_get_8 : decode cJ2_get 8 = .ok (.pop, 1) := dk_87 (dk_at dksJ2_get_0 8 rfl rfl)
theorem dJ2_get_9 : decode cJ2_get 9 = .ok (.aload_n 0, 1) := dk_42 (dk_at dksJ2_get_0 9 rfl rfl)
theorem dJ2_get_10 : decode cJ2_get 10 = .ok (.iload_n 1, 1) := dk_27 (dk_at dksJ2_get_0 10 rfl rfl)
theorem dJ2_get_11 : decode cJ2_get 11 = .ok (.invokevirtual 123, 3) := dk_182 0 123 (dk_at dksJ2_get_0 11 rfl rfl)
theorem dJ2_get_14 : decode cJ2_get 14 = .ok (.areturn, 1) := dk_176 (dk_at dksJ2_get_0 14 rfl rfl)
abbrev cJ2_elementData : ByteArray := prog_39_method_18_code
def yJ2_elementData : MethodName := ⟨RJ2, "elementData", "(I)Ljava/lang/Object;"⟩
def dkwJ2_elementData_0 : List UInt8 := [42, 180, 0, 9, 27, 50, 176]
abbrev dktJ2_elementData_0 : List UInt8 := dkwJ2_elementData_0 ++ []
theorem dksJ2_elementData_0 : cJ2_elementData.data.toList.drop 0 = dktJ2_elementData_0 := by decide +kernel
theorem dJ2_elementData_0 : decode cJ2_elementData 0 = .ok (.aload_n 0, 1) := dk_42 (dk_at dksJ2_elementData_0 0 rfl rfl)
theorem dJ2_elementData_1 : decode cJ2_elementData 1 = .ok (.getfield 9, 3) := dk_180 0 9 (dk_at dksJ2_elementData_0 1 rfl rfl)
theorem dJ2_elementData_4 : decode cJ2_elementData 4 = .ok (.iload_n 1, 1) := dk_27 (dk_at dksJ2_elementData_0 4 rfl rfl)
theorem dJ2_elementData_5 : decode cJ2_elementData 5 = .ok (.aaload, 1) := dk_50 (dk_at dksJ2_elementData_0 5 rfl rfl)
theorem dJ2_elementData_6 : decode cJ2_elementData 6 = .ok (.areturn, 1) := dk_176 (dk_at dksJ2_elementData_0 6 rfl rfl)
abbrev cJ2_clear : ByteArray := prog_39_method_40_code
def yJ2_clear : MethodName := ⟨RJ2, "clear", "()V"⟩
def dkwJ2_clear_1 : List UInt8 := [181, 0, 48, 62, 29, 28, 162, 0, 13, 43, 29, 1, 83, 132, 3, 1, 167, 255, 244, 177]
abbrev dktJ2_clear_1 : List UInt8 := dkwJ2_clear_1 ++ []
def dkwJ2_clear_0 : List UInt8 := [42, 89, 180, 0, 63, 4, 96, 181, 0, 63, 42, 180, 0, 9, 76, 42, 180, 0, 48, 61, 42, 3, 90]
abbrev dktJ2_clear_0 : List UInt8 := dkwJ2_clear_0 ++ dktJ2_clear_1
theorem dksJ2_clear_0 : cJ2_clear.data.toList.drop 0 = dktJ2_clear_0 := by decide +kernel
theorem dksJ2_clear_1 : cJ2_clear.data.toList.drop 23 = dktJ2_clear_1 := dk_seg dksJ2_clear_0 23 rfl rfl
theorem dJ2_clear_0 : decode cJ2_clear 0 = .ok (.aload_n 0, 1) := dk_42 (dk_at dksJ2_clear_0 0 rfl rfl)
theorem dJ2_clear_1 : decode cJ2_clear 1 = .ok (.dup, 1) := dk_89 (dk_at dksJ2_clear_0 1 rfl rfl)
theorem dJ2_clear_2 : decode cJ2_clear 2 = .ok (.getfield 63, 3) := dk_180 0 63 (dk_at dksJ2_clear_0 2 rfl rfl)
theorem dJ2_clear_5 : decode cJ2_clear 5 = .ok (.iconst 1, 1) := dk_4 (dk_at dksJ2_clear_0 5 rfl rfl)
theorem dJ2_clear_6 : decode cJ2_clear 6 = .ok (.iadd, 1) := dk_96 (dk_at dksJ2_clear_0 6 rfl rfl)
theorem dJ2_clear_7 : decode cJ2_clear 7 = .ok (.putfield 63, 3) := dk_181 0 63 (dk_at dksJ2_clear_0 7 rfl rfl)
theorem dJ2_clear_10 : decode cJ2_clear 10 = .ok (.aload_n 0, 1) := dk_42 (dk_at dksJ2_clear_0 10 rfl rfl)
theorem dJ2_clear_11 : decode cJ2_clear 11 = .ok (.getfield 9, 3) := dk_180 0 9 (dk_at dksJ2_clear_0 11 rfl rfl)
theorem dJ2_clear_14 : decode cJ2_clear 14 = .ok (.astore_n 1, 1) := dk_76 (dk_at dksJ2_clear_0 14 rfl rfl)
theorem dJ2_clear_15 : decode cJ2_clear 15 = .ok (.aload_n 0, 1) := dk_42 (dk_at dksJ2_clear_0 15 rfl rfl)
theorem dJ2_clear_16 : decode cJ2_clear 16 = .ok (.getfield 48, 3) := dk_180 0 48 (dk_at dksJ2_clear_0 16 rfl rfl)
theorem dJ2_clear_19 : decode cJ2_clear 19 = .ok (.istore_n 2, 1) := dk_61 (dk_at dksJ2_clear_0 19 rfl rfl)
theorem dJ2_clear_20 : decode cJ2_clear 20 = .ok (.aload_n 0, 1) := dk_42 (dk_at dksJ2_clear_0 20 rfl rfl)
theorem dJ2_clear_21 : decode cJ2_clear 21 = .ok (.iconst 0, 1) := dk_3 (dk_at dksJ2_clear_0 21 rfl rfl)
theorem dJ2_clear_22 : decode cJ2_clear 22 = .ok (.dup_x1, 1) := dk_90 (dk_at dksJ2_clear_0 22 rfl rfl)
theorem dJ2_clear_23 : decode cJ2_clear 23 = .ok (.putfield 48, 3) := dk_181 0 48 (dk_at dksJ2_clear_1 0 rfl rfl)
theorem dJ2_clear_26 : decode cJ2_clear 26 = .ok (.istore_n 3, 1) := dk_62 (dk_at dksJ2_clear_1 3 rfl rfl)
theorem dJ2_clear_27 : decode cJ2_clear 27 = .ok (.iload_n 3, 1) := dk_29 (dk_at dksJ2_clear_1 4 rfl rfl)
theorem dJ2_clear_28 : decode cJ2_clear 28 = .ok (.iload_n 2, 1) := dk_28 (dk_at dksJ2_clear_1 5 rfl rfl)
theorem dJ2_clear_29 : decode cJ2_clear 29 = .ok (.if_icmp .ge 13, 3) := dk_162 0 13 (dk_at dksJ2_clear_1 6 rfl rfl)
theorem dJ2_clear_32 : decode cJ2_clear 32 = .ok (.aload_n 1, 1) := dk_43 (dk_at dksJ2_clear_1 9 rfl rfl)
theorem dJ2_clear_33 : decode cJ2_clear 33 = .ok (.iload_n 3, 1) := dk_29 (dk_at dksJ2_clear_1 10 rfl rfl)
theorem dJ2_clear_34 : decode cJ2_clear 34 = .ok (.aconst_null, 1) := dk_1 (dk_at dksJ2_clear_1 11 rfl rfl)
theorem dJ2_clear_35 : decode cJ2_clear 35 = .ok (.aastore, 1) := dk_83 (dk_at dksJ2_clear_1 12 rfl rfl)
theorem dJ2_clear_36 : decode cJ2_clear 36 = .ok (.iinc 3 1, 3) := dk_132 3 1 (dk_at dksJ2_clear_1 13 rfl rfl)
theorem dJ2_clear_39 : decode cJ2_clear 39 = .ok (.goto (-12), 3) := dk_167 255 244 (dk_at dksJ2_clear_1 16 rfl rfl)
theorem dJ2_clear_42 : decode cJ2_clear 42 = .ok (.return_, 1) := dk_177 (dk_at dksJ2_clear_1 19 rfl rfl)
abbrev cJ2_contains : ByteArray := prog_39_method_10_code
def yJ2_contains : MethodName := ⟨RJ2, "contains", "(Ljava/lang/Object;)Z"⟩
def dkwJ2_contains_0 : List UInt8 := [42, 43, 182, 0, 85, 155, 0, 7, 4, 167, 0, 4, 3, 172]
abbrev dktJ2_contains_0 : List UInt8 := dkwJ2_contains_0 ++ []
theorem dksJ2_contains_0 : cJ2_contains.data.toList.drop 0 = dktJ2_contains_0 := by decide +kernel
theorem dJ2_contains_0 : decode cJ2_contains 0 = .ok (.aload_n 0, 1) := dk_42 (dk_at dksJ2_contains_0 0 rfl rfl)
theorem dJ2_contains_1 : decode cJ2_contains 1 = .ok (.aload_n 1, 1) := dk_43 (dk_at dksJ2_contains_0 1 rfl rfl)
theorem dJ2_contains_2 : decode cJ2_contains 2 = .ok (.invokevirtual 85, 3) := dk_182 0 85 (dk_at dksJ2_contains_0 2 rfl rfl)
theorem dJ2_contains_5 : decode cJ2_contains 5 = .ok (.ifCond .lt 7, 3) := dk_155 0 7 (dk_at dksJ2_contains_0 5 rfl rfl)
theorem dJ2_contains_8 : decode cJ2_contains 8 = .ok (.iconst 1, 1) := dk_4 (dk_at dksJ2_contains_0 8 rfl rfl)
theorem dJ2_contains_9 : decode cJ2_contains 9 = .ok (.goto 4, 3) := dk_167 0 4 (dk_at dksJ2_contains_0 9 rfl rfl)
theorem dJ2_contains_12 : decode cJ2_contains 12 = .ok (.iconst 0, 1) := dk_3 (dk_at dksJ2_contains_0 12 rfl rfl)
theorem dJ2_contains_13 : decode cJ2_contains 13 = .ok (.ireturn, 1) := dk_172 (dk_at dksJ2_contains_0 13 rfl rfl)
abbrev cJ2_indexOf : ByteArray := prog_39_method_11_code
def yJ2_indexOf : MethodName := ⟨RJ2, "indexOf", "(Ljava/lang/Object;)I"⟩
def dkwJ2_indexOf_0 : List UInt8 := [42, 43, 3, 42, 180, 0, 48, 182, 0, 89, 172]
abbrev dktJ2_indexOf_0 : List UInt8 := dkwJ2_indexOf_0 ++ []
theorem dksJ2_indexOf_0 : cJ2_indexOf.data.toList.drop 0 = dktJ2_indexOf_0 := by decide +kernel
theorem dJ2_indexOf_0 : decode cJ2_indexOf 0 = .ok (.aload_n 0, 1) := dk_42 (dk_at dksJ2_indexOf_0 0 rfl rfl)
theorem dJ2_indexOf_1 : decode cJ2_indexOf 1 = .ok (.aload_n 1, 1) := dk_43 (dk_at dksJ2_indexOf_0 1 rfl rfl)
theorem dJ2_indexOf_2 : decode cJ2_indexOf 2 = .ok (.iconst 0, 1) := dk_3 (dk_at dksJ2_indexOf_0 2 rfl rfl)
theorem dJ2_indexOf_3 : decode cJ2_indexOf 3 = .ok (.aload_n 0, 1) := dk_42 (dk_at dksJ2_indexOf_0 3 rfl rfl)
theorem dJ2_indexOf_4 : decode cJ2_indexOf 4 = .ok (.getfield 48, 3) := dk_180 0 48 (dk_at dksJ2_indexOf_0 4 rfl rfl)
theorem dJ2_indexOf_7 : decode cJ2_indexOf 7 = .ok (.invokevirtual 89, 3) := dk_182 0 89 (dk_at dksJ2_indexOf_0 7 rfl rfl)
theorem dJ2_indexOf_10 : decode cJ2_indexOf 10 = .ok (.ireturn, 1) := dk_172 (dk_at dksJ2_indexOf_0 10 rfl rfl)
abbrev cJ2_indexOfRange : ByteArray := prog_39_method_12_code
def yJ2_indexOfRange : MethodName := ⟨RJ2, "indexOfRange", "(Ljava/lang/Object;II)I"⟩
def dkwJ2_indexOfRange_2 : List UInt8 := [43, 25, 4, 21, 5, 50, 182, 0, 93, 153, 0, 6, 21, 5, 172, 132, 5, 1, 167, 255, 232, 2, 172]
abbrev dktJ2_indexOfRange_2 : List UInt8 := dkwJ2_indexOfRange_2 ++ []
def dkwJ2_indexOfRange_1 : List UInt8 := [199, 0, 6, 21, 5, 172, 132, 5, 1, 167, 255, 236, 167, 0, 33, 28, 54, 5, 21, 5, 29, 162, 0, 24]
abbrev dktJ2_indexOfRange_1 : List UInt8 := dkwJ2_indexOfRange_1 ++ dktJ2_indexOfRange_2
def dkwJ2_indexOfRange_0 : List UInt8 := [42, 180, 0, 9, 58, 4, 43, 199, 0, 32, 28, 54, 5, 21, 5, 29, 162, 0, 20, 25, 4, 21, 5, 50]
abbrev dktJ2_indexOfRange_0 : List UInt8 := dkwJ2_indexOfRange_0 ++ dktJ2_indexOfRange_1
theorem dksJ2_indexOfRange_0 : cJ2_indexOfRange.data.toList.drop 0 = dktJ2_indexOfRange_0 := by decide +kernel
theorem dksJ2_indexOfRange_1 : cJ2_indexOfRange.data.toList.drop 24 = dktJ2_indexOfRange_1 := dk_seg dksJ2_indexOfRange_0 24 rfl rfl
theorem dksJ2_indexOfRange_2 : cJ2_indexOfRange.data.toList.drop 48 = dktJ2_indexOfRange_2 := dk_seg dksJ2_indexOfRange_1 24 rfl rfl
theorem dJ2_indexOfRange_0 : decode cJ2_indexOfRange 0 = .ok (.aload_n 0, 1) := dk_42 (dk_at dksJ2_indexOfRange_0 0 rfl rfl)
theorem dJ2_indexOfRange_1 : decode cJ2_indexOfRange 1 = .ok (.getfield 9, 3) := dk_180 0 9 (dk_at dksJ2_indexOfRange_0 1 rfl rfl)
theorem dJ2_indexOfRange_4 : decode cJ2_indexOfRange 4 = .ok (.astore 4, 2) := dk_58 4 (dk_at dksJ2_indexOfRange_0 4 rfl rfl)
theorem dJ2_indexOfRange_6 : decode cJ2_indexOfRange 6 = .ok (.aload_n 1, 1) := dk_43 (dk_at dksJ2_indexOfRange_0 6 rfl rfl)
theorem dJ2_indexOfRange_7 : decode cJ2_indexOfRange 7 = .ok (.ifnonnull 32, 3) := dk_199 0 32 (dk_at dksJ2_indexOfRange_0 7 rfl rfl)
theorem dJ2_indexOfRange_10 : decode cJ2_indexOfRange 10 = .ok (.iload_n 2, 1) := dk_28 (dk_at dksJ2_indexOfRange_0 10 rfl rfl)
theorem dJ2_indexOfRange_11 : decode cJ2_indexOfRange 11 = .ok (.istore 5, 2) := dk_54 5 (dk_at dksJ2_indexOfRange_0 11 rfl rfl)
theorem dJ2_indexOfRange_13 : decode cJ2_indexOfRange 13 = .ok (.iload 5, 2) := dk_21 5 (dk_at dksJ2_indexOfRange_0 13 rfl rfl)
theorem dJ2_indexOfRange_15 : decode cJ2_indexOfRange 15 = .ok (.iload_n 3, 1) := dk_29 (dk_at dksJ2_indexOfRange_0 15 rfl rfl)
theorem dJ2_indexOfRange_16 : decode cJ2_indexOfRange 16 = .ok (.if_icmp .ge 20, 3) := dk_162 0 20 (dk_at dksJ2_indexOfRange_0 16 rfl rfl)
theorem dJ2_indexOfRange_19 : decode cJ2_indexOfRange 19 = .ok (.aload 4, 2) := dk_25 4 (dk_at dksJ2_indexOfRange_0 19 rfl rfl)
theorem dJ2_indexOfRange_21 : decode cJ2_indexOfRange 21 = .ok (.iload 5, 2) := dk_21 5 (dk_at dksJ2_indexOfRange_0 21 rfl rfl)
theorem dJ2_indexOfRange_23 : decode cJ2_indexOfRange 23 = .ok (.aaload, 1) := dk_50 (dk_at dksJ2_indexOfRange_0 23 rfl rfl)
theorem dJ2_indexOfRange_24 : decode cJ2_indexOfRange 24 = .ok (.ifnonnull 6, 3) := dk_199 0 6 (dk_at dksJ2_indexOfRange_1 0 rfl rfl)
theorem dJ2_indexOfRange_27 : decode cJ2_indexOfRange 27 = .ok (.iload 5, 2) := dk_21 5 (dk_at dksJ2_indexOfRange_1 3 rfl rfl)
theorem dJ2_indexOfRange_29 : decode cJ2_indexOfRange 29 = .ok (.ireturn, 1) := dk_172 (dk_at dksJ2_indexOfRange_1 5 rfl rfl)
theorem dJ2_indexOfRange_30 : decode cJ2_indexOfRange 30 = .ok (.iinc 5 1, 3) := dk_132 5 1 (dk_at dksJ2_indexOfRange_1 6 rfl rfl)
theorem dJ2_indexOfRange_33 : decode cJ2_indexOfRange 33 = .ok (.goto (-20), 3) := dk_167 255 236 (dk_at dksJ2_indexOfRange_1 9 rfl rfl)
theorem dJ2_indexOfRange_36 : decode cJ2_indexOfRange 36 = .ok (.goto 33, 3) := dk_167 0 33 (dk_at dksJ2_indexOfRange_1 12 rfl rfl)
theorem dJ2_indexOfRange_39 : decode cJ2_indexOfRange 39 = .ok (.iload_n 2, 1) := dk_28 (dk_at dksJ2_indexOfRange_1 15 rfl rfl)
theorem dJ2_indexOfRange_40 : decode cJ2_indexOfRange 40 = .ok (.istore 5, 2) := dk_54 5 (dk_at dksJ2_indexOfRange_1 16 rfl rfl)
theorem dJ2_indexOfRange_42 : decode cJ2_indexOfRange 42 = .ok (.iload 5, 2) := dk_21 5 (dk_at dksJ2_indexOfRange_1 18 rfl rfl)
theorem dJ2_indexOfRange_44 : decode cJ2_indexOfRange 44 = .ok (.iload_n 3, 1) := dk_29 (dk_at dksJ2_indexOfRange_1 20 rfl rfl)
theorem dJ2_indexOfRange_45 : decode cJ2_indexOfRange 45 = .ok (.if_icmp .ge 24, 3) := dk_162 0 24 (dk_at dksJ2_indexOfRange_1 21 rfl rfl)
theorem dJ2_indexOfRange_48 : decode cJ2_indexOfRange 48 = .ok (.aload_n 1, 1) := dk_43 (dk_at dksJ2_indexOfRange_2 0 rfl rfl)
theorem dJ2_indexOfRange_49 : decode cJ2_indexOfRange 49 = .ok (.aload 4, 2) := dk_25 4 (dk_at dksJ2_indexOfRange_2 1 rfl rfl)
theorem dJ2_indexOfRange_51 : decode cJ2_indexOfRange 51 = .ok (.iload 5, 2) := dk_21 5 (dk_at dksJ2_indexOfRange_2 3 rfl rfl)
theorem dJ2_indexOfRange_53 : decode cJ2_indexOfRange 53 = .ok (.aaload, 1) := dk_50 (dk_at dksJ2_indexOfRange_2 5 rfl rfl)
theorem dJ2_indexOfRange_54 : decode cJ2_indexOfRange 54 = .ok (.invokevirtual 93, 3) := dk_182 0 93 (dk_at dksJ2_indexOfRange_2 6 rfl rfl)
theorem dJ2_indexOfRange_57 : decode cJ2_indexOfRange 57 = .ok (.ifCond .eq 6, 3) := dk_153 0 6 (dk_at dksJ2_indexOfRange_2 9 rfl rfl)
theorem dJ2_indexOfRange_60 : decode cJ2_indexOfRange 60 = .ok (.iload 5, 2) := dk_21 5 (dk_at dksJ2_indexOfRange_2 12 rfl rfl)
theorem dJ2_indexOfRange_62 : decode cJ2_indexOfRange 62 = .ok (.ireturn, 1) := dk_172 (dk_at dksJ2_indexOfRange_2 14 rfl rfl)
theorem dJ2_indexOfRange_63 : decode cJ2_indexOfRange 63 = .ok (.iinc 5 1, 3) := dk_132 5 1 (dk_at dksJ2_indexOfRange_2 15 rfl rfl)
theorem dJ2_indexOfRange_66 : decode cJ2_indexOfRange 66 = .ok (.goto (-24), 3) := dk_167 255 232 (dk_at dksJ2_indexOfRange_2 18 rfl rfl)
theorem dJ2_indexOfRange_69 : decode cJ2_indexOfRange 69 = .ok (.iconst (-1), 1) := dk_2 (dk_at dksJ2_indexOfRange_2 21 rfl rfl)
theorem dJ2_indexOfRange_70 : decode cJ2_indexOfRange 70 = .ok (.ireturn, 1) := dk_172 (dk_at dksJ2_indexOfRange_2 22 rfl rfl)
abbrev cJ2_add_3 : ByteArray := prog_39_method_26_code
def yJ2_add_3 : MethodName := ⟨RJ2, "add", "(ILjava/lang/Object;)V"⟩
def dkwJ2_add_3_2 : List UInt8 := [29, 27, 100, 184, 0, 112, 25, 4, 27, 44, 83, 42, 29, 4, 96, 181, 0, 48, 177]
abbrev dktJ2_add_3_2 : List UInt8 := dkwJ2_add_3_2 ++ []
def dkwJ2_add_3_1 : List UInt8 := [180, 0, 9, 89, 58, 4, 190, 160, 0, 9, 42, 182, 0, 129, 58, 4, 25, 4, 27, 25, 4, 27, 4, 96]
abbrev dktJ2_add_3_1 : List UInt8 := dkwJ2_add_3_1 ++ dktJ2_add_3_2
def dkwJ2_add_3_0 : List UInt8 := [42, 27, 182, 0, 135, 42, 89, 180, 0, 63, 4, 96, 181, 0, 63, 42, 180, 0, 48, 89, 62, 42]
abbrev dktJ2_add_3_0 : List UInt8 := dkwJ2_add_3_0 ++ dktJ2_add_3_1
theorem dksJ2_add_3_0 : cJ2_add_3.data.toList.drop 0 = dktJ2_add_3_0 := by decide +kernel
theorem dksJ2_add_3_1 : cJ2_add_3.data.toList.drop 22 = dktJ2_add_3_1 := dk_seg dksJ2_add_3_0 22 rfl rfl
theorem dksJ2_add_3_2 : cJ2_add_3.data.toList.drop 46 = dktJ2_add_3_2 := dk_seg dksJ2_add_3_1 24 rfl rfl
theorem dJ2_add_3_0 : decode cJ2_add_3 0 = .ok (.aload_n 0, 1) := dk_42 (dk_at dksJ2_add_3_0 0 rfl rfl)
theorem dJ2_add_3_1 : decode cJ2_add_3 1 = .ok (.iload_n 1, 1) := dk_27 (dk_at dksJ2_add_3_0 1 rfl rfl)
theorem dJ2_add_3_2 : decode cJ2_add_3 2 = .ok (.invokevirtual 135, 3) := dk_182 0 135 (dk_at dksJ2_add_3_0 2 rfl rfl)
theorem dJ2_add_3_5 : decode cJ2_add_3 5 = .ok (.aload_n 0, 1) := dk_42 (dk_at dksJ2_add_3_0 5 rfl rfl)
theorem dJ2_add_3_6 : decode cJ2_add_3 6 = .ok (.dup, 1) := dk_89 (dk_at dksJ2_add_3_0 6 rfl rfl)
theorem dJ2_add_3_7 : decode cJ2_add_3 7 = .ok (.getfield 63, 3) := dk_180 0 63 (dk_at dksJ2_add_3_0 7 rfl rfl)
theorem dJ2_add_3_10 : decode cJ2_add_3 10 = .ok (.iconst 1, 1) := dk_4 (dk_at dksJ2_add_3_0 10 rfl rfl)
theorem dJ2_add_3_11 : decode cJ2_add_3 11 = .ok (.iadd, 1) := dk_96 (dk_at dksJ2_add_3_0 11 rfl rfl)
theorem dJ2_add_3_12 : decode cJ2_add_3 12 = .ok (.putfield 63, 3) := dk_181 0 63 (dk_at dksJ2_add_3_0 12 rfl rfl)
theorem dJ2_add_3_15 : decode cJ2_add_3 15 = .ok (.aload_n 0, 1) := dk_42 (dk_at dksJ2_add_3_0 15 rfl rfl)
theorem dJ2_add_3_16 : decode cJ2_add_3 16 = .ok (.getfield 48, 3) := dk_180 0 48 (dk_at dksJ2_add_3_0 16 rfl rfl)
theorem dJ2_add_3_19 : decode cJ2_add_3 19 = .ok (.dup, 1) := dk_89 (dk_at dksJ2_add_3_0 19 rfl rfl)
theorem dJ2_add_3_20 : decode cJ2_add_3 20 = .ok (.istore_n 3, 1) := dk_62 (dk_at dksJ2_add_3_0 20 rfl rfl)
theorem dJ2_add_3_21 : decode cJ2_add_3 21 = .ok (.aload_n 0, 1) := dk_42 (dk_at dksJ2_add_3_0 21 rfl rfl)
theorem dJ2_add_3_22 : decode cJ2_add_3 22 = .ok (.getfield 9, 3) := dk_180 0 9 (dk_at dksJ2_add_3_1 0 rfl rfl)
theorem dJ2_add_3_25 : decode cJ2_add_3 25 = .ok (.dup, 1) := dk_89 (dk_at dksJ2_add_3_1 3 rfl rfl)
theorem dJ2_add_3_26 : decode cJ2_add_3 26 = .ok (.astore 4, 2) := dk_58 4 (dk_at dksJ2_add_3_1 4 rfl rfl)
theorem dJ2_add_3_28 : decode cJ2_add_3 28 = .ok (.arraylength, 1) := dk_190 (dk_at dksJ2_add_3_1 6 rfl rfl)
theorem dJ2_add_3_29 : decode cJ2_add_3 29 = .ok (.if_icmp .ne 9, 3) := dk_160 0 9 (dk_at dksJ2_add_3_1 7 rfl rfl)
theorem dJ2_add_3_32 : decode cJ2_add_3 32 = .ok (.aload_n 0, 1) := dk_42 (dk_at dksJ2_add_3_1 10 rfl rfl)
theorem dJ2_add_3_33 : decode cJ2_add_3 33 = .ok (.invokevirtual 129, 3) := dk_182 0 129 (dk_at dksJ2_add_3_1 11 rfl rfl)
theorem dJ2_add_3_36 : decode cJ2_add_3 36 = .ok (.astore 4, 2) := dk_58 4 (dk_at dksJ2_add_3_1 14 rfl rfl)
theorem dJ2_add_3_38 : decode cJ2_add_3 38 = .ok (.aload 4, 2) := dk_25 4 (dk_at dksJ2_add_3_1 16 rfl rfl)
theorem dJ2_add_3_40 : decode cJ2_add_3 40 = .ok (.iload_n 1, 1) := dk_27 (dk_at dksJ2_add_3_1 18 rfl rfl)
theorem dJ2_add_3_41 : decode cJ2_add_3 41 = .ok (.aload 4, 2) := dk_25 4 (dk_at dksJ2_add_3_1 19 rfl rfl)
theorem dJ2_add_3_43 : decode cJ2_add_3 43 = .ok (.iload_n 1, 1) := dk_27 (dk_at dksJ2_add_3_1 21 rfl rfl)
theorem dJ2_add_3_44 : decode cJ2_add_3 44 = .ok (.iconst 1, 1) := dk_4 (dk_at dksJ2_add_3_1 22 rfl rfl)
theorem dJ2_add_3_45 : decode cJ2_add_3 45 = .ok (.iadd, 1) := dk_96 (dk_at dksJ2_add_3_1 23 rfl rfl)
theorem dJ2_add_3_46 : decode cJ2_add_3 46 = .ok (.iload_n 3, 1) := dk_29 (dk_at dksJ2_add_3_2 0 rfl rfl)
theorem dJ2_add_3_47 : decode cJ2_add_3 47 = .ok (.iload_n 1, 1) := dk_27 (dk_at dksJ2_add_3_2 1 rfl rfl)
theorem dJ2_add_3_48 : decode cJ2_add_3 48 = .ok (.isub, 1) := dk_100 (dk_at dksJ2_add_3_2 2 rfl rfl)
theorem dJ2_add_3_49 : decode cJ2_add_3 49 = .ok (.invokestatic 112, 3) := dk_184 0 112 (dk_at dksJ2_add_3_2 3 rfl rfl)
theorem dJ2_add_3_52 : decode cJ2_add_3 52 = .ok (.aload 4, 2) := dk_25 4 (dk_at dksJ2_add_3_2 6 rfl rfl)
theorem dJ2_add_3_54 : decode cJ2_add_3 54 = .ok (.iload_n 1, 1) := dk_27 (dk_at dksJ2_add_3_2 8 rfl rfl)
theorem dJ2_add_3_55 : decode cJ2_add_3 55 = .ok (.aload_n 2, 1) := dk_44 (dk_at dksJ2_add_3_2 9 rfl rfl)
theorem dJ2_add_3_56 : decode cJ2_add_3 56 = .ok (.aastore, 1) := dk_83 (dk_at dksJ2_add_3_2 10 rfl rfl)
theorem dJ2_add_3_57 : decode cJ2_add_3 57 = .ok (.aload_n 0, 1) := dk_42 (dk_at dksJ2_add_3_2 11 rfl rfl)
theorem dJ2_add_3_58 : decode cJ2_add_3 58 = .ok (.iload_n 3, 1) := dk_29 (dk_at dksJ2_add_3_2 12 rfl rfl)
theorem dJ2_add_3_59 : decode cJ2_add_3 59 = .ok (.iconst 1, 1) := dk_4 (dk_at dksJ2_add_3_2 13 rfl rfl)
theorem dJ2_add_3_60 : decode cJ2_add_3 60 = .ok (.iadd, 1) := dk_96 (dk_at dksJ2_add_3_2 14 rfl rfl)
theorem dJ2_add_3_61 : decode cJ2_add_3 61 = .ok (.putfield 48, 3) := dk_181 0 48 (dk_at dksJ2_add_3_2 15 rfl rfl)
theorem dJ2_add_3_64 : decode cJ2_add_3 64 = .ok (.return_, 1) := dk_177 (dk_at dksJ2_add_3_2 18 rfl rfl)
abbrev cJ2_rangeCheckForAdd : ByteArray := prog_39_method_45_code
def yJ2_rangeCheckForAdd : MethodName := ⟨RJ2, "rangeCheckForAdd", "(I)V"⟩
def dkwJ2_rangeCheckForAdd_1 : List UInt8 := [191, 177]
abbrev dktJ2_rangeCheckForAdd_1 : List UInt8 := dkwJ2_rangeCheckForAdd_1 ++ []
def dkwJ2_rangeCheckForAdd_0 : List UInt8 := [27, 42, 180, 0, 48, 163, 0, 7, 27, 156, 0, 16, 187, 0, 187, 89, 42, 27, 182, 0, 198, 183, 0, 193]
abbrev dktJ2_rangeCheckForAdd_0 : List UInt8 := dkwJ2_rangeCheckForAdd_0 ++ dktJ2_rangeCheckForAdd_1
theorem dksJ2_rangeCheckForAdd_0 : cJ2_rangeCheckForAdd.data.toList.drop 0 = dktJ2_rangeCheckForAdd_0 := by decide +kernel
theorem dksJ2_rangeCheckForAdd_1 : cJ2_rangeCheckForAdd.data.toList.drop 24 = dktJ2_rangeCheckForAdd_1 := dk_seg dksJ2_rangeCheckForAdd_0 24 rfl rfl
theorem dJ2_rangeCheckForAdd_0 : decode cJ2_rangeCheckForAdd 0 = .ok (.iload_n 1, 1) := dk_27 (dk_at dksJ2_rangeCheckForAdd_0 0 rfl rfl)
theorem dJ2_rangeCheckForAdd_1 : decode cJ2_rangeCheckForAdd 1 = .ok (.aload_n 0, 1) := dk_42 (dk_at dksJ2_rangeCheckForAdd_0 1 rfl rfl)
theorem dJ2_rangeCheckForAdd_2 : decode cJ2_rangeCheckForAdd 2 = .ok (.getfield 48, 3) := dk_180 0 48 (dk_at dksJ2_rangeCheckForAdd_0 2 rfl rfl)
theorem dJ2_rangeCheckForAdd_5 : decode cJ2_rangeCheckForAdd 5 = .ok (.if_icmp .gt 7, 3) := dk_163 0 7 (dk_at dksJ2_rangeCheckForAdd_0 5 rfl rfl)
theorem dJ2_rangeCheckForAdd_8 : decode cJ2_rangeCheckForAdd 8 = .ok (.iload_n 1, 1) := dk_27 (dk_at dksJ2_rangeCheckForAdd_0 8 rfl rfl)
theorem dJ2_rangeCheckForAdd_9 : decode cJ2_rangeCheckForAdd 9 = .ok (.ifCond .ge 16, 3) := dk_156 0 16 (dk_at dksJ2_rangeCheckForAdd_0 9 rfl rfl)
theorem dJ2_rangeCheckForAdd_12 : decode cJ2_rangeCheckForAdd 12 = .ok (.new 187, 3) := dk_187 0 187 (dk_at dksJ2_rangeCheckForAdd_0 12 rfl rfl)
theorem dJ2_rangeCheckForAdd_15 : decode cJ2_rangeCheckForAdd 15 = .ok (.dup, 1) := dk_89 (dk_at dksJ2_rangeCheckForAdd_0 15 rfl rfl)
theorem dJ2_rangeCheckForAdd_16 : decode cJ2_rangeCheckForAdd 16 = .ok (.aload_n 0, 1) := dk_42 (dk_at dksJ2_rangeCheckForAdd_0 16 rfl rfl)
theorem dJ2_rangeCheckForAdd_17 : decode cJ2_rangeCheckForAdd 17 = .ok (.iload_n 1, 1) := dk_27 (dk_at dksJ2_rangeCheckForAdd_0 17 rfl rfl)
theorem dJ2_rangeCheckForAdd_18 : decode cJ2_rangeCheckForAdd 18 = .ok (.invokevirtual 198, 3) := dk_182 0 198 (dk_at dksJ2_rangeCheckForAdd_0 18 rfl rfl)
theorem dJ2_rangeCheckForAdd_21 : decode cJ2_rangeCheckForAdd 21 = .ok (.invokespecial 193, 3) := dk_183 0 193 (dk_at dksJ2_rangeCheckForAdd_0 21 rfl rfl)
theorem dJ2_rangeCheckForAdd_24 : decode cJ2_rangeCheckForAdd 24 = .ok (.athrow, 1) := dk_191 (dk_at dksJ2_rangeCheckForAdd_1 0 rfl rfl)
theorem dJ2_rangeCheckForAdd_25 : decode cJ2_rangeCheckForAdd 25 = .ok (.return_, 1) := dk_177 (dk_at dksJ2_rangeCheckForAdd_1 1 rfl rfl)
abbrev cJ2_remove : ByteArray := prog_39_method_38_code
def yJ2_remove : MethodName := ⟨RJ2, "remove", "(Ljava/lang/Object;)Z"⟩
def dkwJ2_remove_3 : List UInt8 := [182, 0, 144, 4, 172]
abbrev dktJ2_remove_3 : List UInt8 := dkwJ2_remove_3 ++ []
def dkwJ2_remove_2 : List UInt8 := [21, 4, 50, 182, 0, 93, 153, 0, 6, 167, 0, 11, 132, 4, 1, 167, 255, 233, 3, 172, 42, 44, 21, 4]
abbrev dktJ2_remove_2 : List UInt8 := dkwJ2_remove_2 ++ dktJ2_remove_3
def dkwJ2_remove_1 : List UInt8 := [21, 4, 50, 199, 0, 6, 167, 0, 37, 132, 4, 1, 167, 255, 237, 21, 4, 29, 162, 0, 23, 43, 44]
abbrev dktJ2_remove_1 : List UInt8 := dkwJ2_remove_1 ++ dktJ2_remove_2
def dkwJ2_remove_0 : List UInt8 := [42, 180, 0, 9, 77, 42, 180, 0, 48, 62, 3, 54, 4, 43, 199, 0, 25, 21, 4, 29, 162, 0, 45, 44]
abbrev dktJ2_remove_0 : List UInt8 := dkwJ2_remove_0 ++ dktJ2_remove_1
theorem dksJ2_remove_0 : cJ2_remove.data.toList.drop 0 = dktJ2_remove_0 := by decide +kernel
theorem dksJ2_remove_1 : cJ2_remove.data.toList.drop 24 = dktJ2_remove_1 := dk_seg dksJ2_remove_0 24 rfl rfl
theorem dksJ2_remove_2 : cJ2_remove.data.toList.drop 47 = dktJ2_remove_2 := dk_seg dksJ2_remove_1 23 rfl rfl
theorem dksJ2_remove_3 : cJ2_remove.data.toList.drop 71 = dktJ2_remove_3 := dk_seg dksJ2_remove_2 24 rfl rfl
theorem dJ2_remove_0 : decode cJ2_remove 0 = .ok (.aload_n 0, 1) := dk_42 (dk_at dksJ2_remove_0 0 rfl rfl)
theorem dJ2_remove_1 : decode cJ2_remove 1 = .ok (.getfield 9, 3) := dk_180 0 9 (dk_at dksJ2_remove_0 1 rfl rfl)
theorem dJ2_remove_4 : decode cJ2_remove 4 = .ok (.astore_n 2, 1) := dk_77 (dk_at dksJ2_remove_0 4 rfl rfl)
theorem dJ2_remove_5 : decode cJ2_remove 5 = .ok (.aload_n 0, 1) := dk_42 (dk_at dksJ2_remove_0 5 rfl rfl)
theorem dJ2_remove_6 : decode cJ2_remove 6 = .ok (.getfield 48, 3) := dk_180 0 48 (dk_at dksJ2_remove_0 6 rfl rfl)
theorem dJ2_remove_9 : decode cJ2_remove 9 = .ok (.istore_n 3, 1) := dk_62 (dk_at dksJ2_remove_0 9 rfl rfl)
theorem dJ2_remove_10 : decode cJ2_remove 10 = .ok (.iconst 0, 1) := dk_3 (dk_at dksJ2_remove_0 10 rfl rfl)
theorem dJ2_remove_11 : decode cJ2_remove 11 = .ok (.istore 4, 2) := dk_54 4 (dk_at dksJ2_remove_0 11 rfl rfl)
theorem dJ2_remove_13 : decode cJ2_remove 13 = .ok (.aload_n 1, 1) := dk_43 (dk_at dksJ2_remove_0 13 rfl rfl)
theorem dJ2_remove_14 : decode cJ2_remove 14 = .ok (.ifnonnull 25, 3) := dk_199 0 25 (dk_at dksJ2_remove_0 14 rfl rfl)
theorem dJ2_remove_17 : decode cJ2_remove 17 = .ok (.iload 4, 2) := dk_21 4 (dk_at dksJ2_remove_0 17 rfl rfl)
theorem dJ2_remove_19 : decode cJ2_remove 19 = .ok (.iload_n 3, 1) := dk_29 (dk_at dksJ2_remove_0 19 rfl rfl)
theorem dJ2_remove_20 : decode cJ2_remove 20 = .ok (.if_icmp .ge 45, 3) := dk_162 0 45 (dk_at dksJ2_remove_0 20 rfl rfl)
theorem dJ2_remove_23 : decode cJ2_remove 23 = .ok (.aload_n 2, 1) := dk_44 (dk_at dksJ2_remove_0 23 rfl rfl)
theorem dJ2_remove_24 : decode cJ2_remove 24 = .ok (.iload 4, 2) := dk_21 4 (dk_at dksJ2_remove_1 0 rfl rfl)
theorem dJ2_remove_26 : decode cJ2_remove 26 = .ok (.aaload, 1) := dk_50 (dk_at dksJ2_remove_1 2 rfl rfl)
theorem dJ2_remove_27 : decode cJ2_remove 27 = .ok (.ifnonnull 6, 3) := dk_199 0 6 (dk_at dksJ2_remove_1 3 rfl rfl)
theorem dJ2_remove_30 : decode cJ2_remove 30 = .ok (.goto 37, 3) := dk_167 0 37 (dk_at dksJ2_remove_1 6 rfl rfl)
theorem dJ2_remove_33 : decode cJ2_remove 33 = .ok (.iinc 4 1, 3) := dk_132 4 1 (dk_at dksJ2_remove_1 9 rfl rfl)
theorem dJ2_remove_36 : decode cJ2_remove 36 = .ok (.goto (-19), 3) := dk_167 255 237 (dk_at dksJ2_remove_1 12 rfl rfl)
theorem dJ2_remove_39 : decode cJ2_remove 39 = .ok (.iload 4, 2) := dk_21 4 (dk_at dksJ2_remove_1 15 rfl rfl)
theorem dJ2_remove_41 : decode cJ2_remove 41 = .ok (.iload_n 3, 1) := dk_29 (dk_at dksJ2_remove_1 17 rfl rfl)
theorem dJ2_remove_42 : decode cJ2_remove 42 = .ok (.if_icmp .ge 23, 3) := dk_162 0 23 (dk_at dksJ2_remove_1 18 rfl rfl)
theorem dJ2_remove_45 : decode cJ2_remove 45 = .ok (.aload_n 1, 1) := dk_43 (dk_at dksJ2_remove_1 21 rfl rfl)
theorem dJ2_remove_46 : decode cJ2_remove 46 = .ok (.aload_n 2, 1) := dk_44 (dk_at dksJ2_remove_1 22 rfl rfl)
theorem dJ2_remove_47 : decode cJ2_remove 47 = .ok (.iload 4, 2) := dk_21 4 (dk_at dksJ2_remove_2 0 rfl rfl)
theorem dJ2_remove_49 : decode cJ2_remove 49 = .ok (.aaload, 1) := dk_50 (dk_at dksJ2_remove_2 2 rfl rfl)
theorem dJ2_remove_50 : decode cJ2_remove 50 = .ok (.invokevirtual 93, 3) := dk_182 0 93 (dk_at dksJ2_remove_2 3 rfl rfl)
theorem dJ2_remove_53 : decode cJ2_remove 53 = .ok (.ifCond .eq 6, 3) := dk_153 0 6 (dk_at dksJ2_remove_2 6 rfl rfl)
theorem dJ2_remove_56 : decode cJ2_remove 56 = .ok (.goto 11, 3) := dk_167 0 11 (dk_at dksJ2_remove_2 9 rfl rfl)
theorem dJ2_remove_59 : decode cJ2_remove 59 = .ok (.iinc 4 1, 3) := dk_132 4 1 (dk_at dksJ2_remove_2 12 rfl rfl)
theorem dJ2_remove_62 : decode cJ2_remove 62 = .ok (.goto (-23), 3) := dk_167 255 233 (dk_at dksJ2_remove_2 15 rfl rfl)
theorem dJ2_remove_65 : decode cJ2_remove 65 = .ok (.iconst 0, 1) := dk_3 (dk_at dksJ2_remove_2 18 rfl rfl)
theorem dJ2_remove_66 : decode cJ2_remove 66 = .ok (.ireturn, 1) := dk_172 (dk_at dksJ2_remove_2 19 rfl rfl)
theorem dJ2_remove_67 : decode cJ2_remove 67 = .ok (.aload_n 0, 1) := dk_42 (dk_at dksJ2_remove_2 20 rfl rfl)
theorem dJ2_remove_68 : decode cJ2_remove 68 = .ok (.aload_n 2, 1) := dk_44 (dk_at dksJ2_remove_2 21 rfl rfl)
theorem dJ2_remove_69 : decode cJ2_remove 69 = .ok (.iload 4, 2) := dk_21 4 (dk_at dksJ2_remove_2 22 rfl rfl)
theorem dJ2_remove_71 : decode cJ2_remove 71 = .ok (.invokevirtual 144, 3) := dk_182 0 144 (dk_at dksJ2_remove_3 0 rfl rfl)
theorem dJ2_remove_74 : decode cJ2_remove 74 = .ok (.iconst 1, 1) := dk_4 (dk_at dksJ2_remove_3 3 rfl rfl)
theorem dJ2_remove_75 : decode cJ2_remove 75 = .ok (.ireturn, 1) := dk_172 (dk_at dksJ2_remove_3 4 rfl rfl)
abbrev cJ2_fastRemove : ByteArray := prog_39_method_39_code
def yJ2_fastRemove : MethodName := ⟨RJ2, "fastRemove", "([Ljava/lang/Object;I)V"⟩
def dkwJ2_fastRemove_1 : List UInt8 := [4, 96, 43, 28, 29, 28, 100, 184, 0, 112, 43, 42, 29, 90, 181, 0, 48, 1, 83, 177]
abbrev dktJ2_fastRemove_1 : List UInt8 := dkwJ2_fastRemove_1 ++ []
def dkwJ2_fastRemove_0 : List UInt8 := [42, 89, 180, 0, 63, 4, 96, 181, 0, 63, 42, 180, 0, 48, 4, 100, 89, 62, 28, 164, 0, 15, 43, 28]
abbrev dktJ2_fastRemove_0 : List UInt8 := dkwJ2_fastRemove_0 ++ dktJ2_fastRemove_1
theorem dksJ2_fastRemove_0 : cJ2_fastRemove.data.toList.drop 0 = dktJ2_fastRemove_0 := by decide +kernel
theorem dksJ2_fastRemove_1 : cJ2_fastRemove.data.toList.drop 24 = dktJ2_fastRemove_1 := dk_seg dksJ2_fastRemove_0 24 rfl rfl
theorem dJ2_fastRemove_0 : decode cJ2_fastRemove 0 = .ok (.aload_n 0, 1) := dk_42 (dk_at dksJ2_fastRemove_0 0 rfl rfl)
theorem dJ2_fastRemove_1 : decode cJ2_fastRemove 1 = .ok (.dup, 1) := dk_89 (dk_at dksJ2_fastRemove_0 1 rfl rfl)
theorem dJ2_fastRemove_2 : decode cJ2_fastRemove 2 = .ok (.getfield 63, 3) := dk_180 0 63 (dk_at dksJ2_fastRemove_0 2 rfl rfl)
theorem dJ2_fastRemove_5 : decode cJ2_fastRemove 5 = .ok (.iconst 1, 1) := dk_4 (dk_at dksJ2_fastRemove_0 5 rfl rfl)
theorem dJ2_fastRemove_6 : decode cJ2_fastRemove 6 = .ok (.iadd, 1) := dk_96 (dk_at dksJ2_fastRemove_0 6 rfl rfl)
theorem dJ2_fastRemove_7 : decode cJ2_fastRemove 7 = .ok (.putfield 63, 3) := dk_181 0 63 (dk_at dksJ2_fastRemove_0 7 rfl rfl)
theorem dJ2_fastRemove_10 : decode cJ2_fastRemove 10 = .ok (.aload_n 0, 1) := dk_42 (dk_at dksJ2_fastRemove_0 10 rfl rfl)
theorem dJ2_fastRemove_11 : decode cJ2_fastRemove 11 = .ok (.getfield 48, 3) := dk_180 0 48 (dk_at dksJ2_fastRemove_0 11 rfl rfl)
theorem dJ2_fastRemove_14 : decode cJ2_fastRemove 14 = .ok (.iconst 1, 1) := dk_4 (dk_at dksJ2_fastRemove_0 14 rfl rfl)
theorem dJ2_fastRemove_15 : decode cJ2_fastRemove 15 = .ok (.isub, 1) := dk_100 (dk_at dksJ2_fastRemove_0 15 rfl rfl)
theorem dJ2_fastRemove_16 : decode cJ2_fastRemove 16 = .ok (.dup, 1) := dk_89 (dk_at dksJ2_fastRemove_0 16 rfl rfl)
theorem dJ2_fastRemove_17 : decode cJ2_fastRemove 17 = .ok (.istore_n 3, 1) := dk_62 (dk_at dksJ2_fastRemove_0 17 rfl rfl)
theorem dJ2_fastRemove_18 : decode cJ2_fastRemove 18 = .ok (.iload_n 2, 1) := dk_28 (dk_at dksJ2_fastRemove_0 18 rfl rfl)
theorem dJ2_fastRemove_19 : decode cJ2_fastRemove 19 = .ok (.if_icmp .le 15, 3) := dk_164 0 15 (dk_at dksJ2_fastRemove_0 19 rfl rfl)
theorem dJ2_fastRemove_22 : decode cJ2_fastRemove 22 = .ok (.aload_n 1, 1) := dk_43 (dk_at dksJ2_fastRemove_0 22 rfl rfl)
theorem dJ2_fastRemove_23 : decode cJ2_fastRemove 23 = .ok (.iload_n 2, 1) := dk_28 (dk_at dksJ2_fastRemove_0 23 rfl rfl)
theorem dJ2_fastRemove_24 : decode cJ2_fastRemove 24 = .ok (.iconst 1, 1) := dk_4 (dk_at dksJ2_fastRemove_1 0 rfl rfl)
theorem dJ2_fastRemove_25 : decode cJ2_fastRemove 25 = .ok (.iadd, 1) := dk_96 (dk_at dksJ2_fastRemove_1 1 rfl rfl)
theorem dJ2_fastRemove_26 : decode cJ2_fastRemove 26 = .ok (.aload_n 1, 1) := dk_43 (dk_at dksJ2_fastRemove_1 2 rfl rfl)
theorem dJ2_fastRemove_27 : decode cJ2_fastRemove 27 = .ok (.iload_n 2, 1) := dk_28 (dk_at dksJ2_fastRemove_1 3 rfl rfl)
theorem dJ2_fastRemove_28 : decode cJ2_fastRemove 28 = .ok (.iload_n 3, 1) := dk_29 (dk_at dksJ2_fastRemove_1 4 rfl rfl)
theorem dJ2_fastRemove_29 : decode cJ2_fastRemove 29 = .ok (.iload_n 2, 1) := dk_28 (dk_at dksJ2_fastRemove_1 5 rfl rfl)
theorem dJ2_fastRemove_30 : decode cJ2_fastRemove 30 = .ok (.isub, 1) := dk_100 (dk_at dksJ2_fastRemove_1 6 rfl rfl)
theorem dJ2_fastRemove_31 : decode cJ2_fastRemove 31 = .ok (.invokestatic 112, 3) := dk_184 0 112 (dk_at dksJ2_fastRemove_1 7 rfl rfl)
theorem dJ2_fastRemove_34 : decode cJ2_fastRemove 34 = .ok (.aload_n 1, 1) := dk_43 (dk_at dksJ2_fastRemove_1 10 rfl rfl)
theorem dJ2_fastRemove_35 : decode cJ2_fastRemove 35 = .ok (.aload_n 0, 1) := dk_42 (dk_at dksJ2_fastRemove_1 11 rfl rfl)
theorem dJ2_fastRemove_36 : decode cJ2_fastRemove 36 = .ok (.iload_n 3, 1) := dk_29 (dk_at dksJ2_fastRemove_1 12 rfl rfl)
theorem dJ2_fastRemove_37 : decode cJ2_fastRemove 37 = .ok (.dup_x1, 1) := dk_90 (dk_at dksJ2_fastRemove_1 13 rfl rfl)
theorem dJ2_fastRemove_38 : decode cJ2_fastRemove 38 = .ok (.putfield 48, 3) := dk_181 0 48 (dk_at dksJ2_fastRemove_1 14 rfl rfl)
theorem dJ2_fastRemove_41 : decode cJ2_fastRemove 41 = .ok (.aconst_null, 1) := dk_1 (dk_at dksJ2_fastRemove_1 17 rfl rfl)
theorem dJ2_fastRemove_42 : decode cJ2_fastRemove 42 = .ok (.aastore, 1) := dk_83 (dk_at dksJ2_fastRemove_1 18 rfl rfl)
theorem dJ2_fastRemove_43 : decode cJ2_fastRemove 43 = .ok (.return_, 1) := dk_177 (dk_at dksJ2_fastRemove_1 19 rfl rfl)
theorem q94 : (Jvm.Cond.initialized "java/util/ArrayList") ∈ lw_all := lw_g (lw_at lw_m1 8 rfl) rfl
theorem q156 : (Jvm.Cond.instantiable "java/util/ArrayList" (3 : Nat)) ∈ lw_all := lw_g (lw_at lw_m1 70 rfl) rfl
theorem q158 : (Jvm.Cond.instanceMethod ({ cls := "java/util/ArrayList", name := "<init>", desc := "(I)V" } : Jvm.MethodName)) ∈ lw_all := lw_g (lw_at lw_m1 72 rfl) rfl
theorem q159 : (Jvm.Cond.code ({ cls := "java/util/ArrayList", name := "<init>", desc := "(I)V" } : Jvm.MethodName) prog_39_method_1_code (2 : Nat) (Option.none : Option Jvm.ClassFile.FieldType)) ∈ lw_all := lw_g (lw_at lw_m1 73 rfl) rfl
theorem q160 : (Jvm.Cond.methodLink "java/util/ArrayList" (1 : Nat) ({ cls := "java/util/AbstractList", name := "<init>", desc := "()V" } : Jvm.MethodName)) ∈ lw_all := lw_g (lw_at lw_m1 74 rfl) rfl
theorem q167 : (Jvm.Cond.classLink "java/util/ArrayList" (7 : Nat) "java/lang/Object") ∈ lw_all := lw_g (lw_at lw_m1 81 rfl) rfl
theorem q169 : (Jvm.Cond.fieldLink "java/util/ArrayList" (15 : Nat) "java/util/ArrayList" "EMPTY_ELEMENTDATA" "[Ljava/lang/Object;") ∈ lw_all := lw_g (lw_at lw_m1 83 rfl) rfl
theorem q170 : (Jvm.Cond.laysStatic "java/util/ArrayList" "EMPTY_ELEMENTDATA" "[Ljava/lang/Object;") ∈ lw_tbl := lw_at lw_m1 84 rfl
theorem q171 : (Jvm.Cond.fieldLink "java/util/ArrayList" (9 : Nat) "java/util/ArrayList" "elementData" "[Ljava/lang/Object;") ∈ lw_all := lw_g (lw_at lw_m1 85 rfl) rfl
theorem q172 : (Jvm.Cond.fieldLink "java/util/ArrayList" (48 : Nat) "java/util/ArrayList" "size" "I") ∈ lw_all := lw_g (lw_at lw_m1 86 rfl) rfl
theorem q174 : (Jvm.Cond.fieldLink "java/util/ArrayList" (63 : Nat) "java/util/ArrayList" "modCount" "I") ∈ lw_all := lw_g (lw_at lw_m1 88 rfl) rfl
theorem q175 : (Jvm.Cond.sameField "java/util/ArrayList" "java/util/AbstractList" "modCount" "I") ∈ lw_all := lw_g (lw_at lw_m1 89 rfl) rfl
theorem q176 : (Jvm.Cond.lays "java/util/ArrayList" "java/util/ArrayList" "elementData" "[Ljava/lang/Object;") ∈ lw_all := lw_g (lw_at lw_m1 90 rfl) rfl
theorem q177 : (Jvm.Cond.soleField "java/util/ArrayList" "elementData") ∈ lw_all := lw_g (lw_at lw_m1 91 rfl) rfl
theorem q178 : (Jvm.Cond.lays "java/util/ArrayList" "java/util/ArrayList" "size" "I") ∈ lw_all := lw_g (lw_at lw_m1 92 rfl) rfl
theorem q179 : (Jvm.Cond.soleField "java/util/ArrayList" "size") ∈ lw_all := lw_g (lw_at lw_m1 93 rfl) rfl
theorem q180 : (Jvm.Cond.lays "java/util/ArrayList" "java/util/AbstractList" "modCount" "I") ∈ lw_all := lw_g (lw_at lw_m1 94 rfl) rfl
theorem q182 : (Jvm.Cond.superclass "java/util/ArrayList" "java/util/AbstractList") ∈ lw_all := lw_g (lw_at lw_m1 96 rfl) rfl
theorem q184 : (Jvm.Cond.instanceMethod ({ cls := "java/util/ArrayList", name := "<init>", desc := "()V" } : Jvm.MethodName)) ∈ lw_all := lw_g (lw_at lw_m1 98 rfl) rfl
theorem q185 : (Jvm.Cond.code ({ cls := "java/util/ArrayList", name := "<init>", desc := "()V" } : Jvm.MethodName) prog_39_method_2_code (1 : Nat) (Option.none : Option Jvm.ClassFile.FieldType)) ∈ lw_all := lw_g (lw_at lw_m1 99 rfl) rfl
theorem q186 : (Jvm.Cond.fieldLink "java/util/ArrayList" (39 : Nat) "java/util/ArrayList" "DEFAULTCAPACITY_EMPTY_ELEMENTDATA" "[Ljava/lang/Object;") ∈ lw_all := lw_g (lw_at lw_m1 100 rfl) rfl
theorem q187 : (Jvm.Cond.laysStatic "java/util/ArrayList" "DEFAULTCAPACITY_EMPTY_ELEMENTDATA" "[Ljava/lang/Object;") ∈ lw_tbl := lw_at lw_m1 101 rfl
theorem q350 : (Jvm.Cond.instanceMethod ({ cls := "java/util/ArrayList", name := "size", desc := "()I" } : Jvm.MethodName)) ∈ lw_all := lw_g (lw_at lw_m2 24 rfl) rfl
theorem q351 : (Jvm.Cond.selects "java/util/ArrayList" ({ cls := "java/util/ArrayList", name := "size", desc := "()I" } : Jvm.MethodName) ({ cls := "java/util/ArrayList", name := "size", desc := "()I" } : Jvm.MethodName)) ∈ lw_all := lw_g (lw_at lw_m2 25 rfl) rfl
theorem q352 : (Jvm.Cond.code ({ cls := "java/util/ArrayList", name := "size", desc := "()I" } : Jvm.MethodName) prog_39_method_8_code (1 : Nat) (Option.some Jvm.ClassFile.FieldType.int)) ∈ lw_all := lw_g (lw_at lw_m2 26 rfl) rfl
theorem q377 : (Jvm.Cond.instanceMethod ({ cls := "java/util/ArrayList", name := "add", desc := "(Ljava/lang/Object;)Z" } : Jvm.MethodName)) ∈ lw_all := lw_g (lw_at lw_m2 51 rfl) rfl
theorem q378 : (Jvm.Cond.selects "java/util/ArrayList" ({ cls := "java/util/ArrayList", name := "add", desc := "(Ljava/lang/Object;)Z" } : Jvm.MethodName) ({ cls := "java/util/ArrayList", name := "add", desc := "(Ljava/lang/Object;)Z" } : Jvm.MethodName)) ∈ lw_all := lw_g (lw_at lw_m2 52 rfl) rfl
theorem q379 : (Jvm.Cond.code ({ cls := "java/util/ArrayList", name := "add", desc := "(Ljava/lang/Object;)Z" } : Jvm.MethodName) prog_39_method_25_code (2 : Nat) (Option.some Jvm.ClassFile.FieldType.boolean)) ∈ lw_all := lw_g (lw_at lw_m2 53 rfl) rfl
theorem q380 : (Jvm.Cond.methodLink "java/util/ArrayList" (131 : Nat) ({ cls := "java/util/ArrayList", name := "add", desc := "(Ljava/lang/Object;[Ljava/lang/Object;I)V" } : Jvm.MethodName)) ∈ lw_all := lw_g (lw_at lw_m2 54 rfl) rfl
theorem q381 : (Jvm.Cond.privateMethod ({ cls := "java/util/ArrayList", name := "add", desc := "(Ljava/lang/Object;[Ljava/lang/Object;I)V" } : Jvm.MethodName)) ∈ lw_tbl := lw_at lw_m2 55 rfl
theorem q382 : (Jvm.Cond.instanceMethod ({ cls := "java/util/ArrayList", name := "add", desc := "(Ljava/lang/Object;[Ljava/lang/Object;I)V" } : Jvm.MethodName)) ∈ lw_all := lw_g (lw_at lw_m2 56 rfl) rfl
theorem q383 : (Jvm.Cond.code ({ cls := "java/util/ArrayList", name := "add", desc := "(Ljava/lang/Object;[Ljava/lang/Object;I)V" } : Jvm.MethodName) prog_39_method_24_code (4 : Nat) (Option.none : Option Jvm.ClassFile.FieldType)) ∈ lw_all := lw_g (lw_at lw_m2 57 rfl) rfl
theorem q384 : (Jvm.Cond.methodLink "java/util/ArrayList" (129 : Nat) ({ cls := "java/util/ArrayList", name := "grow", desc := "()[Ljava/lang/Object;" } : Jvm.MethodName)) ∈ lw_all := lw_g (lw_at lw_m2 58 rfl) rfl
theorem q385 : (Jvm.Cond.privateMethod ({ cls := "java/util/ArrayList", name := "grow", desc := "()[Ljava/lang/Object;" } : Jvm.MethodName)) ∈ lw_tbl := lw_at lw_m2 59 rfl
theorem q386 : (Jvm.Cond.instanceMethod ({ cls := "java/util/ArrayList", name := "grow", desc := "()[Ljava/lang/Object;" } : Jvm.MethodName)) ∈ lw_all := lw_g (lw_at lw_m2 60 rfl) rfl
theorem q387 : (Jvm.Cond.code ({ cls := "java/util/ArrayList", name := "grow", desc := "()[Ljava/lang/Object;" } : Jvm.MethodName) prog_39_method_7_code (1 : Nat) (Option.some (Jvm.ClassFile.FieldType.array (Jvm.ClassFile.FieldType.object "java/lang/Object")))) ∈ lw_all := lw_g (lw_at lw_m2 61 rfl) rfl
theorem q388 : (Jvm.Cond.methodLink "java/util/ArrayList" (69 : Nat) ({ cls := "java/util/ArrayList", name := "grow", desc := "(I)[Ljava/lang/Object;" } : Jvm.MethodName)) ∈ lw_all := lw_g (lw_at lw_m2 62 rfl) rfl
theorem q389 : (Jvm.Cond.privateMethod ({ cls := "java/util/ArrayList", name := "grow", desc := "(I)[Ljava/lang/Object;" } : Jvm.MethodName)) ∈ lw_tbl := lw_at lw_m2 63 rfl
theorem q390 : (Jvm.Cond.instanceMethod ({ cls := "java/util/ArrayList", name := "grow", desc := "(I)[Ljava/lang/Object;" } : Jvm.MethodName)) ∈ lw_all := lw_g (lw_at lw_m2 64 rfl) rfl
theorem q391 : (Jvm.Cond.code ({ cls := "java/util/ArrayList", name := "grow", desc := "(I)[Ljava/lang/Object;" } : Jvm.MethodName) prog_39_method_6_code (4 : Nat) (Option.some (Jvm.ClassFile.FieldType.array (Jvm.ClassFile.FieldType.object "java/lang/Object")))) ∈ lw_all := lw_g (lw_at lw_m2 65 rfl) rfl
theorem q392 : (Jvm.Cond.methodLink "java/util/ArrayList" (73 : Nat) ({ cls := "jdk/internal/util/ArraysSupport", name := "newLength", desc := "(III)I" } : Jvm.MethodName)) ∈ lw_all := lw_g (lw_at lw_m2 66 rfl) rfl
theorem q402 : (Jvm.Cond.methodLink "java/util/ArrayList" (66 : Nat) ({ cls := "java/util/Arrays", name := "copyOf", desc := "([Ljava/lang/Object;I)[Ljava/lang/Object;" } : Jvm.MethodName)) ∈ lw_all := lw_g (lw_at lw_m2 76 rfl) rfl
theorem q428 : (Jvm.Cond.selects "java/util/ArrayList" ({ cls := "java/lang/Object", name := "getClass", desc := "()Ljava/lang/Class;" } : Jvm.MethodName) ({ cls := "java/lang/Object", name := "getClass", desc := "()Ljava/lang/Class;" } : Jvm.MethodName)) ∈ lw_all := lw_g (lw_at lw_m2 102 rfl) rfl
theorem q440 : (Jvm.Cond.methodLink "java/util/ArrayList" (79 : Nat) ({ cls := "java/lang/Math", name := "max", desc := "(II)I" } : Jvm.MethodName)) ∈ lw_all := lw_g (lw_at lw_m2 114 rfl) rfl
theorem q476 : (Jvm.Cond.instanceMethod ({ cls := "java/util/ArrayList", name := "get", desc := "(I)Ljava/lang/Object;" } : Jvm.MethodName)) ∈ lw_all := lw_g (lw_at lw_m2 150 rfl) rfl
theorem q477 : (Jvm.Cond.selects "java/util/ArrayList" ({ cls := "java/util/ArrayList", name := "get", desc := "(I)Ljava/lang/Object;" } : Jvm.MethodName) ({ cls := "java/util/ArrayList", name := "get", desc := "(I)Ljava/lang/Object;" } : Jvm.MethodName)) ∈ lw_all := lw_g (lw_at lw_m2 151 rfl) rfl
theorem q478 : (Jvm.Cond.code ({ cls := "java/util/ArrayList", name := "get", desc := "(I)Ljava/lang/Object;" } : Jvm.MethodName) prog_39_method_20_code (2 : Nat) (Option.some (Jvm.ClassFile.FieldType.object "java/lang/Object"))) ∈ lw_all := lw_g (lw_at lw_m2 152 rfl) rfl
theorem q479 : (Jvm.Cond.methodLink "java/util/ArrayList" (118 : Nat) ({ cls := "java/util/Objects", name := "checkIndex", desc := "(II)I" } : Jvm.MethodName)) ∈ lw_all := lw_g (lw_at lw_m2 153 rfl) rfl
theorem q485 : (Jvm.Cond.methodLink "java/util/ArrayList" (123 : Nat) ({ cls := "java/util/ArrayList", name := "elementData", desc := "(I)Ljava/lang/Object;" } : Jvm.MethodName)) ∈ lw_all := lw_g (lw_at lw_m2 159 rfl) rfl
theorem q486 : (Jvm.Cond.instanceMethod ({ cls := "java/util/ArrayList", name := "elementData", desc := "(I)Ljava/lang/Object;" } : Jvm.MethodName)) ∈ lw_all := lw_g (lw_at lw_m2 160 rfl) rfl
theorem q487 : (Jvm.Cond.selects "java/util/ArrayList" ({ cls := "java/util/ArrayList", name := "elementData", desc := "(I)Ljava/lang/Object;" } : Jvm.MethodName) ({ cls := "java/util/ArrayList", name := "elementData", desc := "(I)Ljava/lang/Object;" } : Jvm.MethodName)) ∈ lw_all := lw_g (lw_at lw_m2 161 rfl) rfl
theorem q488 : (Jvm.Cond.code ({ cls := "java/util/ArrayList", name := "elementData", desc := "(I)Ljava/lang/Object;" } : Jvm.MethodName) prog_39_method_18_code (2 : Nat) (Option.some (Jvm.ClassFile.FieldType.object "java/lang/Object"))) ∈ lw_all := lw_g (lw_at lw_m2 162 rfl) rfl
theorem q980 : (Jvm.Cond.instanceMethod ({ cls := "java/util/ArrayList", name := "clear", desc := "()V" } : Jvm.MethodName)) ∈ lw_all := lw_g (lw_at lw_m4 174 rfl) rfl
theorem q981 : (Jvm.Cond.selects "java/util/ArrayList" ({ cls := "java/util/ArrayList", name := "clear", desc := "()V" } : Jvm.MethodName) ({ cls := "java/util/ArrayList", name := "clear", desc := "()V" } : Jvm.MethodName)) ∈ lw_all := lw_g (lw_at lw_m4 175 rfl) rfl
theorem q982 : (Jvm.Cond.code ({ cls := "java/util/ArrayList", name := "clear", desc := "()V" } : Jvm.MethodName) prog_39_method_40_code (4 : Nat) (Option.none : Option Jvm.ClassFile.FieldType)) ∈ lw_all := lw_g (lw_at lw_m4 176 rfl) rfl
theorem q1024 : (Jvm.Cond.instanceMethod ({ cls := "java/util/ArrayList", name := "contains", desc := "(Ljava/lang/Object;)Z" } : Jvm.MethodName)) ∈ lw_all := lw_g (lw_at lw_m4 218 rfl) rfl
theorem q1025 : (Jvm.Cond.selects "java/util/ArrayList" ({ cls := "java/util/ArrayList", name := "contains", desc := "(Ljava/lang/Object;)Z" } : Jvm.MethodName) ({ cls := "java/util/ArrayList", name := "contains", desc := "(Ljava/lang/Object;)Z" } : Jvm.MethodName)) ∈ lw_all := lw_g (lw_at lw_m4 219 rfl) rfl
theorem q1026 : (Jvm.Cond.code ({ cls := "java/util/ArrayList", name := "contains", desc := "(Ljava/lang/Object;)Z" } : Jvm.MethodName) prog_39_method_10_code (2 : Nat) (Option.some Jvm.ClassFile.FieldType.boolean)) ∈ lw_all := lw_g (lw_at lw_m4 220 rfl) rfl
theorem q1027 : (Jvm.Cond.methodLink "java/util/ArrayList" (85 : Nat) ({ cls := "java/util/ArrayList", name := "indexOf", desc := "(Ljava/lang/Object;)I" } : Jvm.MethodName)) ∈ lw_all := lw_g (lw_at lw_m4 221 rfl) rfl
theorem q1028 : (Jvm.Cond.instanceMethod ({ cls := "java/util/ArrayList", name := "indexOf", desc := "(Ljava/lang/Object;)I" } : Jvm.MethodName)) ∈ lw_all := lw_g (lw_at lw_m4 222 rfl) rfl
theorem q1029 : (Jvm.Cond.selects "java/util/ArrayList" ({ cls := "java/util/ArrayList", name := "indexOf", desc := "(Ljava/lang/Object;)I" } : Jvm.MethodName) ({ cls := "java/util/ArrayList", name := "indexOf", desc := "(Ljava/lang/Object;)I" } : Jvm.MethodName)) ∈ lw_all := lw_g (lw_at lw_m4 223 rfl) rfl
theorem q1030 : (Jvm.Cond.code ({ cls := "java/util/ArrayList", name := "indexOf", desc := "(Ljava/lang/Object;)I" } : Jvm.MethodName) prog_39_method_11_code (2 : Nat) (Option.some Jvm.ClassFile.FieldType.int)) ∈ lw_all := lw_g (lw_at lw_m4 224 rfl) rfl
theorem q1031 : (Jvm.Cond.methodLink "java/util/ArrayList" (89 : Nat) ({ cls := "java/util/ArrayList", name := "indexOfRange", desc := "(Ljava/lang/Object;II)I" } : Jvm.MethodName)) ∈ lw_all := lw_g (lw_at lw_m4 225 rfl) rfl
theorem q1032 : (Jvm.Cond.instanceMethod ({ cls := "java/util/ArrayList", name := "indexOfRange", desc := "(Ljava/lang/Object;II)I" } : Jvm.MethodName)) ∈ lw_all := lw_g (lw_at lw_m4 226 rfl) rfl
theorem q1033 : (Jvm.Cond.selects "java/util/ArrayList" ({ cls := "java/util/ArrayList", name := "indexOfRange", desc := "(Ljava/lang/Object;II)I" } : Jvm.MethodName) ({ cls := "java/util/ArrayList", name := "indexOfRange", desc := "(Ljava/lang/Object;II)I" } : Jvm.MethodName)) ∈ lw_all := lw_g (lw_at lw_m4 227 rfl) rfl
theorem q1034 : (Jvm.Cond.code ({ cls := "java/util/ArrayList", name := "indexOfRange", desc := "(Ljava/lang/Object;II)I" } : Jvm.MethodName) prog_39_method_12_code (6 : Nat) (Option.some Jvm.ClassFile.FieldType.int)) ∈ lw_all := lw_g (lw_at lw_m4 228 rfl) rfl
theorem q1036 : (Jvm.Cond.methodLink "java/util/ArrayList" (93 : Nat) ({ cls := "java/lang/Object", name := "equals", desc := "(Ljava/lang/Object;)Z" } : Jvm.MethodName)) ∈ lw_all := lw_g (lw_at lw_m4 230 rfl) rfl
theorem q1070 : (Jvm.Cond.instanceMethod ({ cls := "java/util/ArrayList", name := "add", desc := "(ILjava/lang/Object;)V" } : Jvm.MethodName)) ∈ lw_all := lw_g (lw_at lw_m5 24 rfl) rfl
theorem q1071 : (Jvm.Cond.selects "java/util/ArrayList" ({ cls := "java/util/ArrayList", name := "add", desc := "(ILjava/lang/Object;)V" } : Jvm.MethodName) ({ cls := "java/util/ArrayList", name := "add", desc := "(ILjava/lang/Object;)V" } : Jvm.MethodName)) ∈ lw_all := lw_g (lw_at lw_m5 25 rfl) rfl
theorem q1072 : (Jvm.Cond.code ({ cls := "java/util/ArrayList", name := "add", desc := "(ILjava/lang/Object;)V" } : Jvm.MethodName) prog_39_method_26_code (5 : Nat) (Option.none : Option Jvm.ClassFile.FieldType)) ∈ lw_all := lw_g (lw_at lw_m5 26 rfl) rfl
theorem q1073 : (Jvm.Cond.methodLink "java/util/ArrayList" (135 : Nat) ({ cls := "java/util/ArrayList", name := "rangeCheckForAdd", desc := "(I)V" } : Jvm.MethodName)) ∈ lw_all := lw_g (lw_at lw_m5 27 rfl) rfl
theorem q1074 : (Jvm.Cond.privateMethod ({ cls := "java/util/ArrayList", name := "rangeCheckForAdd", desc := "(I)V" } : Jvm.MethodName)) ∈ lw_tbl := lw_at lw_m5 28 rfl
theorem q1075 : (Jvm.Cond.instanceMethod ({ cls := "java/util/ArrayList", name := "rangeCheckForAdd", desc := "(I)V" } : Jvm.MethodName)) ∈ lw_all := lw_g (lw_at lw_m5 29 rfl) rfl
theorem q1076 : (Jvm.Cond.code ({ cls := "java/util/ArrayList", name := "rangeCheckForAdd", desc := "(I)V" } : Jvm.MethodName) prog_39_method_45_code (2 : Nat) (Option.none : Option Jvm.ClassFile.FieldType)) ∈ lw_all := lw_g (lw_at lw_m5 30 rfl) rfl
theorem q1077 : (Jvm.Cond.methodLink "java/util/ArrayList" (112 : Nat) ({ cls := "java/lang/System", name := "arraycopy", desc := "(Ljava/lang/Object;ILjava/lang/Object;II)V" } : Jvm.MethodName)) ∈ lw_all := lw_g (lw_at lw_m5 31 rfl) rfl
theorem q1350 : (Jvm.Cond.instanceMethod ({ cls := "java/util/ArrayList", name := "remove", desc := "(Ljava/lang/Object;)Z" } : Jvm.MethodName)) ∈ lw_all := lw_g (lw_at lw_m6 64 rfl) rfl
theorem q1351 : (Jvm.Cond.selects "java/util/ArrayList" ({ cls := "java/util/ArrayList", name := "remove", desc := "(Ljava/lang/Object;)Z" } : Jvm.MethodName) ({ cls := "java/util/ArrayList", name := "remove", desc := "(Ljava/lang/Object;)Z" } : Jvm.MethodName)) ∈ lw_all := lw_g (lw_at lw_m6 65 rfl) rfl
theorem q1352 : (Jvm.Cond.code ({ cls := "java/util/ArrayList", name := "remove", desc := "(Ljava/lang/Object;)Z" } : Jvm.MethodName) prog_39_method_38_code (5 : Nat) (Option.some Jvm.ClassFile.FieldType.boolean)) ∈ lw_all := lw_g (lw_at lw_m6 66 rfl) rfl
theorem q1353 : (Jvm.Cond.methodLink "java/util/ArrayList" (144 : Nat) ({ cls := "java/util/ArrayList", name := "fastRemove", desc := "([Ljava/lang/Object;I)V" } : Jvm.MethodName)) ∈ lw_all := lw_g (lw_at lw_m6 67 rfl) rfl
theorem q1354 : (Jvm.Cond.privateMethod ({ cls := "java/util/ArrayList", name := "fastRemove", desc := "([Ljava/lang/Object;I)V" } : Jvm.MethodName)) ∈ lw_tbl := lw_at lw_m6 68 rfl
theorem q1355 : (Jvm.Cond.instanceMethod ({ cls := "java/util/ArrayList", name := "fastRemove", desc := "([Ljava/lang/Object;I)V" } : Jvm.MethodName)) ∈ lw_all := lw_g (lw_at lw_m6 69 rfl) rfl
theorem q1356 : (Jvm.Cond.code ({ cls := "java/util/ArrayList", name := "fastRemove", desc := "([Ljava/lang/Object;I)V" } : Jvm.MethodName) prog_39_method_39_code (4 : Nat) (Option.none : Option Jvm.ClassFile.FieldType)) ∈ lw_all := lw_g (lw_at lw_m6 70 rfl) rfl
theorem q2264 : (Jvm.Cond.castable "java/util/ArrayList" "java/lang/Object") ∈ lw_tbl := lw_at lw_m10 18 rfl
theorem in_J2 : ∀ w ∈ wsJ20, w ∈ lw_all := lw_in wsJ20 [180, 176, 178] (by decide +kernel) (by decide +kernel)

/-! java/lang/Throwable -/
set_option maxRecDepth 100000
def RJ3 : String := "java/lang/Throwable"
def TJ3 : u_T := fun k => match k with
  | 0 => ("java/lang/Throwable", "cause", "Ljava/lang/Throwable;", false)
  | 1 => ("java/lang/Throwable", "stackTrace", "[Ljava/lang/StackTraceElement;", false)
  | 2 => ("java/lang/Throwable", "suppressedExceptions", "Ljava/util/List;", false)
  | 3 => ("java/lang/Throwable", "detailMessage", "Ljava/lang/String;", false)
  | _ => ("java/lang/Throwable", "backtrace", "Ljava/lang/Object;", false)
def tyJ3 : Nat → FieldType := fun k => match k with
  | 0 => .object "java/lang/Throwable"
  | 1 => .array (.object "java/lang/StackTraceElement")
  | 2 => .object "java/util/List"
  | 3 => .object "java/lang/String"
  | _ => .object "java/lang/Object"
abbrev wsJ30 : List Cond := u_ws RJ3 TJ3 5
theorem nmJ3 : ∀ a, a < 5 → ∀ b, b < 5 → a ≠ b → (TJ3 a).2.1 ≠ (TJ3 b).2.1 := by decide +kernel
theorem tyJ3_ok : ∀ k, k < 5 → parseFieldDescriptor (TJ3 k).2.2.1 = some (tyJ3 k) := by decide +kernel
abbrev cJ3_init : ByteArray := prog_36_method_1_code
def yJ3_init : MethodName := ⟨RJ3, "<init>", "()V"⟩
def dkwJ3_init_1 : List UInt8 := [182, 0, 27, 87, 177]
abbrev dktJ3_init_1 : List UInt8 := dkwJ3_init_1 ++ []
def dkwJ3_init_0 : List UInt8 := [42, 183, 0, 1, 42, 42, 181, 0, 7, 42, 178, 0, 13, 181, 0, 17, 42, 178, 0, 20, 181, 0, 24, 42]
abbrev dktJ3_init_0 : List UInt8 := dkwJ3_init_0 ++ dktJ3_init_1
theorem dksJ3_init_0 : cJ3_init.data.toList.drop 0 = dktJ3_init_0 := by decide +kernel
theorem dksJ3_init_1 : cJ3_init.data.toList.drop 24 = dktJ3_init_1 := dk_seg dksJ3_init_0 24 rfl rfl
theorem dJ3_init_0 : decode cJ3_init 0 = .ok (.aload_n 0, 1) := dk_42 (dk_at dksJ3_init_0 0 rfl rfl)
theorem dJ3_init_1 : decode cJ3_init 1 = .ok (.invokespecial 1, 3) := dk_183 0 1 (dk_at dksJ3_init_0 1 rfl rfl)
theorem dJ3_init_4 : decode cJ3_init 4 = .ok (.aload_n 0, 1) := dk_42 (dk_at dksJ3_init_0 4 rfl rfl)
theorem dJ3_init_5 : decode cJ3_init 5 = .ok (.aload_n 0, 1) := dk_42 (dk_at dksJ3_init_0 5 rfl rfl)
theorem dJ3_init_6 : decode cJ3_init 6 = .ok (.putfield 7, 3) := dk_181 0 7 (dk_at dksJ3_init_0 6 rfl rfl)
theorem dJ3_init_9 : decode cJ3_init 9 = .ok (.aload_n 0, 1) := dk_42 (dk_at dksJ3_init_0 9 rfl rfl)
theorem dJ3_init_10 : decode cJ3_init 10 = .ok (.getstatic 13, 3) := dk_178 0 13 (dk_at dksJ3_init_0 10 rfl rfl)
theorem dJ3_init_13 : decode cJ3_init 13 = .ok (.putfield 17, 3) := dk_181 0 17 (dk_at dksJ3_init_0 13 rfl rfl)
theorem dJ3_init_16 : decode cJ3_init 16 = .ok (.aload_n 0, 1) := dk_42 (dk_at dksJ3_init_0 16 rfl rfl)
theorem dJ3_init_17 : decode cJ3_init 17 = .ok (.getstatic 20, 3) := dk_178 0 20 (dk_at dksJ3_init_0 17 rfl rfl)
theorem dJ3_init_20 : decode cJ3_init 20 = .ok (.putfield 24, 3) := dk_181 0 24 (dk_at dksJ3_init_0 20 rfl rfl)
theorem dJ3_init_23 : decode cJ3_init 23 = .ok (.aload_n 0, 1) := dk_42 (dk_at dksJ3_init_0 23 rfl rfl)
theorem dJ3_init_24 : decode cJ3_init 24 = .ok (.invokevirtual 27, 3) := dk_182 0 27 (dk_at dksJ3_init_1 0 rfl rfl)
theorem dJ3_init_27 : decode cJ3_init 27 = .ok (.pop, 1) := dk_87 (dk_at dksJ3_init_1 3 rfl rfl)
theorem dJ3_init_28 : decode cJ3_init 28 = .ok (.return_, 1) := dk_177 (dk_at dksJ3_init_1 4 rfl rfl)
abbrev cJ3_init_2 : ByteArray := prog_36_method_2_code
def yJ3_init_2 : MethodName := ⟨RJ3, "<init>", "(Ljava/lang/String;)V"⟩
def dkwJ3_init_2_1 : List UInt8 := [182, 0, 27, 87, 42, 43, 181, 0, 31, 177]
abbrev dktJ3_init_2_1 : List UInt8 := dkwJ3_init_2_1 ++ []
def dkwJ3_init_2_0 : List UInt8 := [42, 183, 0, 1, 42, 42, 181, 0, 7, 42, 178, 0, 13, 181, 0, 17, 42, 178, 0, 20, 181, 0, 24, 42]
abbrev dktJ3_init_2_0 : List UInt8 := dkwJ3_init_2_0 ++ dktJ3_init_2_1
theorem dksJ3_init_2_0 : cJ3_init_2.data.toList.drop 0 = dktJ3_init_2_0 := by decide +kernel
theorem dksJ3_init_2_1 : cJ3_init_2.data.toList.drop 24 = dktJ3_init_2_1 := dk_seg dksJ3_init_2_0 24 rfl rfl
theorem dJ3_init_2_0 : decode cJ3_init_2 0 = .ok (.aload_n 0, 1) := dk_42 (dk_at dksJ3_init_2_0 0 rfl rfl)
theorem dJ3_init_2_1 : decode cJ3_init_2 1 = .ok (.invokespecial 1, 3) := dk_183 0 1 (dk_at dksJ3_init_2_0 1 rfl rfl)
theorem dJ3_init_2_4 : decode cJ3_init_2 4 = .ok (.aload_n 0, 1) := dk_42 (dk_at dksJ3_init_2_0 4 rfl rfl)
theorem dJ3_init_2_5 : decode cJ3_init_2 5 = .ok (.aload_n 0, 1) := dk_42 (dk_at dksJ3_init_2_0 5 rfl rfl)
theorem dJ3_init_2_6 : decode cJ3_init_2 6 = .ok (.putfield 7, 3) := dk_181 0 7 (dk_at dksJ3_init_2_0 6 rfl rfl)
theorem dJ3_init_2_9 : decode cJ3_init_2 9 = .ok (.aload_n 0, 1) := dk_42 (dk_at dksJ3_init_2_0 9 rfl rfl)
theorem dJ3_init_2_10 : decode cJ3_init_2 10 = .ok (.getstatic 13, 3) := dk_178 0 13 (dk_at dksJ3_init_2_0 10 rfl rfl)
theorem dJ3_init_2_13 : decode cJ3_init_2 13 = .ok (.putfield 17, 3) := dk_181 0 17 (dk_at dksJ3_init_2_0 13 rfl rfl)
theorem dJ3_init_2_16 : decode cJ3_init_2 16 = .ok (.aload_n 0, 1) := dk_42 (dk_at dksJ3_init_2_0 16 rfl rfl)
theorem dJ3_init_2_17 : decode cJ3_init_2 17 = .ok (.getstatic 20, 3) := dk_178 0 20 (dk_at dksJ3_init_2_0 17 rfl rfl)
theorem dJ3_init_2_20 : decode cJ3_init_2 20 = .ok (.putfield 24, 3) := dk_181 0 24 (dk_at dksJ3_init_2_0 20 rfl rfl)
theorem dJ3_init_2_23 : decode cJ3_init_2 23 = .ok (.aload_n 0, 1) := dk_42 (dk_at dksJ3_init_2_0 23 rfl rfl)
theorem dJ3_init_2_24 : decode cJ3_init_2 24 = .ok (.invokevirtual 27, 3) := dk_182 0 27 (dk_at dksJ3_init_2_1 0 rfl rfl)
theorem dJ3_init_2_27 : decode cJ3_init_2 27 = .ok (.pop, 1) := dk_87 (dk_at dksJ3_init_2_1 3 rfl rfl)
theorem dJ3_init_2_28 : decode cJ3_init_2 28 = .ok (.aload_n 0, 1) := dk_42 (dk_at dksJ3_init_2_1 4 rfl rfl)
theorem dJ3_init_2_29 : decode cJ3_init_2 29 = .ok (.aload_n 1, 1) := dk_43 (dk_at dksJ3_init_2_1 5 rfl rfl)
theorem dJ3_init_2_30 : decode cJ3_init_2 30 = .ok (.putfield 31, 3) := dk_181 0 31 (dk_at dksJ3_init_2_1 6 rfl rfl)
theorem dJ3_init_2_33 : decode cJ3_init_2 33 = .ok (.return_, 1) := dk_177 (dk_at dksJ3_init_2_1 9 rfl rfl)
theorem q96 : (Jvm.Cond.initialized "java/lang/Throwable") ∈ lw_all := lw_g (lw_at lw_m1 10 rfl) rfl
theorem q270 : (Jvm.Cond.declares ({ cls := "java/lang/Throwable", name := "<init>", desc := "()V" } : Jvm.MethodName)) ∈ lw_tbl := lw_at lw_m1 184 rfl
theorem q271 : (Jvm.Cond.declares ({ cls := "java/lang/Throwable", name := "<init>", desc := "(Ljava/lang/String;)V" } : Jvm.MethodName)) ∈ lw_tbl := lw_at lw_m1 185 rfl
theorem q275 : (Jvm.Cond.lays "java/lang/Throwable" "java/lang/Throwable" "cause" "Ljava/lang/Throwable;") ∈ lw_all := lw_g (lw_at lw_m1 189 rfl) rfl
theorem q277 : (Jvm.Cond.lays "java/lang/Throwable" "java/lang/Throwable" "stackTrace" "[Ljava/lang/StackTraceElement;") ∈ lw_all := lw_g (lw_at lw_m1 191 rfl) rfl
theorem q279 : (Jvm.Cond.lays "java/lang/Throwable" "java/lang/Throwable" "suppressedExceptions" "Ljava/util/List;") ∈ lw_all := lw_g (lw_at lw_m1 193 rfl) rfl
theorem q281 : (Jvm.Cond.lays "java/lang/Throwable" "java/lang/Throwable" "detailMessage" "Ljava/lang/String;") ∈ lw_all := lw_g (lw_at lw_m1 195 rfl) rfl
theorem q283 : (Jvm.Cond.lays "java/lang/Throwable" "java/lang/Throwable" "backtrace" "Ljava/lang/Object;") ∈ lw_all := lw_g (lw_at lw_m1 197 rfl) rfl
theorem q284 : (Jvm.Cond.fieldLink "java/lang/Throwable" (198 : Nat) "java/lang/Throwable" "backtrace" "Ljava/lang/Object;") ∈ lw_all := lw_g (lw_at lw_m1 198 rfl) rfl
theorem q285 : (Jvm.Cond.superclass "java/lang/Throwable" "java/lang/Object") ∈ lw_all := lw_g (lw_at lw_m1 199 rfl) rfl
theorem q286 : (Jvm.Cond.instanceMethod ({ cls := "java/lang/Throwable", name := "<init>", desc := "()V" } : Jvm.MethodName)) ∈ lw_all := lw_g (lw_at lw_m1 200 rfl) rfl
theorem q287 : (Jvm.Cond.code ({ cls := "java/lang/Throwable", name := "<init>", desc := "()V" } : Jvm.MethodName) prog_36_method_1_code (1 : Nat) (Option.none : Option Jvm.ClassFile.FieldType)) ∈ lw_all := lw_g (lw_at lw_m1 201 rfl) rfl
theorem q288 : (Jvm.Cond.methodLink "java/lang/Throwable" (1 : Nat) ({ cls := "java/lang/Object", name := "<init>", desc := "()V" } : Jvm.MethodName)) ∈ lw_all := lw_g (lw_at lw_m1 202 rfl) rfl
theorem q289 : (Jvm.Cond.fieldLink "java/lang/Throwable" (13 : Nat) "java/lang/Throwable" "UNASSIGNED_STACK" "[Ljava/lang/StackTraceElement;") ∈ lw_all := lw_g (lw_at lw_m1 203 rfl) rfl
theorem q290 : (Jvm.Cond.laysStatic "java/lang/Throwable" "UNASSIGNED_STACK" "[Ljava/lang/StackTraceElement;") ∈ lw_tbl := lw_at lw_m1 204 rfl
theorem q291 : (Jvm.Cond.fieldLink "java/lang/Throwable" (20 : Nat) "java/lang/Throwable" "SUPPRESSED_SENTINEL" "Ljava/util/List;") ∈ lw_all := lw_g (lw_at lw_m1 205 rfl) rfl
theorem q292 : (Jvm.Cond.laysStatic "java/lang/Throwable" "SUPPRESSED_SENTINEL" "Ljava/util/List;") ∈ lw_tbl := lw_at lw_m1 206 rfl
theorem q293 : (Jvm.Cond.methodLink "java/lang/Throwable" (27 : Nat) ({ cls := "java/lang/Throwable", name := "fillInStackTrace", desc := "()Ljava/lang/Throwable;" } : Jvm.MethodName)) ∈ lw_all := lw_g (lw_at lw_m1 207 rfl) rfl
theorem q294 : (Jvm.Cond.instanceMethod ({ cls := "java/lang/Throwable", name := "fillInStackTrace", desc := "()Ljava/lang/Throwable;" } : Jvm.MethodName)) ∈ lw_all := lw_g (lw_at lw_m1 208 rfl) rfl
theorem q295 : (Jvm.Cond.sameMethod "java/lang/Throwable" "java/lang/Throwable" "fillInStackTrace" "()Ljava/lang/Throwable;") ∈ lw_all := lw_g (lw_at lw_m1 209 rfl) rfl
theorem q310 : (Jvm.Cond.declares ({ cls := "java/lang/Throwable", name := "fillInStackTrace", desc := "()Ljava/lang/Throwable;" } : Jvm.MethodName)) ∈ lw_tbl := lw_at lw_m1 224 rfl
theorem q314 : (Jvm.Cond.codeSync ({ cls := "java/lang/Throwable", name := "fillInStackTrace", desc := "()Ljava/lang/Throwable;" } : Jvm.MethodName) prog_36_method_18_code (1 : Nat) (Option.some (Jvm.ClassFile.FieldType.object "java/lang/Throwable"))) ∈ lw_all := lw_g (lw_at lw_m1 228 rfl) rfl
theorem q315 : (Jvm.Cond.methodLink "java/lang/Throwable" (202 : Nat) ({ cls := "java/lang/Throwable", name := "fillInStackTrace", desc := "(I)Ljava/lang/Throwable;" } : Jvm.MethodName)) ∈ lw_all := lw_g (lw_at lw_m1 229 rfl) rfl
theorem q316 : (Jvm.Cond.privateMethod ({ cls := "java/lang/Throwable", name := "fillInStackTrace", desc := "(I)Ljava/lang/Throwable;" } : Jvm.MethodName)) ∈ lw_tbl := lw_at lw_m1 230 rfl
theorem q317 : (Jvm.Cond.instanceMethod ({ cls := "java/lang/Throwable", name := "fillInStackTrace", desc := "(I)Ljava/lang/Throwable;" } : Jvm.MethodName)) ∈ lw_all := lw_g (lw_at lw_m1 231 rfl) rfl
theorem q318 : (Jvm.Cond.instantiable "java/lang/Throwable" (6 : Nat)) ∈ lw_all := lw_g (lw_at lw_m1 232 rfl) rfl
theorem q319 : (Jvm.Cond.native ({ cls := "java/lang/Throwable", name := "fillInStackTrace", desc := "(I)Ljava/lang/Throwable;" } : Jvm.MethodName)) ∈ lw_all := lw_g (lw_at lw_m1 233 rfl) rfl
theorem q330 : (Jvm.Cond.fieldLink "java/lang/Throwable" (198 : Nat) "java/lang/Throwable" "backtrace" "Ljava/lang/Object;") ∈ lw_all := lw_g (lw_at lw_m2 4 rfl) rfl
theorem q331 : (Jvm.Cond.fieldLink "java/lang/Throwable" (31 : Nat) "java/lang/Throwable" "detailMessage" "Ljava/lang/String;") ∈ lw_all := lw_g (lw_at lw_m2 5 rfl) rfl
theorem q332 : (Jvm.Cond.fieldLink "java/lang/Throwable" (7 : Nat) "java/lang/Throwable" "cause" "Ljava/lang/Throwable;") ∈ lw_all := lw_g (lw_at lw_m2 6 rfl) rfl
theorem q333 : (Jvm.Cond.fieldLink "java/lang/Throwable" (17 : Nat) "java/lang/Throwable" "stackTrace" "[Ljava/lang/StackTraceElement;") ∈ lw_all := lw_g (lw_at lw_m2 7 rfl) rfl
theorem q334 : (Jvm.Cond.fieldLink "java/lang/Throwable" (24 : Nat) "java/lang/Throwable" "suppressedExceptions" "Ljava/util/List;") ∈ lw_all := lw_g (lw_at lw_m2 8 rfl) rfl
theorem q337 : (Jvm.Cond.soleField "java/lang/Throwable" "backtrace") ∈ lw_all := lw_g (lw_at lw_m2 11 rfl) rfl
theorem q338 : (Jvm.Cond.soleField "java/lang/Throwable" "detailMessage") ∈ lw_all := lw_g (lw_at lw_m2 12 rfl) rfl
theorem q339 : (Jvm.Cond.soleField "java/lang/Throwable" "cause") ∈ lw_all := lw_g (lw_at lw_m2 13 rfl) rfl
theorem q340 : (Jvm.Cond.soleField "java/lang/Throwable" "stackTrace") ∈ lw_all := lw_g (lw_at lw_m2 14 rfl) rfl
theorem q342 : (Jvm.Cond.soleField "java/lang/Throwable" "depth") ∈ lw_all := lw_g (lw_at lw_m2 16 rfl) rfl
theorem q343 : (Jvm.Cond.soleField "java/lang/Throwable" "suppressedExceptions") ∈ lw_all := lw_g (lw_at lw_m2 17 rfl) rfl
theorem q456 : (Jvm.Cond.instanceMethod ({ cls := "java/lang/Throwable", name := "<init>", desc := "(Ljava/lang/String;)V" } : Jvm.MethodName)) ∈ lw_all := lw_g (lw_at lw_m2 130 rfl) rfl
theorem q457 : (Jvm.Cond.code ({ cls := "java/lang/Throwable", name := "<init>", desc := "(Ljava/lang/String;)V" } : Jvm.MethodName) prog_36_method_2_code (2 : Nat) (Option.none : Option Jvm.ClassFile.FieldType)) ∈ lw_all := lw_g (lw_at lw_m2 131 rfl) rfl
theorem q2238 : (Jvm.Cond.sameMethod "java/lang/Throwable" "java/lang/Throwable" "fillInStackTrace" "(I)Ljava/lang/Throwable;") ∈ lw_all := lw_g (lw_at lw_m9 232 rfl) rfl
theorem q2280 : (Jvm.Cond.castable "java/lang/Throwable" "java/lang/Object") ∈ lw_tbl := lw_at lw_m10 34 rfl
theorem in_J3 : ∀ w ∈ wsJ30, w ∈ lw_all := lw_in wsJ30 [275, 277, 279, 281, 283] (by decide +kernel) (by decide +kernel)

/-! java/lang/Exception -/
set_option maxRecDepth 100000
def RJ4 : String := "java/lang/Exception"
abbrev cJ4_init : ByteArray := prog_27_method_1_code
def yJ4_init : MethodName := ⟨RJ4, "<init>", "()V"⟩
theorem dJ4_init_0 : decode cJ4_init 0 = .ok (.aload_n 0, 1) := by decide +kernel
theorem dJ4_init_1 : decode cJ4_init 1 = .ok (.invokespecial 1, 3) := by decide +kernel
theorem dJ4_init_4 : decode cJ4_init 4 = .ok (.return_, 1) := by decide +kernel
abbrev cJ4_init_2 : ByteArray := prog_27_method_2_code
def yJ4_init_2 : MethodName := ⟨RJ4, "<init>", "(Ljava/lang/String;)V"⟩
def dkwJ4_init_2_0 : List UInt8 := [42, 43, 183, 0, 7, 177]
abbrev dktJ4_init_2_0 : List UInt8 := dkwJ4_init_2_0 ++ []
theorem dksJ4_init_2_0 : cJ4_init_2.data.toList.drop 0 = dktJ4_init_2_0 := by decide +kernel
theorem dJ4_init_2_0 : decode cJ4_init_2 0 = .ok (.aload_n 0, 1) := dk_42 (dk_at dksJ4_init_2_0 0 rfl rfl)
theorem dJ4_init_2_1 : decode cJ4_init_2 1 = .ok (.aload_n 1, 1) := dk_43 (dk_at dksJ4_init_2_0 1 rfl rfl)
theorem dJ4_init_2_2 : decode cJ4_init_2 2 = .ok (.invokespecial 7, 3) := dk_183 0 7 (dk_at dksJ4_init_2_0 2 rfl rfl)
theorem dJ4_init_2_5 : decode cJ4_init_2 5 = .ok (.return_, 1) := dk_177 (dk_at dksJ4_init_2_0 5 rfl rfl)
theorem q97 : (Jvm.Cond.initialized "java/lang/Exception") ∈ lw_all := lw_g (lw_at lw_m1 11 rfl) rfl
theorem q268 : (Jvm.Cond.declares ({ cls := "java/lang/Exception", name := "<init>", desc := "()V" } : Jvm.MethodName)) ∈ lw_tbl := lw_at lw_m1 182 rfl
theorem q269 : (Jvm.Cond.declares ({ cls := "java/lang/Exception", name := "<init>", desc := "(Ljava/lang/String;)V" } : Jvm.MethodName)) ∈ lw_tbl := lw_at lw_m1 183 rfl
theorem q313 : (Jvm.Cond.superclass "java/lang/Exception" "java/lang/Throwable") ∈ lw_all := lw_g (lw_at lw_m1 227 rfl) rfl
theorem q325 : (Jvm.Cond.instanceMethod ({ cls := "java/lang/Exception", name := "<init>", desc := "()V" } : Jvm.MethodName)) ∈ lw_all := lw_g (lw_at lw_m1 239 rfl) rfl
theorem q326 : (Jvm.Cond.code ({ cls := "java/lang/Exception", name := "<init>", desc := "()V" } : Jvm.MethodName) prog_27_method_1_code (1 : Nat) (Option.none : Option Jvm.ClassFile.FieldType)) ∈ lw_all := lw_g (lw_at lw_m2 0 rfl) rfl
theorem q327 : (Jvm.Cond.methodLink "java/lang/Exception" (1 : Nat) ({ cls := "java/lang/Throwable", name := "<init>", desc := "()V" } : Jvm.MethodName)) ∈ lw_all := lw_g (lw_at lw_m2 1 rfl) rfl
theorem q453 : (Jvm.Cond.instanceMethod ({ cls := "java/lang/Exception", name := "<init>", desc := "(Ljava/lang/String;)V" } : Jvm.MethodName)) ∈ lw_all := lw_g (lw_at lw_m2 127 rfl) rfl
theorem q454 : (Jvm.Cond.code ({ cls := "java/lang/Exception", name := "<init>", desc := "(Ljava/lang/String;)V" } : Jvm.MethodName) prog_27_method_2_code (2 : Nat) (Option.none : Option Jvm.ClassFile.FieldType)) ∈ lw_all := lw_g (lw_at lw_m2 128 rfl) rfl
theorem q455 : (Jvm.Cond.methodLink "java/lang/Exception" (7 : Nat) ({ cls := "java/lang/Throwable", name := "<init>", desc := "(Ljava/lang/String;)V" } : Jvm.MethodName)) ∈ lw_all := lw_g (lw_at lw_m2 129 rfl) rfl

/-! ChurchyardBook$Refused -/
set_option maxRecDepth 100000
def RX7 : String := "ChurchyardBook$Refused"
def TX7 : u_T := fun k => match k with
  | 0 => ("java/lang/Throwable", "cause", "Ljava/lang/Throwable;", false)
  | 1 => ("java/lang/Throwable", "stackTrace", "[Ljava/lang/StackTraceElement;", false)
  | 2 => ("java/lang/Throwable", "suppressedExceptions", "Ljava/util/List;", false)
  | 3 => ("java/lang/Throwable", "detailMessage", "Ljava/lang/String;", false)
  | 4 => ("java/lang/Throwable", "backtrace", "Ljava/lang/Object;", false)
  | 5 => ("java/lang/Throwable", "depth", "I", false)
  | _ => ("ChurchyardBook$Refused", "answer", "I", true)
def tyX7 : Nat → FieldType := fun k => match k with
  | 0 => .object "java/lang/Throwable"
  | 1 => .array (.object "java/lang/StackTraceElement")
  | 2 => .object "java/util/List"
  | 3 => .object "java/lang/String"
  | 4 => .object "java/lang/Object"
  | 5 => .int
  | _ => .int
abbrev wsX70 : List Cond := u_ws RX7 TX7 7
theorem nmX7 : ∀ a, a < 7 → ∀ b, b < 7 → a ≠ b → (TX7 a).2.1 ≠ (TX7 b).2.1 := by decide +kernel
theorem tyX7_ok : ∀ k, k < 7 → parseFieldDescriptor (TX7 k).2.2.1 = some (tyX7 k) := by decide +kernel
abbrev cX7_init : ByteArray := prog_12_method_1_code
def yX7_init : MethodName := ⟨RX7, "<init>", "(I)V"⟩
def dkwX7_init_0 : List UInt8 := [42, 183, 0, 1, 42, 27, 181, 0, 7, 177]
abbrev dktX7_init_0 : List UInt8 := dkwX7_init_0 ++ []
theorem dksX7_init_0 : cX7_init.data.toList.drop 0 = dktX7_init_0 := by decide +kernel
theorem dX7_init_0 : decode cX7_init 0 = .ok (.aload_n 0, 1) := dk_42 (dk_at dksX7_init_0 0 rfl rfl)
theorem dX7_init_1 : decode cX7_init 1 = .ok (.invokespecial 1, 3) := dk_183 0 1 (dk_at dksX7_init_0 1 rfl rfl)
theorem dX7_init_4 : decode cX7_init 4 = .ok (.aload_n 0, 1) := dk_42 (dk_at dksX7_init_0 4 rfl rfl)
theorem dX7_init_5 : decode cX7_init 5 = .ok (.iload_n 1, 1) := dk_27 (dk_at dksX7_init_0 5 rfl rfl)
theorem dX7_init_6 : decode cX7_init 6 = .ok (.putfield 7, 3) := dk_181 0 7 (dk_at dksX7_init_0 6 rfl rfl)
theorem dX7_init_9 : decode cX7_init 9 = .ok (.return_, 1) := dk_177 (dk_at dksX7_init_0 9 rfl rfl)
theorem q98 : (Jvm.Cond.initialized "ChurchyardBook$Refused") ∈ lw_all := lw_g (lw_at lw_m1 12 rfl) rfl
theorem q266 : (Jvm.Cond.instantiable "ChurchyardBook$Refused" (7 : Nat)) ∈ lw_all := lw_g (lw_at lw_m1 180 rfl) rfl
theorem q267 : (Jvm.Cond.castable "ChurchyardBook$Refused" "ChurchyardBook$Refused") ∈ lw_tbl := lw_at lw_m1 181 rfl
theorem q272 : (Jvm.Cond.selects "ChurchyardBook$Refused" ({ cls := "java/lang/Throwable", name := "fillInStackTrace", desc := "(I)Ljava/lang/Throwable;" } : Jvm.MethodName) ({ cls := "java/lang/Throwable", name := "fillInStackTrace", desc := "(I)Ljava/lang/Throwable;" } : Jvm.MethodName)) ∈ lw_all := lw_g (lw_at lw_m1 186 rfl) rfl
theorem q273 : (Jvm.Cond.selects "ChurchyardBook$Refused" ({ cls := "java/lang/Throwable", name := "fillInStackTrace", desc := "()Ljava/lang/Throwable;" } : Jvm.MethodName) ({ cls := "java/lang/Throwable", name := "fillInStackTrace", desc := "()Ljava/lang/Throwable;" } : Jvm.MethodName)) ∈ lw_all := lw_g (lw_at lw_m1 187 rfl) rfl
theorem q274 : (Jvm.Cond.lays "ChurchyardBook$Refused" "java/lang/Throwable" "cause" "Ljava/lang/Throwable;") ∈ lw_all := lw_g (lw_at lw_m1 188 rfl) rfl
theorem q276 : (Jvm.Cond.lays "ChurchyardBook$Refused" "java/lang/Throwable" "stackTrace" "[Ljava/lang/StackTraceElement;") ∈ lw_all := lw_g (lw_at lw_m1 190 rfl) rfl
theorem q278 : (Jvm.Cond.lays "ChurchyardBook$Refused" "java/lang/Throwable" "suppressedExceptions" "Ljava/util/List;") ∈ lw_all := lw_g (lw_at lw_m1 192 rfl) rfl
theorem q280 : (Jvm.Cond.lays "ChurchyardBook$Refused" "java/lang/Throwable" "detailMessage" "Ljava/lang/String;") ∈ lw_all := lw_g (lw_at lw_m1 194 rfl) rfl
theorem q282 : (Jvm.Cond.lays "ChurchyardBook$Refused" "java/lang/Throwable" "backtrace" "Ljava/lang/Object;") ∈ lw_all := lw_g (lw_at lw_m1 196 rfl) rfl
theorem q322 : (Jvm.Cond.instanceMethod ({ cls := "ChurchyardBook$Refused", name := "<init>", desc := "(I)V" } : Jvm.MethodName)) ∈ lw_all := lw_g (lw_at lw_m1 236 rfl) rfl
theorem q323 : (Jvm.Cond.code ({ cls := "ChurchyardBook$Refused", name := "<init>", desc := "(I)V" } : Jvm.MethodName) prog_12_method_1_code (2 : Nat) (Option.none : Option Jvm.ClassFile.FieldType)) ∈ lw_all := lw_g (lw_at lw_m1 237 rfl) rfl
theorem q324 : (Jvm.Cond.methodLink "ChurchyardBook$Refused" (1 : Nat) ({ cls := "java/lang/Exception", name := "<init>", desc := "()V" } : Jvm.MethodName)) ∈ lw_all := lw_g (lw_at lw_m1 238 rfl) rfl
theorem q328 : (Jvm.Cond.fieldLink "ChurchyardBook$Refused" (7 : Nat) "ChurchyardBook$Refused" "answer" "I") ∈ lw_all := lw_g (lw_at lw_m2 2 rfl) rfl
theorem q335 : (Jvm.Cond.laysFinal "ChurchyardBook$Refused" "ChurchyardBook$Refused" "answer" "I") ∈ lw_all := lw_g (lw_at lw_m2 9 rfl) rfl
theorem q336 : (Jvm.Cond.soleField "ChurchyardBook$Refused" "answer") ∈ lw_all := lw_g (lw_at lw_m2 10 rfl) rfl
theorem q341 : (Jvm.Cond.lays "ChurchyardBook$Refused" "java/lang/Throwable" "depth" "I") ∈ lw_all := lw_g (lw_at lw_m2 15 rfl) rfl
theorem q344 : (Jvm.Cond.superclass "ChurchyardBook$Refused" "java/lang/Exception") ∈ lw_all := lw_g (lw_at lw_m2 18 rfl) rfl
theorem q416 : (Jvm.Cond.selects "ChurchyardBook$Refused" ({ cls := "java/lang/Object", name := "getClass", desc := "()Ljava/lang/Class;" } : Jvm.MethodName) ({ cls := "java/lang/Object", name := "getClass", desc := "()Ljava/lang/Class;" } : Jvm.MethodName)) ∈ lw_all := lw_g (lw_at lw_m2 90 rfl) rfl
theorem q1047 : (Jvm.Cond.selects "ChurchyardBook$Refused" ({ cls := "java/lang/Object", name := "equals", desc := "(Ljava/lang/Object;)Z" } : Jvm.MethodName) ({ cls := "java/lang/Object", name := "equals", desc := "(Ljava/lang/Object;)Z" } : Jvm.MethodName)) ∈ lw_all := lw_g (lw_at lw_m5 1 rfl) rfl
theorem q2266 : (Jvm.Cond.castable "ChurchyardBook$Refused" "java/lang/Object") ∈ lw_tbl := lw_at lw_m10 20 rfl
theorem in_X7 : ∀ w ∈ wsX70, w ∈ lw_all := lw_in wsX70 [274, 276, 278, 280, 282, 341, 335] (by decide +kernel) (by decide +kernel)

/-! ChurchyardBook$Field -/
set_option maxRecDepth 100000
def RX8 : String := "ChurchyardBook$Field"
def TX8 : u_T := fun k => match k with
  | 0 => ("ChurchyardBook$Field", "ground", "I", true)
  | 1 => ("ChurchyardBook$Field", "rows", "[[LChurchyardBook$Place;", true)
  | _ => ("ChurchyardBook$Field", "many", "I", false)
def tyX8 : Nat → FieldType := fun k => match k with
  | 0 => .int
  | 1 => .array (.array (.object "ChurchyardBook$Place"))
  | _ => .int
abbrev wsX80 : List Cond := u_ws RX8 TX8 3
theorem nmX8 : ∀ a, a < 3 → ∀ b, b < 3 → a ≠ b → (TX8 a).2.1 ≠ (TX8 b).2.1 := by decide +kernel
theorem tyX8_ok : ∀ k, k < 3 → parseFieldDescriptor (TX8 k).2.2.1 = some (tyX8 k) := by decide +kernel
abbrev cX8_init : ByteArray := prog_7_method_1_code
def yX8_init : MethodName := ⟨RX8, "<init>", "(I)V"⟩
def dkwX8_init_0 : List UInt8 := [42, 183, 0, 3, 42, 16, 12, 189, 0, 9, 181, 0, 11, 42, 27, 181, 0, 17, 177]
abbrev dktX8_init_0 : List UInt8 := dkwX8_init_0 ++ []
theorem dksX8_init_0 : cX8_init.data.toList.drop 0 = dktX8_init_0 := by decide +kernel
theorem dX8_init_0 : decode cX8_init 0 = .ok (.aload_n 0, 1) := dk_42 (dk_at dksX8_init_0 0 rfl rfl)
theorem dX8_init_1 : decode cX8_init 1 = .ok (.invokespecial 3, 3) := dk_183 0 3 (dk_at dksX8_init_0 1 rfl rfl)
theorem dX8_init_4 : decode cX8_init 4 = .ok (.aload_n 0, 1) := dk_42 (dk_at dksX8_init_0 4 rfl rfl)
theorem dX8_init_5 : decode cX8_init 5 = .ok (.bipush 12, 2) := dk_16 12 (dk_at dksX8_init_0 5 rfl rfl)
theorem dX8_init_7 : decode cX8_init 7 = .ok (.anewarray 9, 3) := dk_189 0 9 (dk_at dksX8_init_0 7 rfl rfl)
theorem dX8_init_10 : decode cX8_init 10 = .ok (.putfield 11, 3) := dk_181 0 11 (dk_at dksX8_init_0 10 rfl rfl)
theorem dX8_init_13 : decode cX8_init 13 = .ok (.aload_n 0, 1) := dk_42 (dk_at dksX8_init_0 13 rfl rfl)
theorem dX8_init_14 : decode cX8_init 14 = .ok (.iload_n 1, 1) := dk_27 (dk_at dksX8_init_0 14 rfl rfl)
theorem dX8_init_15 : decode cX8_init 15 = .ok (.putfield 17, 3) := dk_181 0 17 (dk_at dksX8_init_0 15 rfl rfl)
theorem dX8_init_18 : decode cX8_init 18 = .ok (.return_, 1) := dk_177 (dk_at dksX8_init_0 18 rfl rfl)
theorem q99 : (Jvm.Cond.initialized "ChurchyardBook$Field") ∈ lw_all := lw_g (lw_at lw_m1 13 rfl) rfl
theorem q354 : (Jvm.Cond.instantiable "ChurchyardBook$Field" (3 : Nat)) ∈ lw_all := lw_g (lw_at lw_m2 28 rfl) rfl
theorem q356 : (Jvm.Cond.instanceMethod ({ cls := "ChurchyardBook$Field", name := "<init>", desc := "(I)V" } : Jvm.MethodName)) ∈ lw_all := lw_g (lw_at lw_m2 30 rfl) rfl
theorem q357 : (Jvm.Cond.code ({ cls := "ChurchyardBook$Field", name := "<init>", desc := "(I)V" } : Jvm.MethodName) prog_7_method_1_code (2 : Nat) (Option.none : Option Jvm.ClassFile.FieldType)) ∈ lw_all := lw_g (lw_at lw_m2 31 rfl) rfl
theorem q358 : (Jvm.Cond.methodLink "ChurchyardBook$Field" (3 : Nat) ({ cls := "java/lang/Object", name := "<init>", desc := "()V" } : Jvm.MethodName)) ∈ lw_all := lw_g (lw_at lw_m2 32 rfl) rfl
theorem q359 : (Jvm.Cond.classLink "ChurchyardBook$Field" (9 : Nat) "[LChurchyardBook$Place;") ∈ lw_all := lw_g (lw_at lw_m2 33 rfl) rfl
theorem q362 : (Jvm.Cond.fieldLink "ChurchyardBook$Field" (17 : Nat) "ChurchyardBook$Field" "ground" "I") ∈ lw_all := lw_g (lw_at lw_m2 36 rfl) rfl
theorem q364 : (Jvm.Cond.fieldLink "ChurchyardBook$Field" (11 : Nat) "ChurchyardBook$Field" "rows" "[[LChurchyardBook$Place;") ∈ lw_all := lw_g (lw_at lw_m2 38 rfl) rfl
theorem q369 : (Jvm.Cond.laysFinal "ChurchyardBook$Field" "ChurchyardBook$Field" "ground" "I") ∈ lw_all := lw_g (lw_at lw_m2 43 rfl) rfl
theorem q370 : (Jvm.Cond.soleField "ChurchyardBook$Field" "ground") ∈ lw_all := lw_g (lw_at lw_m2 44 rfl) rfl
theorem q371 : (Jvm.Cond.laysFinal "ChurchyardBook$Field" "ChurchyardBook$Field" "rows" "[[LChurchyardBook$Place;") ∈ lw_all := lw_g (lw_at lw_m2 45 rfl) rfl
theorem q372 : (Jvm.Cond.soleField "ChurchyardBook$Field" "rows") ∈ lw_all := lw_g (lw_at lw_m2 46 rfl) rfl
theorem q373 : (Jvm.Cond.lays "ChurchyardBook$Field" "ChurchyardBook$Field" "many" "I") ∈ lw_all := lw_g (lw_at lw_m2 47 rfl) rfl
theorem q374 : (Jvm.Cond.soleField "ChurchyardBook$Field" "many") ∈ lw_all := lw_g (lw_at lw_m2 48 rfl) rfl
theorem q375 : (Jvm.Cond.superclass "ChurchyardBook$Field" "java/lang/Object") ∈ lw_all := lw_g (lw_at lw_m2 49 rfl) rfl
theorem q413 : (Jvm.Cond.selects "ChurchyardBook$Field" ({ cls := "java/lang/Object", name := "getClass", desc := "()Ljava/lang/Class;" } : Jvm.MethodName) ({ cls := "java/lang/Object", name := "getClass", desc := "()Ljava/lang/Class;" } : Jvm.MethodName)) ∈ lw_all := lw_g (lw_at lw_m2 87 rfl) rfl
theorem q1044 : (Jvm.Cond.selects "ChurchyardBook$Field" ({ cls := "java/lang/Object", name := "equals", desc := "(Ljava/lang/Object;)Z" } : Jvm.MethodName) ({ cls := "java/lang/Object", name := "equals", desc := "(Ljava/lang/Object;)Z" } : Jvm.MethodName)) ∈ lw_all := lw_g (lw_at lw_m4 238 rfl) rfl
theorem q2267 : (Jvm.Cond.castable "ChurchyardBook$Field" "java/lang/Object") ∈ lw_tbl := lw_at lw_m10 21 rfl
theorem in_X8 : ∀ w ∈ wsX80, w ∈ lw_all := lw_in wsX80 [369, 371, 373] (by decide +kernel) (by decide +kernel)

/-! jdk/internal/util/ArraysSupport -/
set_option maxRecDepth 100000
def RJ5 : String := "jdk/internal/util/ArraysSupport"
abbrev cJ5_newLength : ByteArray := prog_47_method_27_code
def yJ5_newLength : MethodName := ⟨RJ5, "newLength", "(III)I"⟩
def dkwJ5_newLength_1 : List UInt8 := [184, 0, 201, 172]
abbrev dktJ5_newLength_1 : List UInt8 := dkwJ5_newLength_1 ++ []
def dkwJ5_newLength_0 : List UInt8 := [26, 27, 28, 184, 0, 194, 96, 62, 3, 29, 162, 0, 11, 29, 18, 200, 163, 0, 5, 29, 172, 26, 27]
abbrev dktJ5_newLength_0 : List UInt8 := dkwJ5_newLength_0 ++ dktJ5_newLength_1
theorem dksJ5_newLength_0 : cJ5_newLength.data.toList.drop 0 = dktJ5_newLength_0 := by decide +kernel
theorem dksJ5_newLength_1 : cJ5_newLength.data.toList.drop 23 = dktJ5_newLength_1 := dk_seg dksJ5_newLength_0 23 rfl rfl
theorem dJ5_newLength_0 : decode cJ5_newLength 0 = .ok (.iload_n 0, 1) := dk_26 (dk_at dksJ5_newLength_0 0 rfl rfl)
theorem dJ5_newLength_1 : decode cJ5_newLength 1 = .ok (.iload_n 1, 1) := dk_27 (dk_at dksJ5_newLength_0 1 rfl rfl)
theorem dJ5_newLength_2 : decode cJ5_newLength 2 = .ok (.iload_n 2, 1) := dk_28 (dk_at dksJ5_newLength_0 2 rfl rfl)
theorem dJ5_newLength_3 : decode cJ5_newLength 3 = .ok (.invokestatic 194, 3) := dk_184 0 194 (dk_at dksJ5_newLength_0 3 rfl rfl)
theorem dJ5_newLength_6 : decode cJ5_newLength 6 = .ok (.iadd, 1) := dk_96 (dk_at dksJ5_newLength_0 6 rfl rfl)
theorem dJ5_newLength_7 : decode cJ5_newLength 7 = .ok (.istore_n 3, 1) := dk_62 (dk_at dksJ5_newLength_0 7 rfl rfl)
theorem dJ5_newLength_8 : decode cJ5_newLength 8 = .ok (.iconst 0, 1) := dk_3 (dk_at dksJ5_newLength_0 8 rfl rfl)
theorem dJ5_newLength_9 : decode cJ5_newLength 9 = .ok (.iload_n 3, 1) := dk_29 (dk_at dksJ5_newLength_0 9 rfl rfl)
theorem dJ5_newLength_10 : decode cJ5_newLength 10 = .ok (.if_icmp .ge 11, 3) := dk_162 0 11 (dk_at dksJ5_newLength_0 10 rfl rfl)
theorem dJ5_newLength_13 : decode cJ5_newLength 13 = .ok (.iload_n 3, 1) := dk_29 (dk_at dksJ5_newLength_0 13 rfl rfl)
theorem dJ5_newLength_14 : decode cJ5_newLength 14 = .ok (.ldc 200, 2) := dk_18 200 (dk_at dksJ5_newLength_0 14 rfl rfl)
theorem dJ5_newLength_16 : decode cJ5_newLength 16 = .ok (.if_icmp .gt 5, 3) := dk_163 0 5 (dk_at dksJ5_newLength_0 16 rfl rfl)
theorem dJ5_newLength_19 : decode cJ5_newLength 19 = .ok (.iload_n 3, 1) := dk_29 (dk_at dksJ5_newLength_0 19 rfl rfl)
theorem dJ5_newLength_20 : decode cJ5_newLength 20 = .ok (.ireturn, 1) := dk_172 (dk_at dksJ5_newLength_0 20 rfl rfl)
theorem dJ5_newLength_21 : decode cJ5_newLength 21 = .ok (.iload_n 0, 1) := dk_26 (dk_at dksJ5_newLength_0 21 rfl rfl)
theorem dJ5_newLength_22 : decode cJ5_newLength 22 = .ok (.iload_n 1, 1) := dk_27 (dk_at dksJ5_newLength_0 22 rfl rfl)
theorem dJ5_newLength_23 : decode cJ5_newLength 23 = .ok (.invokestatic 201, 3) := dk_184 0 201 (dk_at dksJ5_newLength_1 0 rfl rfl)
theorem dJ5_newLength_26 : decode cJ5_newLength 26 = .ok (.ireturn, 1) := dk_172 (dk_at dksJ5_newLength_1 3 rfl rfl)
abbrev cJ5_hugeLength : ByteArray := prog_47_method_28_code
def yJ5_hugeLength : MethodName := ⟨RJ5, "hugeLength", "(II)I"⟩
def dkwJ5_hugeLength_2 : List UInt8 := [191, 28, 18, 200, 163, 0, 6, 18, 200, 172, 28, 172]
abbrev dktJ5_hugeLength_2 : List UInt8 := dkwJ5_hugeLength_2 ++ []
def dkwJ5_hugeLength_1 : List UInt8 := [26, 182, 0, 98, 18, 208, 182, 0, 94, 27, 182, 0, 98, 18, 210, 182, 0, 94, 182, 0, 101, 183, 0, 212]
abbrev dktJ5_hugeLength_1 : List UInt8 := dkwJ5_hugeLength_1 ++ dktJ5_hugeLength_2
def dkwJ5_hugeLength_0 : List UInt8 := [26, 27, 96, 61, 28, 156, 0, 44, 187, 0, 204, 89, 187, 0, 89, 89, 183, 0, 91, 18, 206, 182, 0, 94]
abbrev dktJ5_hugeLength_0 : List UInt8 := dkwJ5_hugeLength_0 ++ dktJ5_hugeLength_1
theorem dksJ5_hugeLength_0 : cJ5_hugeLength.data.toList.drop 0 = dktJ5_hugeLength_0 := by decide +kernel
theorem dksJ5_hugeLength_1 : cJ5_hugeLength.data.toList.drop 24 = dktJ5_hugeLength_1 := dk_seg dksJ5_hugeLength_0 24 rfl rfl
theorem dksJ5_hugeLength_2 : cJ5_hugeLength.data.toList.drop 48 = dktJ5_hugeLength_2 := dk_seg dksJ5_hugeLength_1 24 rfl rfl
theorem dJ5_hugeLength_0 : decode cJ5_hugeLength 0 = .ok (.iload_n 0, 1) := dk_26 (dk_at dksJ5_hugeLength_0 0 rfl rfl)
theorem dJ5_hugeLength_1 : decode cJ5_hugeLength 1 = .ok (.iload_n 1, 1) := dk_27 (dk_at dksJ5_hugeLength_0 1 rfl rfl)
theorem dJ5_hugeLength_2 : decode cJ5_hugeLength 2 = .ok (.iadd, 1) := dk_96 (dk_at dksJ5_hugeLength_0 2 rfl rfl)
theorem dJ5_hugeLength_3 : decode cJ5_hugeLength 3 = .ok (.istore_n 2, 1) := dk_61 (dk_at dksJ5_hugeLength_0 3 rfl rfl)
theorem dJ5_hugeLength_4 : decode cJ5_hugeLength 4 = .ok (.iload_n 2, 1) := dk_28 (dk_at dksJ5_hugeLength_0 4 rfl rfl)
theorem dJ5_hugeLength_5 : decode cJ5_hugeLength 5 = .ok (.ifCond .ge 44, 3) := dk_156 0 44 (dk_at dksJ5_hugeLength_0 5 rfl rfl)
theorem dJ5_hugeLength_8 : decode cJ5_hugeLength 8 = .ok (.new 204, 3) := dk_187 0 204 (dk_at dksJ5_hugeLength_0 8 rfl rfl)
theorem dJ5_hugeLength_11 : decode cJ5_hugeLength 11 = .ok (.dup, 1) := dk_89 (dk_at dksJ5_hugeLength_0 11 rfl rfl)
theorem dJ5_hugeLength_12 : decode cJ5_hugeLength 12 = .ok (.new 89, 3) := dk_187 0 89 (dk_at dksJ5_hugeLength_0 12 rfl rfl)
theorem dJ5_hugeLength_15 : decode cJ5_hugeLength 15 = .ok (.dup, 1) := dk_89 (dk_at dksJ5_hugeLength_0 15 rfl rfl)
theorem dJ5_hugeLength_16 : decode cJ5_hugeLength 16 = .ok (.invokespecial 91, 3) := dk_183 0 91 (dk_at dksJ5_hugeLength_0 16 rfl rfl)
theorem dJ5_hugeLength_19 : decode cJ5_hugeLength 19 = .ok (.ldc 206, 2) := dk_18 206 (dk_at dksJ5_hugeLength_0 19 rfl rfl)
theorem dJ5_hugeLength_21 : decode cJ5_hugeLength 21 = .ok (.invokevirtual 94, 3) := dk_182 0 94 (dk_at dksJ5_hugeLength_0 21 rfl rfl)
theorem dJ5_hugeLength_24 : decode cJ5_hugeLength 24 = .ok (.iload_n 0, 1) := dk_26 (dk_at dksJ5_hugeLength_1 0 rfl rfl)
theorem dJ5_hugeLength_25 : decode cJ5_hugeLength 25 = .ok (.invokevirtual 98, 3) := dk_182 0 98 (dk_at dksJ5_hugeLength_1 1 rfl rfl)
theorem dJ5_hugeLength_28 : decode cJ5_hugeLength 28 = .ok (.ldc 208, 2) := dk_18 208 (dk_at dksJ5_hugeLength_1 4 rfl rfl)
theorem dJ5_hugeLength_30 : decode cJ5_hugeLength 30 = .ok (.invokevirtual 94, 3) := dk_182 0 94 (dk_at dksJ5_hugeLength_1 6 rfl rfl)
theorem dJ5_hugeLength_33 : decode cJ5_hugeLength 33 = .ok (.iload_n 1, 1) := dk_27 (dk_at dksJ5_hugeLength_1 9 rfl rfl)
theorem dJ5_hugeLength_34 : decode cJ5_hugeLength 34 = .ok (.invokevirtual 98, 3) := dk_182 0 98 (dk_at dksJ5_hugeLength_1 10 rfl rfl)
theorem dJ5_hugeLength_37 : decode cJ5_hugeLength 37 = .ok (.ldc 210, 2) := dk_18 210 (dk_at dksJ5_hugeLength_1 13 rfl rfl)
theorem dJ5_hugeLength_39 : decode cJ5_hugeLength 39 = .ok (.invokevirtual 94, 3) := dk_182 0 94 (dk_at dksJ5_hugeLength_1 15 rfl rfl)
theorem dJ5_hugeLength_42 : decode cJ5_hugeLength 42 = .ok (.invokevirtual 101, 3) := dk_182 0 101 (dk_at dksJ5_hugeLength_1 18 rfl rfl)
theorem dJ5_hugeLength_45 : decode cJ5_hugeLength 45 = .ok (.invokespecial 212, 3) := dk_183 0 212 (dk_at dksJ5_hugeLength_1 21 rfl rfl)
theorem dJ5_hugeLength_48 : decode cJ5_hugeLength 48 = .ok (.athrow, 1) := dk_191 (dk_at dksJ5_hugeLength_2 0 rfl rfl)
theorem dJ5_hugeLength_49 : decode cJ5_hugeLength 49 = .ok (.iload_n 2, 1) := dk_28 (dk_at dksJ5_hugeLength_2 1 rfl rfl)
theorem dJ5_hugeLength_50 : decode cJ5_hugeLength 50 = .ok (.ldc 200, 2) := dk_18 200 (dk_at dksJ5_hugeLength_2 2 rfl rfl)
theorem dJ5_hugeLength_52 : decode cJ5_hugeLength 52 = .ok (.if_icmp .gt 6, 3) := dk_163 0 6 (dk_at dksJ5_hugeLength_2 4 rfl rfl)
theorem dJ5_hugeLength_55 : decode cJ5_hugeLength 55 = .ok (.ldc 200, 2) := dk_18 200 (dk_at dksJ5_hugeLength_2 7 rfl rfl)
theorem dJ5_hugeLength_57 : decode cJ5_hugeLength 57 = .ok (.ireturn, 1) := dk_172 (dk_at dksJ5_hugeLength_2 9 rfl rfl)
theorem dJ5_hugeLength_58 : decode cJ5_hugeLength 58 = .ok (.iload_n 2, 1) := dk_28 (dk_at dksJ5_hugeLength_2 10 rfl rfl)
theorem dJ5_hugeLength_59 : decode cJ5_hugeLength 59 = .ok (.ireturn, 1) := dk_172 (dk_at dksJ5_hugeLength_2 11 rfl rfl)
theorem q100 : (Jvm.Cond.initialized "jdk/internal/util/ArraysSupport") ∈ lw_all := lw_g (lw_at lw_m1 14 rfl) rfl
theorem q393 : (Jvm.Cond.static ({ cls := "jdk/internal/util/ArraysSupport", name := "newLength", desc := "(III)I" } : Jvm.MethodName)) ∈ lw_all := lw_g (lw_at lw_m2 67 rfl) rfl
theorem q394 : (Jvm.Cond.code ({ cls := "jdk/internal/util/ArraysSupport", name := "newLength", desc := "(III)I" } : Jvm.MethodName) prog_47_method_27_code (4 : Nat) (Option.some Jvm.ClassFile.FieldType.int)) ∈ lw_all := lw_g (lw_at lw_m2 68 rfl) rfl
theorem q395 : (Jvm.Cond.methodLink "jdk/internal/util/ArraysSupport" (194 : Nat) ({ cls := "java/lang/Math", name := "max", desc := "(II)I" } : Jvm.MethodName)) ∈ lw_all := lw_g (lw_at lw_m2 69 rfl) rfl
theorem q398 : (Jvm.Cond.constant "jdk/internal/util/ArraysSupport" (200 : Nat) (2147483639 : Int32)) ∈ lw_all := lw_g (lw_at lw_m2 72 rfl) rfl
theorem q399 : (Jvm.Cond.methodLink "jdk/internal/util/ArraysSupport" (201 : Nat) ({ cls := "jdk/internal/util/ArraysSupport", name := "hugeLength", desc := "(II)I" } : Jvm.MethodName)) ∈ lw_all := lw_g (lw_at lw_m2 73 rfl) rfl
theorem q400 : (Jvm.Cond.static ({ cls := "jdk/internal/util/ArraysSupport", name := "hugeLength", desc := "(II)I" } : Jvm.MethodName)) ∈ lw_all := lw_g (lw_at lw_m2 74 rfl) rfl
theorem q401 : (Jvm.Cond.code ({ cls := "jdk/internal/util/ArraysSupport", name := "hugeLength", desc := "(II)I" } : Jvm.MethodName) prog_47_method_28_code (3 : Nat) (Option.some Jvm.ClassFile.FieldType.int)) ∈ lw_all := lw_g (lw_at lw_m2 75 rfl) rfl

/-! java/lang/Math -/
set_option maxRecDepth 100000
def RJ6 : String := "java/lang/Math"
abbrev cJ6_max : ByteArray := prog_30_method_65_code
def yJ6_max : MethodName := ⟨RJ6, "max", "(II)I"⟩
def dkwJ6_max_0 : List UInt8 := [26, 27, 161, 0, 7, 26, 167, 0, 4, 27, 172]
abbrev dktJ6_max_0 : List UInt8 := dkwJ6_max_0 ++ []
theorem dksJ6_max_0 : cJ6_max.data.toList.drop 0 = dktJ6_max_0 := by decide +kernel
theorem dJ6_max_0 : decode cJ6_max 0 = .ok (.iload_n 0, 1) := dk_26 (dk_at dksJ6_max_0 0 rfl rfl)
theorem dJ6_max_1 : decode cJ6_max 1 = .ok (.iload_n 1, 1) := dk_27 (dk_at dksJ6_max_0 1 rfl rfl)
theorem dJ6_max_2 : decode cJ6_max 2 = .ok (.if_icmp .lt 7, 3) := dk_161 0 7 (dk_at dksJ6_max_0 2 rfl rfl)
theorem dJ6_max_5 : decode cJ6_max 5 = .ok (.iload_n 0, 1) := dk_26 (dk_at dksJ6_max_0 5 rfl rfl)
theorem dJ6_max_6 : decode cJ6_max 6 = .ok (.goto 4, 3) := dk_167 0 4 (dk_at dksJ6_max_0 6 rfl rfl)
theorem dJ6_max_9 : decode cJ6_max 9 = .ok (.iload_n 1, 1) := dk_27 (dk_at dksJ6_max_0 9 rfl rfl)
theorem dJ6_max_10 : decode cJ6_max 10 = .ok (.ireturn, 1) := dk_172 (dk_at dksJ6_max_0 10 rfl rfl)
abbrev cJ6_min : ByteArray := prog_30_method_69_code
def yJ6_min : MethodName := ⟨RJ6, "min", "(II)I"⟩
def dkwJ6_min_0 : List UInt8 := [26, 27, 163, 0, 7, 26, 167, 0, 4, 27, 172]
abbrev dktJ6_min_0 : List UInt8 := dkwJ6_min_0 ++ []
theorem dksJ6_min_0 : cJ6_min.data.toList.drop 0 = dktJ6_min_0 := by decide +kernel
theorem dJ6_min_0 : decode cJ6_min 0 = .ok (.iload_n 0, 1) := dk_26 (dk_at dksJ6_min_0 0 rfl rfl)
theorem dJ6_min_1 : decode cJ6_min 1 = .ok (.iload_n 1, 1) := dk_27 (dk_at dksJ6_min_0 1 rfl rfl)
theorem dJ6_min_2 : decode cJ6_min 2 = .ok (.if_icmp .gt 7, 3) := dk_163 0 7 (dk_at dksJ6_min_0 2 rfl rfl)
theorem dJ6_min_5 : decode cJ6_min 5 = .ok (.iload_n 0, 1) := dk_26 (dk_at dksJ6_min_0 5 rfl rfl)
theorem dJ6_min_6 : decode cJ6_min 6 = .ok (.goto 4, 3) := dk_167 0 4 (dk_at dksJ6_min_0 6 rfl rfl)
theorem dJ6_min_9 : decode cJ6_min 9 = .ok (.iload_n 1, 1) := dk_27 (dk_at dksJ6_min_0 9 rfl rfl)
theorem dJ6_min_10 : decode cJ6_min 10 = .ok (.ireturn, 1) := dk_172 (dk_at dksJ6_min_0 10 rfl rfl)
theorem q101 : (Jvm.Cond.initialized "java/lang/Math") ∈ lw_all := lw_g (lw_at lw_m1 15 rfl) rfl
theorem q396 : (Jvm.Cond.static ({ cls := "java/lang/Math", name := "max", desc := "(II)I" } : Jvm.MethodName)) ∈ lw_all := lw_g (lw_at lw_m2 70 rfl) rfl
theorem q397 : (Jvm.Cond.code ({ cls := "java/lang/Math", name := "max", desc := "(II)I" } : Jvm.MethodName) prog_30_method_65_code (2 : Nat) (Option.some Jvm.ClassFile.FieldType.int)) ∈ lw_all := lw_g (lw_at lw_m2 71 rfl) rfl
theorem q437 : (Jvm.Cond.static ({ cls := "java/lang/Math", name := "min", desc := "(II)I" } : Jvm.MethodName)) ∈ lw_all := lw_g (lw_at lw_m2 111 rfl) rfl
theorem q438 : (Jvm.Cond.code ({ cls := "java/lang/Math", name := "min", desc := "(II)I" } : Jvm.MethodName) prog_30_method_69_code (2 : Nat) (Option.some Jvm.ClassFile.FieldType.int)) ∈ lw_all := lw_g (lw_at lw_m2 112 rfl) rfl

/-! java/util/Arrays -/
set_option maxRecDepth 100000
def RJ7 : String := "java/util/Arrays"
abbrev cJ7_copyOf : ByteArray := prog_40_method_119_code
def yJ7_copyOf : MethodName := ⟨RJ7, "copyOf", "([Ljava/lang/Object;I)[Ljava/lang/Object;"⟩
def dkwJ7_copyOf_0 : List UInt8 := [42, 27, 42, 182, 0, 86, 184, 1, 44, 176]
abbrev dktJ7_copyOf_0 : List UInt8 := dkwJ7_copyOf_0 ++ []
theorem dksJ7_copyOf_0 : cJ7_copyOf.data.toList.drop 0 = dktJ7_copyOf_0 := by decide +kernel
theorem dJ7_copyOf_0 : decode cJ7_copyOf 0 = .ok (.aload_n 0, 1) := dk_42 (dk_at dksJ7_copyOf_0 0 rfl rfl)
theorem dJ7_copyOf_1 : decode cJ7_copyOf 1 = .ok (.iload_n 1, 1) := dk_27 (dk_at dksJ7_copyOf_0 1 rfl rfl)
theorem dJ7_copyOf_2 : decode cJ7_copyOf 2 = .ok (.aload_n 0, 1) := dk_42 (dk_at dksJ7_copyOf_0 2 rfl rfl)
theorem dJ7_copyOf_3 : decode cJ7_copyOf 3 = .ok (.invokevirtual 86, 3) := dk_182 0 86 (dk_at dksJ7_copyOf_0 3 rfl rfl)
theorem dJ7_copyOf_6 : decode cJ7_copyOf 6 = .ok (.invokestatic 300, 3) := dk_184 1 44 (dk_at dksJ7_copyOf_0 6 rfl rfl)
theorem dJ7_copyOf_9 : decode cJ7_copyOf 9 = .ok (.areturn, 1) := dk_176 (dk_at dksJ7_copyOf_0 9 rfl rfl)
abbrev cJ7_copyOf_2 : ByteArray := prog_40_method_120_code
def yJ7_copyOf_2 : MethodName := ⟨RJ7, "copyOf", "([Ljava/lang/Object;ILjava/lang/Class;)[Ljava/lang/Object;"⟩
def dkwJ7_copyOf_2_1 : List UInt8 := [78, 42, 3, 45, 3, 42, 190, 27, 184, 1, 48, 184, 0, 150, 45, 176]
abbrev dktJ7_copyOf_2_1 : List UInt8 := dkwJ7_copyOf_2_1 ++ []
def dkwJ7_copyOf_2_0 : List UInt8 := [44, 18, 110, 166, 0, 10, 27, 189, 0, 2, 167, 0, 14, 44, 182, 0, 90, 27, 184, 0, 95, 192, 0, 110]
abbrev dktJ7_copyOf_2_0 : List UInt8 := dkwJ7_copyOf_2_0 ++ dktJ7_copyOf_2_1
theorem dksJ7_copyOf_2_0 : cJ7_copyOf_2.data.toList.drop 0 = dktJ7_copyOf_2_0 := by decide +kernel
theorem dksJ7_copyOf_2_1 : cJ7_copyOf_2.data.toList.drop 24 = dktJ7_copyOf_2_1 := dk_seg dksJ7_copyOf_2_0 24 rfl rfl
theorem dJ7_copyOf_2_0 : decode cJ7_copyOf_2 0 = .ok (.aload_n 2, 1) := dk_44 (dk_at dksJ7_copyOf_2_0 0 rfl rfl)
theorem dJ7_copyOf_2_1 : decode cJ7_copyOf_2 1 = .ok (.ldc 110, 2) := dk_18 110 (dk_at dksJ7_copyOf_2_0 1 rfl rfl)
theorem dJ7_copyOf_2_3 : decode cJ7_copyOf_2 3 = .ok (.if_acmp .ne 10, 3) := dk_166 0 10 (dk_at dksJ7_copyOf_2_0 3 rfl rfl)
theorem dJ7_copyOf_2_6 : decode cJ7_copyOf_2 6 = .ok (.iload_n 1, 1) := dk_27 (dk_at dksJ7_copyOf_2_0 6 rfl rfl)
theorem dJ7_copyOf_2_7 : decode cJ7_copyOf_2 7 = .ok (.anewarray 2, 3) := dk_189 0 2 (dk_at dksJ7_copyOf_2_0 7 rfl rfl)
theorem dJ7_copyOf_2_10 : decode cJ7_copyOf_2 10 = .ok (.goto 14, 3) := dk_167 0 14 (dk_at dksJ7_copyOf_2_0 10 rfl rfl)
theorem dJ7_copyOf_2_13 : decode cJ7_copyOf_2 13 = .ok (.aload_n 2, 1) := dk_44 (dk_at dksJ7_copyOf_2_0 13 rfl rfl)
theorem dJ7_copyOf_2_14 : decode cJ7_copyOf_2 14 = .ok (.invokevirtual 90, 3) := dk_182 0 90 (dk_at dksJ7_copyOf_2_0 14 rfl rfl)
theorem dJ7_copyOf_2_17 : decode cJ7_copyOf_2 17 = .ok (.iload_n 1, 1) := dk_27 (dk_at dksJ7_copyOf_2_0 17 rfl rfl)
theorem dJ7_copyOf_2_18 : decode cJ7_copyOf_2 18 = .ok (.invokestatic 95, 3) := dk_184 0 95 (dk_at dksJ7_copyOf_2_0 18 rfl rfl)
theorem dJ7_copyOf_2_21 : decode cJ7_copyOf_2 21 = .ok (.checkcast 110, 3) := dk_192 0 110 (dk_at dksJ7_copyOf_2_0 21 rfl rfl)
theorem dJ7_copyOf_2_24 : decode cJ7_copyOf_2 24 = .ok (.astore_n 3, 1) := dk_78 (dk_at dksJ7_copyOf_2_1 0 rfl rfl)
theorem dJ7_copyOf_2_25 : decode cJ7_copyOf_2 25 = .ok (.aload_n 0, 1) := dk_42 (dk_at dksJ7_copyOf_2_1 1 rfl rfl)
theorem dJ7_copyOf_2_26 : decode cJ7_copyOf_2 26 = .ok (.iconst 0, 1) := dk_3 (dk_at dksJ7_copyOf_2_1 2 rfl rfl)
theorem dJ7_copyOf_2_27 : decode cJ7_copyOf_2 27 = .ok (.aload_n 3, 1) := dk_45 (dk_at dksJ7_copyOf_2_1 3 rfl rfl)
theorem dJ7_copyOf_2_28 : decode cJ7_copyOf_2 28 = .ok (.iconst 0, 1) := dk_3 (dk_at dksJ7_copyOf_2_1 4 rfl rfl)
theorem dJ7_copyOf_2_29 : decode cJ7_copyOf_2 29 = .ok (.aload_n 0, 1) := dk_42 (dk_at dksJ7_copyOf_2_1 5 rfl rfl)
theorem dJ7_copyOf_2_30 : decode cJ7_copyOf_2 30 = .ok (.arraylength, 1) := dk_190 (dk_at dksJ7_copyOf_2_1 6 rfl rfl)
theorem dJ7_copyOf_2_31 : decode cJ7_copyOf_2 31 = .ok (.iload_n 1, 1) := dk_27 (dk_at dksJ7_copyOf_2_1 7 rfl rfl)
theorem dJ7_copyOf_2_32 : decode cJ7_copyOf_2 32 = .ok (.invokestatic 304, 3) := dk_184 1 48 (dk_at dksJ7_copyOf_2_1 8 rfl rfl)
theorem dJ7_copyOf_2_35 : decode cJ7_copyOf_2 35 = .ok (.invokestatic 150, 3) := dk_184 0 150 (dk_at dksJ7_copyOf_2_1 11 rfl rfl)
theorem dJ7_copyOf_2_38 : decode cJ7_copyOf_2 38 = .ok (.aload_n 3, 1) := dk_45 (dk_at dksJ7_copyOf_2_1 14 rfl rfl)
theorem dJ7_copyOf_2_39 : decode cJ7_copyOf_2 39 = .ok (.areturn, 1) := dk_176 (dk_at dksJ7_copyOf_2_1 15 rfl rfl)
theorem q102 : (Jvm.Cond.initialized "java/util/Arrays") ∈ lw_all := lw_g (lw_at lw_m1 16 rfl) rfl
theorem q403 : (Jvm.Cond.static ({ cls := "java/util/Arrays", name := "copyOf", desc := "([Ljava/lang/Object;I)[Ljava/lang/Object;" } : Jvm.MethodName)) ∈ lw_all := lw_g (lw_at lw_m2 77 rfl) rfl
theorem q404 : (Jvm.Cond.code ({ cls := "java/util/Arrays", name := "copyOf", desc := "([Ljava/lang/Object;I)[Ljava/lang/Object;" } : Jvm.MethodName) prog_40_method_119_code (2 : Nat) (Option.some (Jvm.ClassFile.FieldType.array (Jvm.ClassFile.FieldType.object "java/lang/Object")))) ∈ lw_all := lw_g (lw_at lw_m2 78 rfl) rfl
theorem q405 : (Jvm.Cond.methodLink "java/util/Arrays" (86 : Nat) ({ cls := "java/lang/Object", name := "getClass", desc := "()Ljava/lang/Class;" } : Jvm.MethodName)) ∈ lw_all := lw_g (lw_at lw_m2 79 rfl) rfl
theorem q431 : (Jvm.Cond.methodLink "java/util/Arrays" (300 : Nat) ({ cls := "java/util/Arrays", name := "copyOf", desc := "([Ljava/lang/Object;ILjava/lang/Class;)[Ljava/lang/Object;" } : Jvm.MethodName)) ∈ lw_all := lw_g (lw_at lw_m2 105 rfl) rfl
theorem q432 : (Jvm.Cond.static ({ cls := "java/util/Arrays", name := "copyOf", desc := "([Ljava/lang/Object;ILjava/lang/Class;)[Ljava/lang/Object;" } : Jvm.MethodName)) ∈ lw_all := lw_g (lw_at lw_m2 106 rfl) rfl
theorem q433 : (Jvm.Cond.code ({ cls := "java/util/Arrays", name := "copyOf", desc := "([Ljava/lang/Object;ILjava/lang/Class;)[Ljava/lang/Object;" } : Jvm.MethodName) prog_40_method_120_code (4 : Nat) (Option.some (Jvm.ClassFile.FieldType.array (Jvm.ClassFile.FieldType.object "java/lang/Object")))) ∈ lw_all := lw_g (lw_at lw_m2 107 rfl) rfl
theorem q434 : (Jvm.Cond.classLink "java/util/Arrays" (110 : Nat) "[Ljava/lang/Object;") ∈ lw_all := lw_g (lw_at lw_m2 108 rfl) rfl
theorem q435 : (Jvm.Cond.classLink "java/util/Arrays" (2 : Nat) "java/lang/Object") ∈ lw_all := lw_g (lw_at lw_m2 109 rfl) rfl
theorem q436 : (Jvm.Cond.methodLink "java/util/Arrays" (304 : Nat) ({ cls := "java/lang/Math", name := "min", desc := "(II)I" } : Jvm.MethodName)) ∈ lw_all := lw_g (lw_at lw_m2 110 rfl) rfl
theorem q439 : (Jvm.Cond.methodLink "java/util/Arrays" (150 : Nat) ({ cls := "java/lang/System", name := "arraycopy", desc := "(Ljava/lang/Object;ILjava/lang/Object;II)V" } : Jvm.MethodName)) ∈ lw_all := lw_g (lw_at lw_m2 113 rfl) rfl

/-! java/lang/RuntimeException -/
set_option maxRecDepth 100000
def RJ8 : String := "java/lang/RuntimeException"
abbrev cJ8_init : ByteArray := prog_33_method_2_code
def yJ8_init : MethodName := ⟨RJ8, "<init>", "(Ljava/lang/String;)V"⟩
def dkwJ8_init_0 : List UInt8 := [42, 43, 183, 0, 7, 177]
abbrev dktJ8_init_0 : List UInt8 := dkwJ8_init_0 ++ []
theorem dksJ8_init_0 : cJ8_init.data.toList.drop 0 = dktJ8_init_0 := by decide +kernel
theorem dJ8_init_0 : decode cJ8_init 0 = .ok (.aload_n 0, 1) := dk_42 (dk_at dksJ8_init_0 0 rfl rfl)
theorem dJ8_init_1 : decode cJ8_init 1 = .ok (.aload_n 1, 1) := dk_43 (dk_at dksJ8_init_0 1 rfl rfl)
theorem dJ8_init_2 : decode cJ8_init 2 = .ok (.invokespecial 7, 3) := dk_183 0 7 (dk_at dksJ8_init_0 2 rfl rfl)
theorem dJ8_init_5 : decode cJ8_init 5 = .ok (.return_, 1) := dk_177 (dk_at dksJ8_init_0 5 rfl rfl)
abbrev cJ8_init_2 : ByteArray := prog_33_method_1_code
def yJ8_init_2 : MethodName := ⟨RJ8, "<init>", "()V"⟩
theorem dJ8_init_2_0 : decode cJ8_init_2 0 = .ok (.aload_n 0, 1) := by decide +kernel
theorem dJ8_init_2_1 : decode cJ8_init_2 1 = .ok (.invokespecial 1, 3) := by decide +kernel
theorem dJ8_init_2_4 : decode cJ8_init_2 4 = .ok (.return_, 1) := by decide +kernel
theorem q104 : (Jvm.Cond.initialized "java/lang/RuntimeException") ∈ lw_all := lw_g (lw_at lw_m1 18 rfl) rfl
theorem q309 : (Jvm.Cond.sameMethod "java/lang/RuntimeException" "java/lang/Throwable" "fillInStackTrace" "()Ljava/lang/Throwable;") ∈ lw_all := lw_g (lw_at lw_m1 223 rfl) rfl
theorem q312 : (Jvm.Cond.superclass "java/lang/RuntimeException" "java/lang/Exception") ∈ lw_all := lw_g (lw_at lw_m1 226 rfl) rfl
theorem q450 : (Jvm.Cond.instanceMethod ({ cls := "java/lang/RuntimeException", name := "<init>", desc := "(Ljava/lang/String;)V" } : Jvm.MethodName)) ∈ lw_all := lw_g (lw_at lw_m2 124 rfl) rfl
theorem q451 : (Jvm.Cond.code ({ cls := "java/lang/RuntimeException", name := "<init>", desc := "(Ljava/lang/String;)V" } : Jvm.MethodName) prog_33_method_2_code (2 : Nat) (Option.none : Option Jvm.ClassFile.FieldType)) ∈ lw_all := lw_g (lw_at lw_m2 125 rfl) rfl
theorem q452 : (Jvm.Cond.methodLink "java/lang/RuntimeException" (7 : Nat) ({ cls := "java/lang/Exception", name := "<init>", desc := "(Ljava/lang/String;)V" } : Jvm.MethodName)) ∈ lw_all := lw_g (lw_at lw_m2 126 rfl) rfl
theorem q466 : (Jvm.Cond.declares ({ cls := "java/lang/RuntimeException", name := "<init>", desc := "()V" } : Jvm.MethodName)) ∈ lw_tbl := lw_at lw_m2 140 rfl
theorem q467 : (Jvm.Cond.declares ({ cls := "java/lang/RuntimeException", name := "<init>", desc := "(Ljava/lang/String;)V" } : Jvm.MethodName)) ∈ lw_tbl := lw_at lw_m2 141 rfl
theorem q513 : (Jvm.Cond.instanceMethod ({ cls := "java/lang/RuntimeException", name := "<init>", desc := "()V" } : Jvm.MethodName)) ∈ lw_all := lw_g (lw_at lw_m2 187 rfl) rfl
theorem q514 : (Jvm.Cond.code ({ cls := "java/lang/RuntimeException", name := "<init>", desc := "()V" } : Jvm.MethodName) prog_33_method_1_code (1 : Nat) (Option.none : Option Jvm.ClassFile.FieldType)) ∈ lw_all := lw_g (lw_at lw_m2 188 rfl) rfl
theorem q515 : (Jvm.Cond.methodLink "java/lang/RuntimeException" (1 : Nat) ({ cls := "java/lang/Exception", name := "<init>", desc := "()V" } : Jvm.MethodName)) ∈ lw_all := lw_g (lw_at lw_m2 189 rfl) rfl
theorem q530 : (Jvm.Cond.castable "java/lang/RuntimeException" "java/lang/Throwable") ∈ lw_tbl := lw_at lw_m2 204 rfl

/-! java/lang/NegativeArraySizeException -/
set_option maxRecDepth 100000
def RJ9 : String := "java/lang/NegativeArraySizeException"
def TJ9 : u_T := fun k => match k with
  | 0 => ("java/lang/Throwable", "backtrace", "Ljava/lang/Object;", false)
  | 1 => ("java/lang/Throwable", "detailMessage", "Ljava/lang/String;", false)
  | 2 => ("java/lang/Throwable", "cause", "Ljava/lang/Throwable;", false)
  | 3 => ("java/lang/Throwable", "stackTrace", "[Ljava/lang/StackTraceElement;", false)
  | 4 => ("java/lang/Throwable", "depth", "I", false)
  | _ => ("java/lang/Throwable", "suppressedExceptions", "Ljava/util/List;", false)
def tyJ9 : Nat → FieldType := fun k => match k with
  | 0 => .object "java/lang/Object"
  | 1 => .object "java/lang/String"
  | 2 => .object "java/lang/Throwable"
  | 3 => .array (.object "java/lang/StackTraceElement")
  | 4 => .int
  | _ => .object "java/util/List"
abbrev wsJ90 : List Cond := u_ws RJ9 TJ9 6
theorem nmJ9 : ∀ a, a < 6 → ∀ b, b < 6 → a ≠ b → (TJ9 a).2.1 ≠ (TJ9 b).2.1 := by decide +kernel
theorem tyJ9_ok : ∀ k, k < 6 → parseFieldDescriptor (TJ9 k).2.2.1 = some (tyJ9 k) := by decide +kernel
abbrev cJ9_init : ByteArray := prog_31_method_2_code
def yJ9_init : MethodName := ⟨RJ9, "<init>", "(Ljava/lang/String;)V"⟩
def dkwJ9_init_0 : List UInt8 := [42, 43, 183, 0, 7, 177]
abbrev dktJ9_init_0 : List UInt8 := dkwJ9_init_0 ++ []
theorem dksJ9_init_0 : cJ9_init.data.toList.drop 0 = dktJ9_init_0 := by decide +kernel
theorem dJ9_init_0 : decode cJ9_init 0 = .ok (.aload_n 0, 1) := dk_42 (dk_at dksJ9_init_0 0 rfl rfl)
theorem dJ9_init_1 : decode cJ9_init 1 = .ok (.aload_n 1, 1) := dk_43 (dk_at dksJ9_init_0 1 rfl rfl)
theorem dJ9_init_2 : decode cJ9_init 2 = .ok (.invokespecial 7, 3) := dk_183 0 7 (dk_at dksJ9_init_0 2 rfl rfl)
theorem dJ9_init_5 : decode cJ9_init 5 = .ok (.return_, 1) := dk_177 (dk_at dksJ9_init_0 5 rfl rfl)
theorem q105 : (Jvm.Cond.initialized "java/lang/NegativeArraySizeException") ∈ lw_all := lw_g (lw_at lw_m1 19 rfl) rfl
theorem q299 : (Jvm.Cond.selects "java/lang/NegativeArraySizeException" ({ cls := "java/lang/Throwable", name := "fillInStackTrace", desc := "()Ljava/lang/Throwable;" } : Jvm.MethodName) ({ cls := "java/lang/Throwable", name := "fillInStackTrace", desc := "()Ljava/lang/Throwable;" } : Jvm.MethodName)) ∈ lw_all := lw_g (lw_at lw_m1 213 rfl) rfl
theorem q426 : (Jvm.Cond.selects "java/lang/NegativeArraySizeException" ({ cls := "java/lang/Object", name := "getClass", desc := "()Ljava/lang/Class;" } : Jvm.MethodName) ({ cls := "java/lang/Object", name := "getClass", desc := "()Ljava/lang/Class;" } : Jvm.MethodName)) ∈ lw_all := lw_g (lw_at lw_m2 100 rfl) rfl
theorem q446 : (Jvm.Cond.instantiable "java/lang/NegativeArraySizeException" (6 : Nat)) ∈ lw_all := lw_g (lw_at lw_m2 120 rfl) rfl
theorem q447 : (Jvm.Cond.instanceMethod ({ cls := "java/lang/NegativeArraySizeException", name := "<init>", desc := "(Ljava/lang/String;)V" } : Jvm.MethodName)) ∈ lw_all := lw_g (lw_at lw_m2 121 rfl) rfl
theorem q448 : (Jvm.Cond.code ({ cls := "java/lang/NegativeArraySizeException", name := "<init>", desc := "(Ljava/lang/String;)V" } : Jvm.MethodName) prog_31_method_2_code (2 : Nat) (Option.none : Option Jvm.ClassFile.FieldType)) ∈ lw_all := lw_g (lw_at lw_m2 122 rfl) rfl
theorem q449 : (Jvm.Cond.methodLink "java/lang/NegativeArraySizeException" (7 : Nat) ({ cls := "java/lang/RuntimeException", name := "<init>", desc := "(Ljava/lang/String;)V" } : Jvm.MethodName)) ∈ lw_all := lw_g (lw_at lw_m2 123 rfl) rfl
theorem q458 : (Jvm.Cond.lays "java/lang/NegativeArraySizeException" "java/lang/Throwable" "backtrace" "Ljava/lang/Object;") ∈ lw_all := lw_g (lw_at lw_m2 132 rfl) rfl
theorem q459 : (Jvm.Cond.lays "java/lang/NegativeArraySizeException" "java/lang/Throwable" "detailMessage" "Ljava/lang/String;") ∈ lw_all := lw_g (lw_at lw_m2 133 rfl) rfl
theorem q460 : (Jvm.Cond.lays "java/lang/NegativeArraySizeException" "java/lang/Throwable" "cause" "Ljava/lang/Throwable;") ∈ lw_all := lw_g (lw_at lw_m2 134 rfl) rfl
theorem q461 : (Jvm.Cond.lays "java/lang/NegativeArraySizeException" "java/lang/Throwable" "stackTrace" "[Ljava/lang/StackTraceElement;") ∈ lw_all := lw_g (lw_at lw_m2 135 rfl) rfl
theorem q462 : (Jvm.Cond.lays "java/lang/NegativeArraySizeException" "java/lang/Throwable" "depth" "I") ∈ lw_all := lw_g (lw_at lw_m2 136 rfl) rfl
theorem q463 : (Jvm.Cond.lays "java/lang/NegativeArraySizeException" "java/lang/Throwable" "suppressedExceptions" "Ljava/util/List;") ∈ lw_all := lw_g (lw_at lw_m2 137 rfl) rfl
theorem q464 : (Jvm.Cond.superclass "java/lang/NegativeArraySizeException" "java/lang/RuntimeException") ∈ lw_all := lw_g (lw_at lw_m2 138 rfl) rfl
theorem q465 : (Jvm.Cond.castable "java/lang/NegativeArraySizeException" "java/lang/NegativeArraySizeException") ∈ lw_tbl := lw_at lw_m2 139 rfl
theorem q468 : (Jvm.Cond.selects "java/lang/NegativeArraySizeException" ({ cls := "java/lang/Throwable", name := "fillInStackTrace", desc := "(I)Ljava/lang/Throwable;" } : Jvm.MethodName) ({ cls := "java/lang/Throwable", name := "fillInStackTrace", desc := "(I)Ljava/lang/Throwable;" } : Jvm.MethodName)) ∈ lw_all := lw_g (lw_at lw_m2 142 rfl) rfl
theorem q1057 : (Jvm.Cond.selects "java/lang/NegativeArraySizeException" ({ cls := "java/lang/Object", name := "equals", desc := "(Ljava/lang/Object;)Z" } : Jvm.MethodName) ({ cls := "java/lang/Object", name := "equals", desc := "(Ljava/lang/Object;)Z" } : Jvm.MethodName)) ∈ lw_all := lw_g (lw_at lw_m5 11 rfl) rfl
theorem q2268 : (Jvm.Cond.castable "java/lang/NegativeArraySizeException" "java/lang/Object") ∈ lw_tbl := lw_at lw_m10 22 rfl
theorem in_J9 : ∀ w ∈ wsJ90, w ∈ lw_all := lw_in wsJ90 [458, 459, 460, 461, 462, 463] (by decide +kernel) (by decide +kernel)

/-! java/lang/String -/
set_option maxRecDepth 100000
def RJ10 : String := "java/lang/String"
def TJ10 : u_T := fun k => match k with
  | 0 => ("java/lang/String", "value", "[B", true)
  | _ => ("java/lang/String", "coder", "B", true)
def tyJ10 : Nat → FieldType := fun k => match k with
  | 0 => .array .byte
  | _ => .byte
abbrev wsJ100 : List Cond := u_ws RJ10 TJ10 2
theorem nmJ10 : ∀ a, a < 2 → ∀ b, b < 2 → a ≠ b → (TJ10 a).2.1 ≠ (TJ10 b).2.1 := by decide +kernel
theorem tyJ10_ok : ∀ k, k < 2 → parseFieldDescriptor (TJ10 k).2.2.1 = some (tyJ10 k) := by decide +kernel
theorem q106 : (Jvm.Cond.initialized "java/lang/String") ∈ lw_all := lw_g (lw_at lw_m1 20 rfl) rfl
theorem q469 : (Jvm.Cond.instantiable "java/lang/String" (4 : Nat)) ∈ lw_all := lw_g (lw_at lw_m2 143 rfl) rfl
theorem q471 : (Jvm.Cond.laysFinal "java/lang/String" "java/lang/String" "value" "[B") ∈ lw_all := lw_g (lw_at lw_m2 145 rfl) rfl
theorem q472 : (Jvm.Cond.soleField "java/lang/String" "value") ∈ lw_all := lw_g (lw_at lw_m2 146 rfl) rfl
theorem q473 : (Jvm.Cond.laysFinal "java/lang/String" "java/lang/String" "coder" "B") ∈ lw_all := lw_g (lw_at lw_m2 147 rfl) rfl
theorem q474 : (Jvm.Cond.soleField "java/lang/String" "coder") ∈ lw_all := lw_g (lw_at lw_m2 148 rfl) rfl
theorem q2281 : (Jvm.Cond.castable "java/lang/String" "java/lang/Object") ∈ lw_tbl := lw_at lw_m10 35 rfl
theorem in_J10 : ∀ w ∈ wsJ100, w ∈ lw_all := lw_in wsJ100 [471, 473] (by decide +kernel) (by decide +kernel)

/-! java/util/Objects -/
set_option maxRecDepth 100000
def RJ11 : String := "java/util/Objects"
abbrev cJ11_checkIndex : ByteArray := prog_44_method_17_code
def yJ11_checkIndex : MethodName := ⟨RJ11, "checkIndex", "(II)I"⟩
def dkwJ11_checkIndex_0 : List UInt8 := [26, 27, 1, 184, 0, 105, 172]
abbrev dktJ11_checkIndex_0 : List UInt8 := dkwJ11_checkIndex_0 ++ []
theorem dksJ11_checkIndex_0 : cJ11_checkIndex.data.toList.drop 0 = dktJ11_checkIndex_0 := by decide +kernel
theorem dJ11_checkIndex_0 : decode cJ11_checkIndex 0 = .ok (.iload_n 0, 1) := dk_26 (dk_at dksJ11_checkIndex_0 0 rfl rfl)
theorem dJ11_checkIndex_1 : decode cJ11_checkIndex 1 = .ok (.iload_n 1, 1) := dk_27 (dk_at dksJ11_checkIndex_0 1 rfl rfl)
theorem dJ11_checkIndex_2 : decode cJ11_checkIndex 2 = .ok (.aconst_null, 1) := dk_1 (dk_at dksJ11_checkIndex_0 2 rfl rfl)
theorem dJ11_checkIndex_3 : decode cJ11_checkIndex 3 = .ok (.invokestatic 105, 3) := dk_184 0 105 (dk_at dksJ11_checkIndex_0 3 rfl rfl)
theorem dJ11_checkIndex_6 : decode cJ11_checkIndex 6 = .ok (.ireturn, 1) := dk_172 (dk_at dksJ11_checkIndex_0 6 rfl rfl)
theorem q107 : (Jvm.Cond.initialized "java/util/Objects") ∈ lw_all := lw_g (lw_at lw_m1 21 rfl) rfl
theorem q480 : (Jvm.Cond.static ({ cls := "java/util/Objects", name := "checkIndex", desc := "(II)I" } : Jvm.MethodName)) ∈ lw_all := lw_g (lw_at lw_m2 154 rfl) rfl
theorem q481 : (Jvm.Cond.code ({ cls := "java/util/Objects", name := "checkIndex", desc := "(II)I" } : Jvm.MethodName) prog_44_method_17_code (2 : Nat) (Option.some Jvm.ClassFile.FieldType.int)) ∈ lw_all := lw_g (lw_at lw_m2 155 rfl) rfl
theorem q482 : (Jvm.Cond.methodLink "java/util/Objects" (105 : Nat) ({ cls := "jdk/internal/util/Preconditions", name := "checkIndex", desc := "(IILjava/util/function/BiFunction;)I" } : Jvm.MethodName)) ∈ lw_all := lw_g (lw_at lw_m2 156 rfl) rfl

/-! jdk/internal/util/Preconditions -/
set_option maxRecDepth 100000
def RJ12 : String := "jdk/internal/util/Preconditions"
abbrev cJ12_checkIndex : ByteArray := prog_48_method_11_code
def yJ12_checkIndex : MethodName := ⟨RJ12, "checkIndex", "(IILjava/util/function/BiFunction;)I"⟩
def dkwJ12_checkIndex_0 : List UInt8 := [26, 155, 0, 8, 26, 27, 161, 0, 10, 44, 26, 27, 184, 0, 95, 191, 26, 172]
abbrev dktJ12_checkIndex_0 : List UInt8 := dkwJ12_checkIndex_0 ++ []
theorem dksJ12_checkIndex_0 : cJ12_checkIndex.data.toList.drop 0 = dktJ12_checkIndex_0 := by decide +kernel
theorem dJ12_checkIndex_0 : decode cJ12_checkIndex 0 = .ok (.iload_n 0, 1) := dk_26 (dk_at dksJ12_checkIndex_0 0 rfl rfl)
theorem dJ12_checkIndex_1 : decode cJ12_checkIndex 1 = .ok (.ifCond .lt 8, 3) := dk_155 0 8 (dk_at dksJ12_checkIndex_0 1 rfl rfl)
theorem dJ12_checkIndex_4 : decode cJ12_checkIndex 4 = .ok (.iload_n 0, 1) := dk_26 (dk_at dksJ12_checkIndex_0 4 rfl rfl)
theorem dJ12_checkIndex_5 : decode cJ12_checkIndex 5 = .ok (.iload_n 1, 1) := dk_27 (dk_at dksJ12_checkIndex_0 5 rfl rfl)
theorem dJ12_checkIndex_6 : decode cJ12_checkIndex 6 = .ok (.if_icmp .lt 10, 3) := dk_161 0 10 (dk_at dksJ12_checkIndex_0 6 rfl rfl)
theorem dJ12_checkIndex_9 : decode cJ12_checkIndex 9 = .ok (.aload_n 2, 1) := dk_44 (dk_at dksJ12_checkIndex_0 9 rfl rfl)
theorem dJ12_checkIndex_10 : decode cJ12_checkIndex 10 = .ok (.iload_n 0, 1) := dk_26 (dk_at dksJ12_checkIndex_0 10 rfl rfl)
theorem dJ12_checkIndex_11 : decode cJ12_checkIndex 11 = .ok (.iload_n 1, 1) := dk_27 (dk_at dksJ12_checkIndex_0 11 rfl rfl)
theorem dJ12_checkIndex_12 : decode cJ12_checkIndex 12 = .ok (.invokestatic 95, 3) := dk_184 0 95 (dk_at dksJ12_checkIndex_0 12 rfl rfl)
theorem dJ12_checkIndex_15 : decode cJ12_checkIndex 15 = .ok (.athrow, 1) := dk_191 (dk_at dksJ12_checkIndex_0 15 rfl rfl)
theorem dJ12_checkIndex_16 : decode cJ12_checkIndex 16 = .ok (.iload_n 0, 1) := dk_26 (dk_at dksJ12_checkIndex_0 16 rfl rfl)
theorem dJ12_checkIndex_17 : decode cJ12_checkIndex 17 = .ok (.ireturn, 1) := dk_172 (dk_at dksJ12_checkIndex_0 17 rfl rfl)
theorem q108 : (Jvm.Cond.initialized "jdk/internal/util/Preconditions") ∈ lw_all := lw_g (lw_at lw_m1 22 rfl) rfl
theorem q483 : (Jvm.Cond.static ({ cls := "jdk/internal/util/Preconditions", name := "checkIndex", desc := "(IILjava/util/function/BiFunction;)I" } : Jvm.MethodName)) ∈ lw_all := lw_g (lw_at lw_m2 157 rfl) rfl
theorem q484 : (Jvm.Cond.code ({ cls := "jdk/internal/util/Preconditions", name := "checkIndex", desc := "(IILjava/util/function/BiFunction;)I" } : Jvm.MethodName) prog_48_method_11_code (3 : Nat) (Option.some Jvm.ClassFile.FieldType.int)) ∈ lw_all := lw_g (lw_at lw_m2 158 rfl) rfl

/-! java/lang/NullPointerException -/
set_option maxRecDepth 100000
def RJ13 : String := "java/lang/NullPointerException"
def TJ13 : u_T := fun k => match k with
  | 0 => ("java/lang/Throwable", "backtrace", "Ljava/lang/Object;", false)
  | 1 => ("java/lang/Throwable", "detailMessage", "Ljava/lang/String;", false)
  | 2 => ("java/lang/Throwable", "cause", "Ljava/lang/Throwable;", false)
  | 3 => ("java/lang/Throwable", "stackTrace", "[Ljava/lang/StackTraceElement;", false)
  | 4 => ("java/lang/Throwable", "depth", "I", false)
  | 5 => ("java/lang/Throwable", "suppressedExceptions", "Ljava/util/List;", false)
  | 6 => ("java/lang/NullPointerException", "extendedMessageState", "I", false)
  | _ => ("java/lang/NullPointerException", "extendedMessage", "Ljava/lang/String;", false)
def tyJ13 : Nat → FieldType := fun k => match k with
  | 0 => .object "java/lang/Object"
  | 1 => .object "java/lang/String"
  | 2 => .object "java/lang/Throwable"
  | 3 => .array (.object "java/lang/StackTraceElement")
  | 4 => .int
  | 5 => .object "java/util/List"
  | 6 => .int
  | _ => .object "java/lang/String"
abbrev wsJ130 : List Cond := u_ws RJ13 TJ13 8
theorem nmJ13 : ∀ a, a < 8 → ∀ b, b < 8 → a ≠ b → (TJ13 a).2.1 ≠ (TJ13 b).2.1 := by decide +kernel
theorem tyJ13_ok : ∀ k, k < 8 → parseFieldDescriptor (TJ13 k).2.2.1 = some (tyJ13 k) := by decide +kernel
abbrev cJ13_init : ByteArray := prog_32_method_1_code
def yJ13_init : MethodName := ⟨RJ13, "<init>", "()V"⟩
theorem dJ13_init_0 : decode cJ13_init 0 = .ok (.aload_n 0, 1) := by decide +kernel
theorem dJ13_init_1 : decode cJ13_init 1 = .ok (.invokespecial 1, 3) := by decide +kernel
theorem dJ13_init_4 : decode cJ13_init 4 = .ok (.return_, 1) := by decide +kernel
theorem q109 : (Jvm.Cond.initialized "java/lang/NullPointerException") ∈ lw_all := lw_g (lw_at lw_m1 23 rfl) rfl
theorem q300 : (Jvm.Cond.selects "java/lang/NullPointerException" ({ cls := "java/lang/Throwable", name := "fillInStackTrace", desc := "()Ljava/lang/Throwable;" } : Jvm.MethodName) ({ cls := "java/lang/NullPointerException", name := "fillInStackTrace", desc := "()Ljava/lang/Throwable;" } : Jvm.MethodName)) ∈ lw_all := lw_g (lw_at lw_m1 214 rfl) rfl
theorem q301 : (Jvm.Cond.instanceMethod ({ cls := "java/lang/NullPointerException", name := "fillInStackTrace", desc := "()Ljava/lang/Throwable;" } : Jvm.MethodName)) ∈ lw_all := lw_g (lw_at lw_m1 215 rfl) rfl
theorem q302 : (Jvm.Cond.codeSync ({ cls := "java/lang/NullPointerException", name := "fillInStackTrace", desc := "()Ljava/lang/Throwable;" } : Jvm.MethodName) prog_32_method_3_code (1 : Nat) (Option.some (Jvm.ClassFile.FieldType.object "java/lang/Throwable"))) ∈ lw_all := lw_g (lw_at lw_m1 216 rfl) rfl
theorem q303 : (Jvm.Cond.methodLink "java/lang/NullPointerException" (16 : Nat) ({ cls := "java/lang/NullPointerException", name := "getExtendedNPEMessage", desc := "()Ljava/lang/String;" } : Jvm.MethodName)) ∈ lw_all := lw_g (lw_at lw_m1 217 rfl) rfl
theorem q304 : (Jvm.Cond.privateMethod ({ cls := "java/lang/NullPointerException", name := "getExtendedNPEMessage", desc := "()Ljava/lang/String;" } : Jvm.MethodName)) ∈ lw_tbl := lw_at lw_m1 218 rfl
theorem q305 : (Jvm.Cond.instanceMethod ({ cls := "java/lang/NullPointerException", name := "getExtendedNPEMessage", desc := "()Ljava/lang/String;" } : Jvm.MethodName)) ∈ lw_all := lw_g (lw_at lw_m1 219 rfl) rfl
theorem q306 : (Jvm.Cond.instantiable "java/lang/NullPointerException" (8 : Nat)) ∈ lw_all := lw_g (lw_at lw_m1 220 rfl) rfl
theorem q307 : (Jvm.Cond.native ({ cls := "java/lang/NullPointerException", name := "getExtendedNPEMessage", desc := "()Ljava/lang/String;" } : Jvm.MethodName)) ∈ lw_all := lw_g (lw_at lw_m1 221 rfl) rfl
theorem q308 : (Jvm.Cond.methodLink "java/lang/NullPointerException" (24 : Nat) ({ cls := "java/lang/RuntimeException", name := "fillInStackTrace", desc := "()Ljava/lang/Throwable;" } : Jvm.MethodName)) ∈ lw_all := lw_g (lw_at lw_m1 222 rfl) rfl
theorem q311 : (Jvm.Cond.superclass "java/lang/NullPointerException" "java/lang/RuntimeException") ∈ lw_all := lw_g (lw_at lw_m1 225 rfl) rfl
theorem q427 : (Jvm.Cond.selects "java/lang/NullPointerException" ({ cls := "java/lang/Object", name := "getClass", desc := "()Ljava/lang/Class;" } : Jvm.MethodName) ({ cls := "java/lang/Object", name := "getClass", desc := "()Ljava/lang/Class;" } : Jvm.MethodName)) ∈ lw_all := lw_g (lw_at lw_m2 101 rfl) rfl
theorem q510 : (Jvm.Cond.instanceMethod ({ cls := "java/lang/NullPointerException", name := "<init>", desc := "()V" } : Jvm.MethodName)) ∈ lw_all := lw_g (lw_at lw_m2 184 rfl) rfl
theorem q511 : (Jvm.Cond.code ({ cls := "java/lang/NullPointerException", name := "<init>", desc := "()V" } : Jvm.MethodName) prog_32_method_1_code (1 : Nat) (Option.none : Option Jvm.ClassFile.FieldType)) ∈ lw_all := lw_g (lw_at lw_m2 185 rfl) rfl
theorem q512 : (Jvm.Cond.methodLink "java/lang/NullPointerException" (1 : Nat) ({ cls := "java/lang/RuntimeException", name := "<init>", desc := "()V" } : Jvm.MethodName)) ∈ lw_all := lw_g (lw_at lw_m2 186 rfl) rfl
theorem q516 : (Jvm.Cond.fieldLink "java/lang/NullPointerException" (10 : Nat) "java/lang/NullPointerException" "extendedMessageState" "I") ∈ lw_all := lw_g (lw_at lw_m2 190 rfl) rfl
theorem q517 : (Jvm.Cond.fieldLink "java/lang/NullPointerException" (20 : Nat) "java/lang/NullPointerException" "extendedMessage" "Ljava/lang/String;") ∈ lw_all := lw_g (lw_at lw_m2 191 rfl) rfl
theorem q518 : (Jvm.Cond.lays "java/lang/NullPointerException" "java/lang/NullPointerException" "extendedMessageState" "I") ∈ lw_all := lw_g (lw_at lw_m2 192 rfl) rfl
theorem q519 : (Jvm.Cond.soleField "java/lang/NullPointerException" "extendedMessageState") ∈ lw_all := lw_g (lw_at lw_m2 193 rfl) rfl
theorem q520 : (Jvm.Cond.lays "java/lang/NullPointerException" "java/lang/NullPointerException" "extendedMessage" "Ljava/lang/String;") ∈ lw_all := lw_g (lw_at lw_m2 194 rfl) rfl
theorem q521 : (Jvm.Cond.soleField "java/lang/NullPointerException" "extendedMessage") ∈ lw_all := lw_g (lw_at lw_m2 195 rfl) rfl
theorem q522 : (Jvm.Cond.lays "java/lang/NullPointerException" "java/lang/Throwable" "backtrace" "Ljava/lang/Object;") ∈ lw_all := lw_g (lw_at lw_m2 196 rfl) rfl
theorem q523 : (Jvm.Cond.lays "java/lang/NullPointerException" "java/lang/Throwable" "detailMessage" "Ljava/lang/String;") ∈ lw_all := lw_g (lw_at lw_m2 197 rfl) rfl
theorem q524 : (Jvm.Cond.lays "java/lang/NullPointerException" "java/lang/Throwable" "cause" "Ljava/lang/Throwable;") ∈ lw_all := lw_g (lw_at lw_m2 198 rfl) rfl
theorem q525 : (Jvm.Cond.lays "java/lang/NullPointerException" "java/lang/Throwable" "stackTrace" "[Ljava/lang/StackTraceElement;") ∈ lw_all := lw_g (lw_at lw_m2 199 rfl) rfl
theorem q526 : (Jvm.Cond.lays "java/lang/NullPointerException" "java/lang/Throwable" "depth" "I") ∈ lw_all := lw_g (lw_at lw_m2 200 rfl) rfl
theorem q527 : (Jvm.Cond.lays "java/lang/NullPointerException" "java/lang/Throwable" "suppressedExceptions" "Ljava/util/List;") ∈ lw_all := lw_g (lw_at lw_m2 201 rfl) rfl
theorem q528 : (Jvm.Cond.castable "java/lang/NullPointerException" "java/lang/NullPointerException") ∈ lw_tbl := lw_at lw_m2 202 rfl
theorem q529 : (Jvm.Cond.selects "java/lang/NullPointerException" ({ cls := "java/lang/Throwable", name := "fillInStackTrace", desc := "(I)Ljava/lang/Throwable;" } : Jvm.MethodName) ({ cls := "java/lang/Throwable", name := "fillInStackTrace", desc := "(I)Ljava/lang/Throwable;" } : Jvm.MethodName)) ∈ lw_all := lw_g (lw_at lw_m2 203 rfl) rfl
theorem q1058 : (Jvm.Cond.selects "java/lang/NullPointerException" ({ cls := "java/lang/Object", name := "equals", desc := "(Ljava/lang/Object;)Z" } : Jvm.MethodName) ({ cls := "java/lang/Object", name := "equals", desc := "(Ljava/lang/Object;)Z" } : Jvm.MethodName)) ∈ lw_all := lw_g (lw_at lw_m5 12 rfl) rfl
theorem q2269 : (Jvm.Cond.castable "java/lang/NullPointerException" "java/lang/Object") ∈ lw_tbl := lw_at lw_m10 23 rfl
theorem in_J13 : ∀ w ∈ wsJ130, w ∈ lw_all := lw_in wsJ130 [522, 523, 524, 525, 526, 527, 518, 520] (by decide +kernel) (by decide +kernel)

/-! java/lang/IndexOutOfBoundsException -/
set_option maxRecDepth 100000
def RJ14 : String := "java/lang/IndexOutOfBoundsException"
abbrev cJ14_init : ByteArray := prog_28_method_2_code
def yJ14_init : MethodName := ⟨RJ14, "<init>", "(Ljava/lang/String;)V"⟩
def dkwJ14_init_0 : List UInt8 := [42, 43, 183, 0, 7, 177]
abbrev dktJ14_init_0 : List UInt8 := dkwJ14_init_0 ++ []
theorem dksJ14_init_0 : cJ14_init.data.toList.drop 0 = dktJ14_init_0 := by decide +kernel
theorem dJ14_init_0 : decode cJ14_init 0 = .ok (.aload_n 0, 1) := dk_42 (dk_at dksJ14_init_0 0 rfl rfl)
theorem dJ14_init_1 : decode cJ14_init 1 = .ok (.aload_n 1, 1) := dk_43 (dk_at dksJ14_init_0 1 rfl rfl)
theorem dJ14_init_2 : decode cJ14_init 2 = .ok (.invokespecial 7, 3) := dk_183 0 7 (dk_at dksJ14_init_0 2 rfl rfl)
theorem dJ14_init_5 : decode cJ14_init 5 = .ok (.return_, 1) := dk_177 (dk_at dksJ14_init_0 5 rfl rfl)
theorem q110 : (Jvm.Cond.initialized "java/lang/IndexOutOfBoundsException") ∈ lw_all := lw_g (lw_at lw_m1 24 rfl) rfl
theorem q545 : (Jvm.Cond.instanceMethod ({ cls := "java/lang/IndexOutOfBoundsException", name := "<init>", desc := "(Ljava/lang/String;)V" } : Jvm.MethodName)) ∈ lw_all := lw_g (lw_at lw_m2 219 rfl) rfl
theorem q546 : (Jvm.Cond.code ({ cls := "java/lang/IndexOutOfBoundsException", name := "<init>", desc := "(Ljava/lang/String;)V" } : Jvm.MethodName) prog_28_method_2_code (2 : Nat) (Option.none : Option Jvm.ClassFile.FieldType)) ∈ lw_all := lw_g (lw_at lw_m2 220 rfl) rfl
theorem q547 : (Jvm.Cond.methodLink "java/lang/IndexOutOfBoundsException" (7 : Nat) ({ cls := "java/lang/RuntimeException", name := "<init>", desc := "(Ljava/lang/String;)V" } : Jvm.MethodName)) ∈ lw_all := lw_g (lw_at lw_m2 221 rfl) rfl
theorem q556 : (Jvm.Cond.declares ({ cls := "java/lang/IndexOutOfBoundsException", name := "<init>", desc := "()V" } : Jvm.MethodName)) ∈ lw_tbl := lw_at lw_m2 230 rfl
theorem q557 : (Jvm.Cond.declares ({ cls := "java/lang/IndexOutOfBoundsException", name := "<init>", desc := "(Ljava/lang/String;)V" } : Jvm.MethodName)) ∈ lw_tbl := lw_at lw_m2 231 rfl

/-! java/lang/ArrayIndexOutOfBoundsException -/
set_option maxRecDepth 100000
def RJ15 : String := "java/lang/ArrayIndexOutOfBoundsException"
def TJ15 : u_T := fun k => match k with
  | 0 => ("java/lang/Throwable", "backtrace", "Ljava/lang/Object;", false)
  | 1 => ("java/lang/Throwable", "detailMessage", "Ljava/lang/String;", false)
  | 2 => ("java/lang/Throwable", "cause", "Ljava/lang/Throwable;", false)
  | 3 => ("java/lang/Throwable", "stackTrace", "[Ljava/lang/StackTraceElement;", false)
  | 4 => ("java/lang/Throwable", "depth", "I", false)
  | _ => ("java/lang/Throwable", "suppressedExceptions", "Ljava/util/List;", false)
def tyJ15 : Nat → FieldType := fun k => match k with
  | 0 => .object "java/lang/Object"
  | 1 => .object "java/lang/String"
  | 2 => .object "java/lang/Throwable"
  | 3 => .array (.object "java/lang/StackTraceElement")
  | 4 => .int
  | _ => .object "java/util/List"
abbrev wsJ150 : List Cond := u_ws RJ15 TJ15 6
theorem nmJ15 : ∀ a, a < 6 → ∀ b, b < 6 → a ≠ b → (TJ15 a).2.1 ≠ (TJ15 b).2.1 := by decide +kernel
theorem tyJ15_ok : ∀ k, k < 6 → parseFieldDescriptor (TJ15 k).2.2.1 = some (tyJ15 k) := by decide +kernel
abbrev cJ15_init : ByteArray := prog_23_method_2_code
def yJ15_init : MethodName := ⟨RJ15, "<init>", "(Ljava/lang/String;)V"⟩
def dkwJ15_init_0 : List UInt8 := [42, 43, 183, 0, 7, 177]
abbrev dktJ15_init_0 : List UInt8 := dkwJ15_init_0 ++ []
theorem dksJ15_init_0 : cJ15_init.data.toList.drop 0 = dktJ15_init_0 := by decide +kernel
theorem dJ15_init_0 : decode cJ15_init 0 = .ok (.aload_n 0, 1) := dk_42 (dk_at dksJ15_init_0 0 rfl rfl)
theorem dJ15_init_1 : decode cJ15_init 1 = .ok (.aload_n 1, 1) := dk_43 (dk_at dksJ15_init_0 1 rfl rfl)
theorem dJ15_init_2 : decode cJ15_init 2 = .ok (.invokespecial 7, 3) := dk_183 0 7 (dk_at dksJ15_init_0 2 rfl rfl)
theorem dJ15_init_5 : decode cJ15_init 5 = .ok (.return_, 1) := dk_177 (dk_at dksJ15_init_0 5 rfl rfl)
theorem q111 : (Jvm.Cond.initialized "java/lang/ArrayIndexOutOfBoundsException") ∈ lw_all := lw_g (lw_at lw_m1 25 rfl) rfl
theorem q296 : (Jvm.Cond.selects "java/lang/ArrayIndexOutOfBoundsException" ({ cls := "java/lang/Throwable", name := "fillInStackTrace", desc := "()Ljava/lang/Throwable;" } : Jvm.MethodName) ({ cls := "java/lang/Throwable", name := "fillInStackTrace", desc := "()Ljava/lang/Throwable;" } : Jvm.MethodName)) ∈ lw_all := lw_g (lw_at lw_m1 210 rfl) rfl
theorem q423 : (Jvm.Cond.selects "java/lang/ArrayIndexOutOfBoundsException" ({ cls := "java/lang/Object", name := "getClass", desc := "()Ljava/lang/Class;" } : Jvm.MethodName) ({ cls := "java/lang/Object", name := "getClass", desc := "()Ljava/lang/Class;" } : Jvm.MethodName)) ∈ lw_all := lw_g (lw_at lw_m2 97 rfl) rfl
theorem q541 : (Jvm.Cond.instantiable "java/lang/ArrayIndexOutOfBoundsException" (6 : Nat)) ∈ lw_all := lw_g (lw_at lw_m2 215 rfl) rfl
theorem q542 : (Jvm.Cond.instanceMethod ({ cls := "java/lang/ArrayIndexOutOfBoundsException", name := "<init>", desc := "(Ljava/lang/String;)V" } : Jvm.MethodName)) ∈ lw_all := lw_g (lw_at lw_m2 216 rfl) rfl
theorem q543 : (Jvm.Cond.code ({ cls := "java/lang/ArrayIndexOutOfBoundsException", name := "<init>", desc := "(Ljava/lang/String;)V" } : Jvm.MethodName) prog_23_method_2_code (2 : Nat) (Option.none : Option Jvm.ClassFile.FieldType)) ∈ lw_all := lw_g (lw_at lw_m2 217 rfl) rfl
theorem q544 : (Jvm.Cond.methodLink "java/lang/ArrayIndexOutOfBoundsException" (7 : Nat) ({ cls := "java/lang/IndexOutOfBoundsException", name := "<init>", desc := "(Ljava/lang/String;)V" } : Jvm.MethodName)) ∈ lw_all := lw_g (lw_at lw_m2 218 rfl) rfl
theorem q548 : (Jvm.Cond.lays "java/lang/ArrayIndexOutOfBoundsException" "java/lang/Throwable" "backtrace" "Ljava/lang/Object;") ∈ lw_all := lw_g (lw_at lw_m2 222 rfl) rfl
theorem q549 : (Jvm.Cond.lays "java/lang/ArrayIndexOutOfBoundsException" "java/lang/Throwable" "detailMessage" "Ljava/lang/String;") ∈ lw_all := lw_g (lw_at lw_m2 223 rfl) rfl
theorem q550 : (Jvm.Cond.lays "java/lang/ArrayIndexOutOfBoundsException" "java/lang/Throwable" "cause" "Ljava/lang/Throwable;") ∈ lw_all := lw_g (lw_at lw_m2 224 rfl) rfl
theorem q551 : (Jvm.Cond.lays "java/lang/ArrayIndexOutOfBoundsException" "java/lang/Throwable" "stackTrace" "[Ljava/lang/StackTraceElement;") ∈ lw_all := lw_g (lw_at lw_m2 225 rfl) rfl
theorem q552 : (Jvm.Cond.lays "java/lang/ArrayIndexOutOfBoundsException" "java/lang/Throwable" "depth" "I") ∈ lw_all := lw_g (lw_at lw_m2 226 rfl) rfl
theorem q553 : (Jvm.Cond.lays "java/lang/ArrayIndexOutOfBoundsException" "java/lang/Throwable" "suppressedExceptions" "Ljava/util/List;") ∈ lw_all := lw_g (lw_at lw_m2 227 rfl) rfl
theorem q554 : (Jvm.Cond.superclass "java/lang/ArrayIndexOutOfBoundsException" "java/lang/IndexOutOfBoundsException") ∈ lw_all := lw_g (lw_at lw_m2 228 rfl) rfl
theorem q555 : (Jvm.Cond.castable "java/lang/ArrayIndexOutOfBoundsException" "java/lang/ArrayIndexOutOfBoundsException") ∈ lw_tbl := lw_at lw_m2 229 rfl
theorem q558 : (Jvm.Cond.selects "java/lang/ArrayIndexOutOfBoundsException" ({ cls := "java/lang/Throwable", name := "fillInStackTrace", desc := "(I)Ljava/lang/Throwable;" } : Jvm.MethodName) ({ cls := "java/lang/Throwable", name := "fillInStackTrace", desc := "(I)Ljava/lang/Throwable;" } : Jvm.MethodName)) ∈ lw_all := lw_g (lw_at lw_m2 232 rfl) rfl
theorem q1054 : (Jvm.Cond.selects "java/lang/ArrayIndexOutOfBoundsException" ({ cls := "java/lang/Object", name := "equals", desc := "(Ljava/lang/Object;)Z" } : Jvm.MethodName) ({ cls := "java/lang/Object", name := "equals", desc := "(Ljava/lang/Object;)Z" } : Jvm.MethodName)) ∈ lw_all := lw_g (lw_at lw_m5 8 rfl) rfl
theorem q2270 : (Jvm.Cond.castable "java/lang/ArrayIndexOutOfBoundsException" "java/lang/Object") ∈ lw_tbl := lw_at lw_m10 24 rfl
theorem in_J15 : ∀ w ∈ wsJ150, w ∈ lw_all := lw_in wsJ150 [548, 549, 550, 551, 552, 553] (by decide +kernel) (by decide +kernel)

/-! java/lang/ClassCastException -/
set_option maxRecDepth 100000
def RJ16 : String := "java/lang/ClassCastException"
def TJ16 : u_T := fun k => match k with
  | 0 => ("java/lang/Throwable", "backtrace", "Ljava/lang/Object;", false)
  | 1 => ("java/lang/Throwable", "detailMessage", "Ljava/lang/String;", false)
  | 2 => ("java/lang/Throwable", "cause", "Ljava/lang/Throwable;", false)
  | 3 => ("java/lang/Throwable", "stackTrace", "[Ljava/lang/StackTraceElement;", false)
  | 4 => ("java/lang/Throwable", "depth", "I", false)
  | _ => ("java/lang/Throwable", "suppressedExceptions", "Ljava/util/List;", false)
def tyJ16 : Nat → FieldType := fun k => match k with
  | 0 => .object "java/lang/Object"
  | 1 => .object "java/lang/String"
  | 2 => .object "java/lang/Throwable"
  | 3 => .array (.object "java/lang/StackTraceElement")
  | 4 => .int
  | _ => .object "java/util/List"
abbrev wsJ160 : List Cond := u_ws RJ16 TJ16 6
theorem nmJ16 : ∀ a, a < 6 → ∀ b, b < 6 → a ≠ b → (TJ16 a).2.1 ≠ (TJ16 b).2.1 := by decide +kernel
theorem tyJ16_ok : ∀ k, k < 6 → parseFieldDescriptor (TJ16 k).2.2.1 = some (tyJ16 k) := by decide +kernel
abbrev cJ16_init : ByteArray := prog_25_method_2_code
def yJ16_init : MethodName := ⟨RJ16, "<init>", "(Ljava/lang/String;)V"⟩
def dkwJ16_init_0 : List UInt8 := [42, 43, 183, 0, 7, 177]
abbrev dktJ16_init_0 : List UInt8 := dkwJ16_init_0 ++ []
theorem dksJ16_init_0 : cJ16_init.data.toList.drop 0 = dktJ16_init_0 := by decide +kernel
theorem dJ16_init_0 : decode cJ16_init 0 = .ok (.aload_n 0, 1) := dk_42 (dk_at dksJ16_init_0 0 rfl rfl)
theorem dJ16_init_1 : decode cJ16_init 1 = .ok (.aload_n 1, 1) := dk_43 (dk_at dksJ16_init_0 1 rfl rfl)
theorem dJ16_init_2 : decode cJ16_init 2 = .ok (.invokespecial 7, 3) := dk_183 0 7 (dk_at dksJ16_init_0 2 rfl rfl)
theorem dJ16_init_5 : decode cJ16_init 5 = .ok (.return_, 1) := dk_177 (dk_at dksJ16_init_0 5 rfl rfl)
theorem q112 : (Jvm.Cond.initialized "java/lang/ClassCastException") ∈ lw_all := lw_g (lw_at lw_m1 26 rfl) rfl
theorem q298 : (Jvm.Cond.selects "java/lang/ClassCastException" ({ cls := "java/lang/Throwable", name := "fillInStackTrace", desc := "()Ljava/lang/Throwable;" } : Jvm.MethodName) ({ cls := "java/lang/Throwable", name := "fillInStackTrace", desc := "()Ljava/lang/Throwable;" } : Jvm.MethodName)) ∈ lw_all := lw_g (lw_at lw_m1 212 rfl) rfl
theorem q425 : (Jvm.Cond.selects "java/lang/ClassCastException" ({ cls := "java/lang/Object", name := "getClass", desc := "()Ljava/lang/Class;" } : Jvm.MethodName) ({ cls := "java/lang/Object", name := "getClass", desc := "()Ljava/lang/Class;" } : Jvm.MethodName)) ∈ lw_all := lw_g (lw_at lw_m2 99 rfl) rfl
theorem q564 : (Jvm.Cond.instantiable "java/lang/ClassCastException" (6 : Nat)) ∈ lw_all := lw_g (lw_at lw_m2 238 rfl) rfl
theorem q565 : (Jvm.Cond.instanceMethod ({ cls := "java/lang/ClassCastException", name := "<init>", desc := "(Ljava/lang/String;)V" } : Jvm.MethodName)) ∈ lw_all := lw_g (lw_at lw_m2 239 rfl) rfl
theorem q566 : (Jvm.Cond.code ({ cls := "java/lang/ClassCastException", name := "<init>", desc := "(Ljava/lang/String;)V" } : Jvm.MethodName) prog_25_method_2_code (2 : Nat) (Option.none : Option Jvm.ClassFile.FieldType)) ∈ lw_all := lw_g (lw_at lw_m3 0 rfl) rfl
theorem q567 : (Jvm.Cond.methodLink "java/lang/ClassCastException" (7 : Nat) ({ cls := "java/lang/RuntimeException", name := "<init>", desc := "(Ljava/lang/String;)V" } : Jvm.MethodName)) ∈ lw_all := lw_g (lw_at lw_m3 1 rfl) rfl
theorem q568 : (Jvm.Cond.lays "java/lang/ClassCastException" "java/lang/Throwable" "backtrace" "Ljava/lang/Object;") ∈ lw_all := lw_g (lw_at lw_m3 2 rfl) rfl
theorem q569 : (Jvm.Cond.lays "java/lang/ClassCastException" "java/lang/Throwable" "detailMessage" "Ljava/lang/String;") ∈ lw_all := lw_g (lw_at lw_m3 3 rfl) rfl
theorem q570 : (Jvm.Cond.lays "java/lang/ClassCastException" "java/lang/Throwable" "cause" "Ljava/lang/Throwable;") ∈ lw_all := lw_g (lw_at lw_m3 4 rfl) rfl
theorem q571 : (Jvm.Cond.lays "java/lang/ClassCastException" "java/lang/Throwable" "stackTrace" "[Ljava/lang/StackTraceElement;") ∈ lw_all := lw_g (lw_at lw_m3 5 rfl) rfl
theorem q572 : (Jvm.Cond.lays "java/lang/ClassCastException" "java/lang/Throwable" "depth" "I") ∈ lw_all := lw_g (lw_at lw_m3 6 rfl) rfl
theorem q573 : (Jvm.Cond.lays "java/lang/ClassCastException" "java/lang/Throwable" "suppressedExceptions" "Ljava/util/List;") ∈ lw_all := lw_g (lw_at lw_m3 7 rfl) rfl
theorem q574 : (Jvm.Cond.superclass "java/lang/ClassCastException" "java/lang/RuntimeException") ∈ lw_all := lw_g (lw_at lw_m3 8 rfl) rfl
theorem q575 : (Jvm.Cond.castable "java/lang/ClassCastException" "java/lang/ClassCastException") ∈ lw_tbl := lw_at lw_m3 9 rfl
theorem q576 : (Jvm.Cond.selects "java/lang/ClassCastException" ({ cls := "java/lang/Throwable", name := "fillInStackTrace", desc := "(I)Ljava/lang/Throwable;" } : Jvm.MethodName) ({ cls := "java/lang/Throwable", name := "fillInStackTrace", desc := "(I)Ljava/lang/Throwable;" } : Jvm.MethodName)) ∈ lw_all := lw_g (lw_at lw_m3 10 rfl) rfl
theorem q1056 : (Jvm.Cond.selects "java/lang/ClassCastException" ({ cls := "java/lang/Object", name := "equals", desc := "(Ljava/lang/Object;)Z" } : Jvm.MethodName) ({ cls := "java/lang/Object", name := "equals", desc := "(Ljava/lang/Object;)Z" } : Jvm.MethodName)) ∈ lw_all := lw_g (lw_at lw_m5 10 rfl) rfl
theorem q2271 : (Jvm.Cond.castable "java/lang/ClassCastException" "java/lang/Object") ∈ lw_tbl := lw_at lw_m10 25 rfl
theorem in_J16 : ∀ w ∈ wsJ160, w ∈ lw_all := lw_in wsJ160 [568, 569, 570, 571, 572, 573] (by decide +kernel) (by decide +kernel)

/-! java/lang/ArrayStoreException -/
set_option maxRecDepth 100000
def RJ17 : String := "java/lang/ArrayStoreException"
def TJ17 : u_T := fun k => match k with
  | 0 => ("java/lang/Throwable", "backtrace", "Ljava/lang/Object;", false)
  | 1 => ("java/lang/Throwable", "detailMessage", "Ljava/lang/String;", false)
  | 2 => ("java/lang/Throwable", "cause", "Ljava/lang/Throwable;", false)
  | 3 => ("java/lang/Throwable", "stackTrace", "[Ljava/lang/StackTraceElement;", false)
  | 4 => ("java/lang/Throwable", "depth", "I", false)
  | _ => ("java/lang/Throwable", "suppressedExceptions", "Ljava/util/List;", false)
def tyJ17 : Nat → FieldType := fun k => match k with
  | 0 => .object "java/lang/Object"
  | 1 => .object "java/lang/String"
  | 2 => .object "java/lang/Throwable"
  | 3 => .array (.object "java/lang/StackTraceElement")
  | 4 => .int
  | _ => .object "java/util/List"
abbrev wsJ170 : List Cond := u_ws RJ17 TJ17 6
theorem nmJ17 : ∀ a, a < 6 → ∀ b, b < 6 → a ≠ b → (TJ17 a).2.1 ≠ (TJ17 b).2.1 := by decide +kernel
theorem tyJ17_ok : ∀ k, k < 6 → parseFieldDescriptor (TJ17 k).2.2.1 = some (tyJ17 k) := by decide +kernel
abbrev cJ17_init : ByteArray := prog_24_method_2_code
def yJ17_init : MethodName := ⟨RJ17, "<init>", "(Ljava/lang/String;)V"⟩
def dkwJ17_init_0 : List UInt8 := [42, 43, 183, 0, 7, 177]
abbrev dktJ17_init_0 : List UInt8 := dkwJ17_init_0 ++ []
theorem dksJ17_init_0 : cJ17_init.data.toList.drop 0 = dktJ17_init_0 := by decide +kernel
theorem dJ17_init_0 : decode cJ17_init 0 = .ok (.aload_n 0, 1) := dk_42 (dk_at dksJ17_init_0 0 rfl rfl)
theorem dJ17_init_1 : decode cJ17_init 1 = .ok (.aload_n 1, 1) := dk_43 (dk_at dksJ17_init_0 1 rfl rfl)
theorem dJ17_init_2 : decode cJ17_init 2 = .ok (.invokespecial 7, 3) := dk_183 0 7 (dk_at dksJ17_init_0 2 rfl rfl)
theorem dJ17_init_5 : decode cJ17_init 5 = .ok (.return_, 1) := dk_177 (dk_at dksJ17_init_0 5 rfl rfl)
theorem q113 : (Jvm.Cond.initialized "java/lang/ArrayStoreException") ∈ lw_all := lw_g (lw_at lw_m1 27 rfl) rfl
theorem q297 : (Jvm.Cond.selects "java/lang/ArrayStoreException" ({ cls := "java/lang/Throwable", name := "fillInStackTrace", desc := "()Ljava/lang/Throwable;" } : Jvm.MethodName) ({ cls := "java/lang/Throwable", name := "fillInStackTrace", desc := "()Ljava/lang/Throwable;" } : Jvm.MethodName)) ∈ lw_all := lw_g (lw_at lw_m1 211 rfl) rfl
theorem q424 : (Jvm.Cond.selects "java/lang/ArrayStoreException" ({ cls := "java/lang/Object", name := "getClass", desc := "()Ljava/lang/Class;" } : Jvm.MethodName) ({ cls := "java/lang/Object", name := "getClass", desc := "()Ljava/lang/Class;" } : Jvm.MethodName)) ∈ lw_all := lw_g (lw_at lw_m2 98 rfl) rfl
theorem q611 : (Jvm.Cond.instantiable "java/lang/ArrayStoreException" (6 : Nat)) ∈ lw_all := lw_g (lw_at lw_m3 45 rfl) rfl
theorem q612 : (Jvm.Cond.instanceMethod ({ cls := "java/lang/ArrayStoreException", name := "<init>", desc := "(Ljava/lang/String;)V" } : Jvm.MethodName)) ∈ lw_all := lw_g (lw_at lw_m3 46 rfl) rfl
theorem q613 : (Jvm.Cond.code ({ cls := "java/lang/ArrayStoreException", name := "<init>", desc := "(Ljava/lang/String;)V" } : Jvm.MethodName) prog_24_method_2_code (2 : Nat) (Option.none : Option Jvm.ClassFile.FieldType)) ∈ lw_all := lw_g (lw_at lw_m3 47 rfl) rfl
theorem q614 : (Jvm.Cond.methodLink "java/lang/ArrayStoreException" (7 : Nat) ({ cls := "java/lang/RuntimeException", name := "<init>", desc := "(Ljava/lang/String;)V" } : Jvm.MethodName)) ∈ lw_all := lw_g (lw_at lw_m3 48 rfl) rfl
theorem q615 : (Jvm.Cond.lays "java/lang/ArrayStoreException" "java/lang/Throwable" "backtrace" "Ljava/lang/Object;") ∈ lw_all := lw_g (lw_at lw_m3 49 rfl) rfl
theorem q616 : (Jvm.Cond.lays "java/lang/ArrayStoreException" "java/lang/Throwable" "detailMessage" "Ljava/lang/String;") ∈ lw_all := lw_g (lw_at lw_m3 50 rfl) rfl
theorem q617 : (Jvm.Cond.lays "java/lang/ArrayStoreException" "java/lang/Throwable" "cause" "Ljava/lang/Throwable;") ∈ lw_all := lw_g (lw_at lw_m3 51 rfl) rfl
theorem q618 : (Jvm.Cond.lays "java/lang/ArrayStoreException" "java/lang/Throwable" "stackTrace" "[Ljava/lang/StackTraceElement;") ∈ lw_all := lw_g (lw_at lw_m3 52 rfl) rfl
theorem q619 : (Jvm.Cond.lays "java/lang/ArrayStoreException" "java/lang/Throwable" "depth" "I") ∈ lw_all := lw_g (lw_at lw_m3 53 rfl) rfl
theorem q620 : (Jvm.Cond.lays "java/lang/ArrayStoreException" "java/lang/Throwable" "suppressedExceptions" "Ljava/util/List;") ∈ lw_all := lw_g (lw_at lw_m3 54 rfl) rfl
theorem q621 : (Jvm.Cond.superclass "java/lang/ArrayStoreException" "java/lang/RuntimeException") ∈ lw_all := lw_g (lw_at lw_m3 55 rfl) rfl
theorem q622 : (Jvm.Cond.castable "java/lang/ArrayStoreException" "java/lang/ArrayStoreException") ∈ lw_tbl := lw_at lw_m3 56 rfl
theorem q623 : (Jvm.Cond.selects "java/lang/ArrayStoreException" ({ cls := "java/lang/Throwable", name := "fillInStackTrace", desc := "(I)Ljava/lang/Throwable;" } : Jvm.MethodName) ({ cls := "java/lang/Throwable", name := "fillInStackTrace", desc := "(I)Ljava/lang/Throwable;" } : Jvm.MethodName)) ∈ lw_all := lw_g (lw_at lw_m3 57 rfl) rfl
theorem q1055 : (Jvm.Cond.selects "java/lang/ArrayStoreException" ({ cls := "java/lang/Object", name := "equals", desc := "(Ljava/lang/Object;)Z" } : Jvm.MethodName) ({ cls := "java/lang/Object", name := "equals", desc := "(Ljava/lang/Object;)Z" } : Jvm.MethodName)) ∈ lw_all := lw_g (lw_at lw_m5 9 rfl) rfl
theorem q2272 : (Jvm.Cond.castable "java/lang/ArrayStoreException" "java/lang/Object") ∈ lw_tbl := lw_at lw_m10 26 rfl
theorem in_J17 : ∀ w ∈ wsJ170, w ∈ lw_all := lw_in wsJ170 [615, 616, 617, 618, 619, 620] (by decide +kernel) (by decide +kernel)

/-! java/util/NoSuchElementException -/
set_option maxRecDepth 100000
def RJ18 : String := "java/util/NoSuchElementException"
def TJ18 : u_T := fun k => match k with
  | 0 => ("java/lang/Throwable", "cause", "Ljava/lang/Throwable;", false)
  | 1 => ("java/lang/Throwable", "stackTrace", "[Ljava/lang/StackTraceElement;", false)
  | 2 => ("java/lang/Throwable", "suppressedExceptions", "Ljava/util/List;", false)
  | 3 => ("java/lang/Throwable", "detailMessage", "Ljava/lang/String;", false)
  | 4 => ("java/lang/Throwable", "backtrace", "Ljava/lang/Object;", false)
  | _ => ("java/lang/Throwable", "depth", "I", false)
def tyJ18 : Nat → FieldType := fun k => match k with
  | 0 => .object "java/lang/Throwable"
  | 1 => .array (.object "java/lang/StackTraceElement")
  | 2 => .object "java/util/List"
  | 3 => .object "java/lang/String"
  | 4 => .object "java/lang/Object"
  | _ => .int
abbrev wsJ180 : List Cond := u_ws RJ18 TJ18 6
theorem nmJ18 : ∀ a, a < 6 → ∀ b, b < 6 → a ≠ b → (TJ18 a).2.1 ≠ (TJ18 b).2.1 := by decide +kernel
theorem tyJ18_ok : ∀ k, k < 6 → parseFieldDescriptor (TJ18 k).2.2.1 = some (tyJ18 k) := by decide +kernel
abbrev cJ18_init : ByteArray := prog_43_method_1_code
def yJ18_init : MethodName := ⟨RJ18, "<init>", "()V"⟩
theorem dJ18_init_0 : decode cJ18_init 0 = .ok (.aload_n 0, 1) := by decide +kernel
theorem dJ18_init_1 : decode cJ18_init 1 = .ok (.invokespecial 1, 3) := by decide +kernel
theorem dJ18_init_4 : decode cJ18_init 4 = .ok (.return_, 1) := by decide +kernel
theorem q123 : (Jvm.Cond.initialized "java/util/NoSuchElementException") ∈ lw_all := lw_g (lw_at lw_m1 37 rfl) rfl
theorem q320 : (Jvm.Cond.selects "java/util/NoSuchElementException" ({ cls := "java/lang/Throwable", name := "fillInStackTrace", desc := "()Ljava/lang/Throwable;" } : Jvm.MethodName) ({ cls := "java/lang/Throwable", name := "fillInStackTrace", desc := "()Ljava/lang/Throwable;" } : Jvm.MethodName)) ∈ lw_all := lw_g (lw_at lw_m1 234 rfl) rfl
theorem q429 : (Jvm.Cond.selects "java/util/NoSuchElementException" ({ cls := "java/lang/Object", name := "getClass", desc := "()Ljava/lang/Class;" } : Jvm.MethodName) ({ cls := "java/lang/Object", name := "getClass", desc := "()Ljava/lang/Class;" } : Jvm.MethodName)) ∈ lw_all := lw_g (lw_at lw_m2 103 rfl) rfl
theorem q1674 : (Jvm.Cond.instantiable "java/util/NoSuchElementException" (6 : Nat)) ∈ lw_all := lw_g (lw_at lw_m7 148 rfl) rfl
theorem q1675 : (Jvm.Cond.castable "java/util/NoSuchElementException" "java/util/NoSuchElementException") ∈ lw_tbl := lw_at lw_m7 149 rfl
theorem q1676 : (Jvm.Cond.selects "java/util/NoSuchElementException" ({ cls := "java/lang/Throwable", name := "fillInStackTrace", desc := "(I)Ljava/lang/Throwable;" } : Jvm.MethodName) ({ cls := "java/lang/Throwable", name := "fillInStackTrace", desc := "(I)Ljava/lang/Throwable;" } : Jvm.MethodName)) ∈ lw_all := lw_g (lw_at lw_m7 150 rfl) rfl
theorem q1677 : (Jvm.Cond.lays "java/util/NoSuchElementException" "java/lang/Throwable" "cause" "Ljava/lang/Throwable;") ∈ lw_all := lw_g (lw_at lw_m7 151 rfl) rfl
theorem q1678 : (Jvm.Cond.lays "java/util/NoSuchElementException" "java/lang/Throwable" "stackTrace" "[Ljava/lang/StackTraceElement;") ∈ lw_all := lw_g (lw_at lw_m7 152 rfl) rfl
theorem q1679 : (Jvm.Cond.lays "java/util/NoSuchElementException" "java/lang/Throwable" "suppressedExceptions" "Ljava/util/List;") ∈ lw_all := lw_g (lw_at lw_m7 153 rfl) rfl
theorem q1680 : (Jvm.Cond.lays "java/util/NoSuchElementException" "java/lang/Throwable" "detailMessage" "Ljava/lang/String;") ∈ lw_all := lw_g (lw_at lw_m7 154 rfl) rfl
theorem q1681 : (Jvm.Cond.lays "java/util/NoSuchElementException" "java/lang/Throwable" "backtrace" "Ljava/lang/Object;") ∈ lw_all := lw_g (lw_at lw_m7 155 rfl) rfl
theorem q1683 : (Jvm.Cond.instanceMethod ({ cls := "java/util/NoSuchElementException", name := "<init>", desc := "()V" } : Jvm.MethodName)) ∈ lw_all := lw_g (lw_at lw_m7 157 rfl) rfl
theorem q1684 : (Jvm.Cond.code ({ cls := "java/util/NoSuchElementException", name := "<init>", desc := "()V" } : Jvm.MethodName) prog_43_method_1_code (1 : Nat) (Option.none : Option Jvm.ClassFile.FieldType)) ∈ lw_all := lw_g (lw_at lw_m7 158 rfl) rfl
theorem q1685 : (Jvm.Cond.methodLink "java/util/NoSuchElementException" (1 : Nat) ({ cls := "java/lang/RuntimeException", name := "<init>", desc := "()V" } : Jvm.MethodName)) ∈ lw_all := lw_g (lw_at lw_m7 159 rfl) rfl
theorem q1686 : (Jvm.Cond.lays "java/util/NoSuchElementException" "java/lang/Throwable" "depth" "I") ∈ lw_all := lw_g (lw_at lw_m7 160 rfl) rfl
theorem q1687 : (Jvm.Cond.superclass "java/util/NoSuchElementException" "java/lang/RuntimeException") ∈ lw_all := lw_g (lw_at lw_m7 161 rfl) rfl
theorem q2279 : (Jvm.Cond.castable "java/util/NoSuchElementException" "java/lang/Object") ∈ lw_tbl := lw_at lw_m10 33 rfl
theorem in_J18 : ∀ w ∈ wsJ180, w ∈ lw_all := lw_in wsJ180 [1677, 1678, 1679, 1680, 1681, 1686] (by decide +kernel) (by decide +kernel)

/-! java/lang/Object -/
set_option maxRecDepth 100000
def RJ19 : String := "java/lang/Object"
abbrev cJ19_init : ByteArray := object_method_1_code
def yJ19_init : MethodName := ⟨RJ19, "<init>", "()V"⟩
theorem dJ19_init_0 : decode cJ19_init 0 = .ok (.return_, 1) := by decide +kernel
abbrev cJ19_equals : ByteArray := object_method_4_code
def yJ19_equals : MethodName := ⟨RJ19, "equals", "(Ljava/lang/Object;)Z"⟩
def dkwJ19_equals_0 : List UInt8 := [42, 43, 166, 0, 7, 4, 167, 0, 4, 3, 172]
abbrev dktJ19_equals_0 : List UInt8 := dkwJ19_equals_0 ++ []
theorem dksJ19_equals_0 : cJ19_equals.data.toList.drop 0 = dktJ19_equals_0 := by decide +kernel
theorem dJ19_equals_0 : decode cJ19_equals 0 = .ok (.aload_n 0, 1) := dk_42 (dk_at dksJ19_equals_0 0 rfl rfl)
theorem dJ19_equals_1 : decode cJ19_equals 1 = .ok (.aload_n 1, 1) := dk_43 (dk_at dksJ19_equals_0 1 rfl rfl)
theorem dJ19_equals_2 : decode cJ19_equals 2 = .ok (.if_acmp .ne 7, 3) := dk_166 0 7 (dk_at dksJ19_equals_0 2 rfl rfl)
theorem dJ19_equals_5 : decode cJ19_equals 5 = .ok (.iconst 1, 1) := dk_4 (dk_at dksJ19_equals_0 5 rfl rfl)
theorem dJ19_equals_6 : decode cJ19_equals 6 = .ok (.goto 4, 3) := dk_167 0 4 (dk_at dksJ19_equals_0 6 rfl rfl)
theorem dJ19_equals_9 : decode cJ19_equals 9 = .ok (.iconst 0, 1) := dk_3 (dk_at dksJ19_equals_0 9 rfl rfl)
theorem dJ19_equals_10 : decode cJ19_equals 10 = .ok (.ireturn, 1) := dk_172 (dk_at dksJ19_equals_0 10 rfl rfl)
theorem q130 : (Jvm.Cond.instanceMethod ({ cls := "java/lang/Object", name := "<init>", desc := "()V" } : Jvm.MethodName)) ∈ lw_all := lw_g (lw_at lw_m1 44 rfl) rfl
theorem q131 : (Jvm.Cond.code ({ cls := "java/lang/Object", name := "<init>", desc := "()V" } : Jvm.MethodName) object_method_1_code (1 : Nat) (Option.none : Option Jvm.ClassFile.FieldType)) ∈ lw_all := lw_g (lw_at lw_m1 45 rfl) rfl
theorem q406 : (Jvm.Cond.instanceMethod ({ cls := "java/lang/Object", name := "getClass", desc := "()Ljava/lang/Class;" } : Jvm.MethodName)) ∈ lw_all := lw_g (lw_at lw_m2 80 rfl) rfl
theorem q407 : (Jvm.Cond.sameMethod "java/lang/Object" "java/lang/Object" "getClass" "()Ljava/lang/Class;") ∈ lw_all := lw_g (lw_at lw_m2 81 rfl) rfl
theorem q430 : (Jvm.Cond.native ({ cls := "java/lang/Object", name := "getClass", desc := "()Ljava/lang/Class;" } : Jvm.MethodName)) ∈ lw_all := lw_g (lw_at lw_m2 104 rfl) rfl
theorem q1035 : (Jvm.Cond.declares ({ cls := "java/lang/Object", name := "equals", desc := "(Ljava/lang/Object;)Z" } : Jvm.MethodName)) ∈ lw_tbl := lw_at lw_m4 229 rfl
theorem q1037 : (Jvm.Cond.instanceMethod ({ cls := "java/lang/Object", name := "equals", desc := "(Ljava/lang/Object;)Z" } : Jvm.MethodName)) ∈ lw_all := lw_g (lw_at lw_m4 231 rfl) rfl
theorem q1038 : (Jvm.Cond.sameMethod "java/lang/Object" "java/lang/Object" "equals" "(Ljava/lang/Object;)Z") ∈ lw_all := lw_g (lw_at lw_m4 232 rfl) rfl
theorem q1059 : (Jvm.Cond.code ({ cls := "java/lang/Object", name := "equals", desc := "(Ljava/lang/Object;)Z" } : Jvm.MethodName) object_method_4_code (2 : Nat) (Option.some Jvm.ClassFile.FieldType.boolean)) ∈ lw_all := lw_g (lw_at lw_m5 13 rfl) rfl
theorem q2244 : (Jvm.Cond.initialized "java/lang/Object") ∈ lw_all := lw_g (lw_at lw_m9 238 rfl) rfl
theorem q2293 : (Jvm.Cond.declares ({ cls := "java/lang/Object", name := "getClass", desc := "()Ljava/lang/Class;" } : Jvm.MethodName)) ∈ lw_tbl := lw_at lw_m10 47 rfl

theorem q2298 : (Jvm.Cond.castable "[B" "java/lang/Object") ∈ lw_tbl := lw_at lw_m10 52 rfl
set_option maxRecDepth 100000

theorem q2295 : (Jvm.Cond.castable "[I" "java/lang/Object") ∈ lw_tbl := lw_at lw_m10 49 rfl
set_option maxRecDepth 100000

theorem q2303 : (Jvm.Cond.castable "[J" "java/lang/Object") ∈ lw_tbl := lw_at lw_m10 57 rfl
set_option maxRecDepth 100000

theorem q2301 : (Jvm.Cond.castable "[LChurchyardBook$Deep;" "java/lang/Object") ∈ lw_tbl := lw_at lw_m10 55 rfl
set_option maxRecDepth 100000

theorem q2299 : (Jvm.Cond.castable "[LChurchyardBook$Grave;" "java/lang/Object") ∈ lw_tbl := lw_at lw_m10 53 rfl
set_option maxRecDepth 100000

theorem q2297 : (Jvm.Cond.castable "[LChurchyardBook$Place;" "java/lang/Object") ∈ lw_tbl := lw_at lw_m10 51 rfl
set_option maxRecDepth 100000

theorem q2300 : (Jvm.Cond.castable "[LChurchyardBook$Wall;" "java/lang/Object") ∈ lw_tbl := lw_at lw_m10 54 rfl
set_option maxRecDepth 100000

theorem q2291 : (Jvm.Cond.sameMethod "[Ljava/lang/Object;" "java/lang/Object" "getClass" "()Ljava/lang/Class;") ∈ lw_all := lw_g (lw_at lw_m10 45 rfl) rfl
set_option maxRecDepth 100000
theorem q2292 : (Jvm.Cond.selects "[Ljava/lang/Object;" ({ cls := "java/lang/Object", name := "getClass", desc := "()Ljava/lang/Class;" } : Jvm.MethodName) ({ cls := "java/lang/Object", name := "getClass", desc := "()Ljava/lang/Class;" } : Jvm.MethodName)) ∈ lw_all := lw_g (lw_at lw_m10 46 rfl) rfl
theorem q2294 : (Jvm.Cond.castable "[Ljava/lang/Object;" "java/lang/Object") ∈ lw_tbl := lw_at lw_m10 48 rfl

theorem q2302 : (Jvm.Cond.castable "[Z" "java/lang/Object") ∈ lw_tbl := lw_at lw_m10 56 rfl
set_option maxRecDepth 100000

theorem q2296 : (Jvm.Cond.castable "[[LChurchyardBook$Place;" "java/lang/Object") ∈ lw_tbl := lw_at lw_m10 50 rfl
set_option maxRecDepth 100000

theorem q103 : (Jvm.Cond.initialized "java/lang/System") ∈ lw_all := lw_g (lw_at lw_m1 17 rfl) rfl
set_option maxRecDepth 100000
theorem q248 : (Jvm.Cond.static ({ cls := "java/lang/System", name := "arraycopy", desc := "(Ljava/lang/Object;ILjava/lang/Object;II)V" } : Jvm.MethodName)) ∈ lw_all := lw_g (lw_at lw_m1 162 rfl) rfl
theorem q249 : (Jvm.Cond.native ({ cls := "java/lang/System", name := "arraycopy", desc := "(Ljava/lang/Object;ILjava/lang/Object;II)V" } : Jvm.MethodName)) ∈ lw_all := lw_g (lw_at lw_m1 163 rfl) rfl

theorem q168 : (Jvm.Cond.arrayOver (Jvm.ClassFile.FieldType.object "java/lang/Object")) ∈ lw_tbl := lw_at lw_m1 82 rfl
set_option maxRecDepth 100000
theorem q239 : (Jvm.Cond.arrayClass Jvm.ClassFile.FieldType.int) ∈ lw_all := lw_g (lw_at lw_m1 153 rfl) rfl
theorem q360 : (Jvm.Cond.arrayOver (Jvm.ClassFile.FieldType.array (Jvm.ClassFile.FieldType.object "ChurchyardBook$Place"))) ∈ lw_tbl := lw_at lw_m2 34 rfl
theorem q361 : (Jvm.Cond.arrayOver (Jvm.ClassFile.FieldType.object "ChurchyardBook$Place")) ∈ lw_tbl := lw_at lw_m2 35 rfl
theorem q470 : (Jvm.Cond.arrayClass Jvm.ClassFile.FieldType.byte) ∈ lw_all := lw_g (lw_at lw_m2 144 rfl) rfl
theorem q494 : (Jvm.Cond.arrayOver (Jvm.ClassFile.FieldType.object "ChurchyardBook$Grave")) ∈ lw_tbl := lw_at lw_m2 168 rfl
theorem q496 : (Jvm.Cond.arrayOver (Jvm.ClassFile.FieldType.object "ChurchyardBook$Wall")) ∈ lw_tbl := lw_at lw_m2 170 rfl
theorem q498 : (Jvm.Cond.arrayOver (Jvm.ClassFile.FieldType.object "ChurchyardBook$Deep")) ∈ lw_tbl := lw_at lw_m2 172 rfl
theorem q1326 : (Jvm.Cond.arrayClass Jvm.ClassFile.FieldType.boolean) ∈ lw_all := lw_g (lw_at lw_m6 40 rfl) rfl
theorem q2237 : (Jvm.Cond.arrayClass Jvm.ClassFile.FieldType.long) ∈ lw_all := lw_g (lw_at lw_m9 231 rfl) rfl
