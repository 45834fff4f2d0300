/-! ChurchyardBook$Grave -/
set_option maxRecDepth 100000
def RX9 : String := "ChurchyardBook$Grave"
abbrev cX9_init : ByteArray := prog_8_method_1_code
def yX9_init : MethodName := ⟨RX9, "<init>", "(IIIIII)V"⟩
def dkwX9_init_2 : List UInt8 := [181, 0, 33, 42, 21, 4, 181, 0, 36, 42, 21, 5, 181, 0, 39, 42, 21, 6, 181, 0, 42, 177]
abbrev dktX9_init_2 : List UInt8 := dkwX9_init_2 ++ []
def dkwX9_init_1 : List UInt8 := [187, 0, 15, 89, 4, 183, 0, 17, 181, 0, 24, 42, 27, 181, 0, 27, 42, 28, 181, 0, 30, 42, 29]
abbrev dktX9_init_1 : List UInt8 := dkwX9_init_1 ++ dktX9_init_2
def dkwX9_init_0 : List UInt8 := [42, 183, 0, 3, 42, 3, 181, 0, 9, 42, 187, 0, 15, 89, 3, 183, 0, 17, 181, 0, 20, 42]
abbrev dktX9_init_0 : List UInt8 := dkwX9_init_0 ++ dktX9_init_1
theorem dksX9_init_0 : cX9_init.data.toList.drop 0 = dktX9_init_0 := by decide +kernel
theorem dksX9_init_1 : cX9_init.data.toList.drop 22 = dktX9_init_1 := dk_seg dksX9_init_0 22 rfl rfl
theorem dksX9_init_2 : cX9_init.data.toList.drop 45 = dktX9_init_2 := dk_seg dksX9_init_1 23 rfl rfl
theorem dX9_init_0 : decode cX9_init 0 = .ok (.aload_n 0, 1) := dk_42 (dk_at dksX9_init_0 0 rfl rfl)
theorem dX9_init_1 : decode cX9_init 1 = .ok (.invokespecial 3, 3) := dk_183 0 3 (dk_at dksX9_init_0 1 rfl rfl)
theorem dX9_init_4 : decode cX9_init 4 = .ok (.aload_n 0, 1) := dk_42 (dk_at dksX9_init_0 4 rfl rfl)
theorem dX9_init_5 : decode cX9_init 5 = .ok (.iconst 0, 1) := dk_3 (dk_at dksX9_init_0 5 rfl rfl)
theorem dX9_init_6 : decode cX9_init 6 = .ok (.putfield 9, 3) := dk_181 0 9 (dk_at dksX9_init_0 6 rfl rfl)
theorem dX9_init_9 : decode cX9_init 9 = .ok (.aload_n 0, 1) := dk_42 (dk_at dksX9_init_0 9 rfl rfl)
theorem dX9_init_10 : decode cX9_init 10 = .ok (.new 15, 3) := dk_187 0 15 (dk_at dksX9_init_0 10 rfl rfl)
theorem dX9_init_13 : decode cX9_init 13 = .ok (.dup, 1) := dk_89 (dk_at dksX9_init_0 13 rfl rfl)
theorem dX9_init_14 : decode cX9_init 14 = .ok (.iconst 0, 1) := dk_3 (dk_at dksX9_init_0 14 rfl rfl)
theorem dX9_init_15 : decode cX9_init 15 = .ok (.invokespecial 17, 3) := dk_183 0 17 (dk_at dksX9_init_0 15 rfl rfl)
theorem dX9_init_18 : decode cX9_init 18 = .ok (.putfield 20, 3) := dk_181 0 20 (dk_at dksX9_init_0 18 rfl rfl)
theorem dX9_init_21 : decode cX9_init 21 = .ok (.aload_n 0, 1) := dk_42 (dk_at dksX9_init_0 21 rfl rfl)
theorem dX9_init_22 : decode cX9_init 22 = .ok (.new 15, 3) := dk_187 0 15 (dk_at dksX9_init_1 0 rfl rfl)
theorem dX9_init_25 : decode cX9_init 25 = .ok (.dup, 1) := dk_89 (dk_at dksX9_init_1 3 rfl rfl)
theorem dX9_init_26 : decode cX9_init 26 = .ok (.iconst 1, 1) := dk_4 (dk_at dksX9_init_1 4 rfl rfl)
theorem dX9_init_27 : decode cX9_init 27 = .ok (.invokespecial 17, 3) := dk_183 0 17 (dk_at dksX9_init_1 5 rfl rfl)
theorem dX9_init_30 : decode cX9_init 30 = .ok (.putfield 24, 3) := dk_181 0 24 (dk_at dksX9_init_1 8 rfl rfl)
theorem dX9_init_33 : decode cX9_init 33 = .ok (.aload_n 0, 1) := dk_42 (dk_at dksX9_init_1 11 rfl rfl)
theorem dX9_init_34 : decode cX9_init 34 = .ok (.iload_n 1, 1) := dk_27 (dk_at dksX9_init_1 12 rfl rfl)
theorem dX9_init_35 : decode cX9_init 35 = .ok (.putfield 27, 3) := dk_181 0 27 (dk_at dksX9_init_1 13 rfl rfl)
theorem dX9_init_38 : decode cX9_init 38 = .ok (.aload_n 0, 1) := dk_42 (dk_at dksX9_init_1 16 rfl rfl)
theorem dX9_init_39 : decode cX9_init 39 = .ok (.iload_n 2, 1) := dk_28 (dk_at dksX9_init_1 17 rfl rfl)
theorem dX9_init_40 : decode cX9_init 40 = .ok (.putfield 30, 3) := dk_181 0 30 (dk_at dksX9_init_1 18 rfl rfl)
theorem dX9_init_43 : decode cX9_init 43 = .ok (.aload_n 0, 1) := dk_42 (dk_at dksX9_init_1 21 rfl rfl)
theorem dX9_init_44 : decode cX9_init 44 = .ok (.iload_n 3, 1) := dk_29 (dk_at dksX9_init_1 22 rfl rfl)
theorem dX9_init_45 : decode cX9_init 45 = .ok (.putfield 33, 3) := dk_181 0 33 (dk_at dksX9_init_2 0 rfl rfl)
theorem dX9_init_48 : decode cX9_init 48 = .ok (.aload_n 0, 1) := dk_42 (dk_at dksX9_init_2 3 rfl rfl)
theorem dX9_init_49 : decode cX9_init 49 = .ok (.iload 4, 2) := dk_21 4 (dk_at dksX9_init_2 4 rfl rfl)
theorem dX9_init_51 : decode cX9_init 51 = .ok (.putfield 36, 3) := dk_181 0 36 (dk_at dksX9_init_2 6 rfl rfl)
theorem dX9_init_54 : decode cX9_init 54 = .ok (.aload_n 0, 1) := dk_42 (dk_at dksX9_init_2 9 rfl rfl)
theorem dX9_init_55 : decode cX9_init 55 = .ok (.iload 5, 2) := dk_21 5 (dk_at dksX9_init_2 10 rfl rfl)
theorem dX9_init_57 : decode cX9_init 57 = .ok (.putfield 39, 3) := dk_181 0 39 (dk_at dksX9_init_2 12 rfl rfl)
theorem dX9_init_60 : decode cX9_init 60 = .ok (.aload_n 0, 1) := dk_42 (dk_at dksX9_init_2 15 rfl rfl)
theorem dX9_init_61 : decode cX9_init 61 = .ok (.iload 6, 2) := dk_21 6 (dk_at dksX9_init_2 16 rfl rfl)
theorem dX9_init_63 : decode cX9_init 63 = .ok (.putfield 42, 3) := dk_181 0 42 (dk_at dksX9_init_2 18 rfl rfl)
theorem dX9_init_66 : decode cX9_init 66 = .ok (.return_, 1) := dk_177 (dk_at dksX9_init_2 21 rfl rfl)
abbrev cX9_needsHolder : ByteArray := prog_8_method_8_code
def yX9_needsHolder : MethodName := ⟨RX9, "needsHolder", "()Z"⟩
theorem dX9_needsHolder_0 : decode cX9_needsHolder 0 = .ok (.iconst 1, 1) := by decide +kernel
theorem dX9_needsHolder_1 : decode cX9_needsHolder 1 = .ok (.ireturn, 1) := by decide +kernel
abbrev cX9_hold : ByteArray := prog_8_method_19_code
def yX9_hold : MethodName := ⟨RX9, "hold", "(LChurchyardBook$Person;)V"⟩
def dkwX9_hold_1 : List UInt8 := [181, 0, 105, 177]
abbrev dktX9_hold_1 : List UInt8 := dkwX9_hold_1 ++ []
def dkwX9_hold_0 : List UInt8 := [42, 4, 181, 0, 9, 42, 43, 181, 0, 95, 42, 1, 181, 0, 99, 42, 180, 0, 20, 182, 0, 102, 42, 1]
abbrev dktX9_hold_0 : List UInt8 := dkwX9_hold_0 ++ dktX9_hold_1
theorem dksX9_hold_0 : cX9_hold.data.toList.drop 0 = dktX9_hold_0 := by decide +kernel
theorem dksX9_hold_1 : cX9_hold.data.toList.drop 24 = dktX9_hold_1 := dk_seg dksX9_hold_0 24 rfl rfl
theorem dX9_hold_0 : decode cX9_hold 0 = .ok (.aload_n 0, 1) := dk_42 (dk_at dksX9_hold_0 0 rfl rfl)
theorem dX9_hold_1 : decode cX9_hold 1 = .ok (.iconst 1, 1) := dk_4 (dk_at dksX9_hold_0 1 rfl rfl)
theorem dX9_hold_2 : decode cX9_hold 2 = .ok (.putfield 9, 3) := dk_181 0 9 (dk_at dksX9_hold_0 2 rfl rfl)
theorem dX9_hold_5 : decode cX9_hold 5 = .ok (.aload_n 0, 1) := dk_42 (dk_at dksX9_hold_0 5 rfl rfl)
theorem dX9_hold_6 : decode cX9_hold 6 = .ok (.aload_n 1, 1) := dk_43 (dk_at dksX9_hold_0 6 rfl rfl)
theorem dX9_hold_7 : decode cX9_hold 7 = .ok (.putfield 95, 3) := dk_181 0 95 (dk_at dksX9_hold_0 7 rfl rfl)
theorem dX9_hold_10 : decode cX9_hold 10 = .ok (.aload_n 0, 1) := dk_42 (dk_at dksX9_hold_0 10 rfl rfl)
theorem dX9_hold_11 : decode cX9_hold 11 = .ok (.aconst_null, 1) := dk_1 (dk_at dksX9_hold_0 11 rfl rfl)
theorem dX9_hold_12 : decode cX9_hold 12 = .ok (.putfield 99, 3) := dk_181 0 99 (dk_at dksX9_hold_0 12 rfl rfl)
theorem dX9_hold_15 : decode cX9_hold 15 = .ok (.aload_n 0, 1) := dk_42 (dk_at dksX9_hold_0 15 rfl rfl)
theorem dX9_hold_16 : decode cX9_hold 16 = .ok (.getfield 20, 3) := dk_180 0 20 (dk_at dksX9_hold_0 16 rfl rfl)
theorem dX9_hold_19 : decode cX9_hold 19 = .ok (.invokevirtual 102, 3) := dk_182 0 102 (dk_at dksX9_hold_0 19 rfl rfl)
theorem dX9_hold_22 : decode cX9_hold 22 = .ok (.aload_n 0, 1) := dk_42 (dk_at dksX9_hold_0 22 rfl rfl)
theorem dX9_hold_23 : decode cX9_hold 23 = .ok (.aconst_null, 1) := dk_1 (dk_at dksX9_hold_0 23 rfl rfl)
theorem dX9_hold_24 : decode cX9_hold 24 = .ok (.putfield 105, 3) := dk_181 0 105 (dk_at dksX9_hold_1 0 rfl rfl)
theorem dX9_hold_27 : decode cX9_hold 27 = .ok (.return_, 1) := dk_177 (dk_at dksX9_hold_1 3 rfl rfl)
abbrev cX9_yearly : ByteArray := prog_8_method_9_code
def yX9_yearly : MethodName := ⟨RX9, "yearly", "()I"⟩
def dkwX9_yearly_0 : List UInt8 := [16, 10, 42, 180, 0, 39, 104, 172]
abbrev dktX9_yearly_0 : List UInt8 := dkwX9_yearly_0 ++ []
theorem dksX9_yearly_0 : cX9_yearly.data.toList.drop 0 = dktX9_yearly_0 := by decide +kernel
theorem dX9_yearly_0 : decode cX9_yearly 0 = .ok (.bipush 10, 2) := dk_16 10 (dk_at dksX9_yearly_0 0 rfl rfl)
theorem dX9_yearly_2 : decode cX9_yearly 2 = .ok (.aload_n 0, 1) := dk_42 (dk_at dksX9_yearly_0 2 rfl rfl)
theorem dX9_yearly_3 : decode cX9_yearly 3 = .ok (.getfield 39, 3) := dk_180 0 39 (dk_at dksX9_yearly_0 3 rfl rfl)
theorem dX9_yearly_6 : decode cX9_yearly 6 = .ok (.imul, 1) := dk_104 (dk_at dksX9_yearly_0 6 rfl rfl)
theorem dX9_yearly_7 : decode cX9_yearly 7 = .ok (.ireturn, 1) := dk_172 (dk_at dksX9_yearly_0 7 rfl rfl)
abbrev cX9_passOn : ByteArray := prog_8_method_21_code
def yX9_passOn : MethodName := ⟨RX9, "passOn", "(I)V"⟩
def dkwX9_passOn_4 : List UInt8 := [42, 42, 180, 0, 99, 199, 0, 7, 27, 167, 0, 7, 27, 16, 60, 96, 181, 0, 119, 177]
abbrev dktX9_passOn_4 : List UInt8 := dkwX9_passOn_4 ++ []
def dkwX9_passOn_3 : List UInt8 := [162, 0, 20, 42, 180, 0, 20, 42, 180, 0, 112, 182, 0, 55, 192, 0, 59, 167, 0, 4, 1, 181, 0, 99]
abbrev dktX9_passOn_3 : List UInt8 := dkwX9_passOn_3 ++ dktX9_passOn_4
def dkwX9_passOn_2 : List UInt8 := [180, 0, 112, 4, 96, 181, 0, 112, 167, 255, 212, 42, 42, 180, 0, 112, 42, 180, 0, 20, 182, 0, 52]
abbrev dktX9_passOn_2 : List UInt8 := dkwX9_passOn_2 ++ dktX9_passOn_3
def dkwX9_passOn_1 : List UInt8 := [42, 180, 0, 20, 42, 180, 0, 112, 182, 0, 55, 192, 0, 59, 180, 0, 115, 153, 0, 16, 42, 89]
abbrev dktX9_passOn_1 : List UInt8 := dkwX9_passOn_1 ++ dktX9_passOn_2
def dkwX9_passOn_0 : List UInt8 := [42, 89, 180, 0, 112, 4, 96, 181, 0, 112, 42, 180, 0, 112, 42, 180, 0, 20, 182, 0, 52, 162, 0, 36]
abbrev dktX9_passOn_0 : List UInt8 := dkwX9_passOn_0 ++ dktX9_passOn_1
theorem dksX9_passOn_0 : cX9_passOn.data.toList.drop 0 = dktX9_passOn_0 := by decide +kernel
theorem dksX9_passOn_1 : cX9_passOn.data.toList.drop 24 = dktX9_passOn_1 := dk_seg dksX9_passOn_0 24 rfl rfl
theorem dksX9_passOn_2 : cX9_passOn.data.toList.drop 46 = dktX9_passOn_2 := dk_seg dksX9_passOn_1 22 rfl rfl
theorem dksX9_passOn_3 : cX9_passOn.data.toList.drop 69 = dktX9_passOn_3 := dk_seg dksX9_passOn_2 23 rfl rfl
theorem dksX9_passOn_4 : cX9_passOn.data.toList.drop 93 = dktX9_passOn_4 := dk_seg dksX9_passOn_3 24 rfl rfl
theorem dX9_passOn_0 : decode cX9_passOn 0 = .ok (.aload_n 0, 1) := dk_42 (dk_at dksX9_passOn_0 0 rfl rfl)
theorem dX9_passOn_1 : decode cX9_passOn 1 = .ok (.dup, 1) := dk_89 (dk_at dksX9_passOn_0 1 rfl rfl)
theorem dX9_passOn_2 : decode cX9_passOn 2 = .ok (.getfield 112, 3) := dk_180 0 112 (dk_at dksX9_passOn_0 2 rfl rfl)
theorem dX9_passOn_5 : decode cX9_passOn 5 = .ok (.iconst 1, 1) := dk_4 (dk_at dksX9_passOn_0 5 rfl rfl)
theorem dX9_passOn_6 : decode cX9_passOn 6 = .ok (.iadd, 1) := dk_96 (dk_at dksX9_passOn_0 6 rfl rfl)
theorem dX9_passOn_7 : decode cX9_passOn 7 = .ok (.putfield 112, 3) := dk_181 0 112 (dk_at dksX9_passOn_0 7 rfl rfl)
theorem dX9_passOn_10 : decode cX9_passOn 10 = .ok (.aload_n 0, 1) := dk_42 (dk_at dksX9_passOn_0 10 rfl rfl)
theorem dX9_passOn_11 : decode cX9_passOn 11 = .ok (.getfield 112, 3) := dk_180 0 112 (dk_at dksX9_passOn_0 11 rfl rfl)
theorem dX9_passOn_14 : decode cX9_passOn 14 = .ok (.aload_n 0, 1) := dk_42 (dk_at dksX9_passOn_0 14 rfl rfl)
theorem dX9_passOn_15 : decode cX9_passOn 15 = .ok (.getfield 20, 3) := dk_180 0 20 (dk_at dksX9_passOn_0 15 rfl rfl)
theorem dX9_passOn_18 : decode cX9_passOn 18 = .ok (.invokevirtual 52, 3) := dk_182 0 52 (dk_at dksX9_passOn_0 18 rfl rfl)
theorem dX9_passOn_21 : decode cX9_passOn 21 = .ok (.if_icmp .ge 36, 3) := dk_162 0 36 (dk_at dksX9_passOn_0 21 rfl rfl)
theorem dX9_passOn_24 : decode cX9_passOn 24 = .ok (.aload_n 0, 1) := dk_42 (dk_at dksX9_passOn_1 0 rfl rfl)
theorem dX9_passOn_25 : decode cX9_passOn 25 = .ok (.getfield 20, 3) := dk_180 0 20 (dk_at dksX9_passOn_1 1 rfl rfl)
theorem dX9_passOn_28 : decode cX9_passOn 28 = .ok (.aload_n 0, 1) := dk_42 (dk_at dksX9_passOn_1 4 rfl rfl)
theorem dX9_passOn_29 : decode cX9_passOn 29 = .ok (.getfield 112, 3) := dk_180 0 112 (dk_at dksX9_passOn_1 5 rfl rfl)
theorem dX9_passOn_32 : decode cX9_passOn 32 = .ok (.invokevirtual 55, 3) := dk_182 0 55 (dk_at dksX9_passOn_1 8 rfl rfl)
theorem dX9_passOn_35 : decode cX9_passOn 35 = .ok (.checkcast 59, 3) := dk_192 0 59 (dk_at dksX9_passOn_1 11 rfl rfl)
theorem dX9_passOn_38 : decode cX9_passOn 38 = .ok (.getfield 115, 3) := dk_180 0 115 (dk_at dksX9_passOn_1 14 rfl rfl)
theorem dX9_passOn_41 : decode cX9_passOn 41 = .ok (.ifCond .eq 16, 3) := dk_153 0 16 (dk_at dksX9_passOn_1 17 rfl rfl)
theorem dX9_passOn_44 : decode cX9_passOn 44 = .ok (.aload_n 0, 1) := dk_42 (dk_at dksX9_passOn_1 20 rfl rfl)
theorem dX9_passOn_45 : decode cX9_passOn 45 = .ok (.dup, 1) := dk_89 (dk_at dksX9_passOn_1 21 rfl rfl)
theorem dX9_passOn_46 : decode cX9_passOn 46 = .ok (.getfield 112, 3) := dk_180 0 112 (dk_at dksX9_passOn_2 0 rfl rfl)
theorem dX9_passOn_49 : decode cX9_passOn 49 = .ok (.iconst 1, 1) := dk_4 (dk_at dksX9_passOn_2 3 rfl rfl)
theorem dX9_passOn_50 : decode cX9_passOn 50 = .ok (.iadd, 1) := dk_96 (dk_at dksX9_passOn_2 4 rfl rfl)
theorem dX9_passOn_51 : decode cX9_passOn 51 = .ok (.putfield 112, 3) := dk_181 0 112 (dk_at dksX9_passOn_2 5 rfl rfl)
theorem dX9_passOn_54 : decode cX9_passOn 54 = .ok (.goto (-44), 3) := dk_167 255 212 (dk_at dksX9_passOn_2 8 rfl rfl)
theorem dX9_passOn_57 : decode cX9_passOn 57 = .ok (.aload_n 0, 1) := dk_42 (dk_at dksX9_passOn_2 11 rfl rfl)
theorem dX9_passOn_58 : decode cX9_passOn 58 = .ok (.aload_n 0, 1) := dk_42 (dk_at dksX9_passOn_2 12 rfl rfl)
theorem dX9_passOn_59 : decode cX9_passOn 59 = .ok (.getfield 112, 3) := dk_180 0 112 (dk_at dksX9_passOn_2 13 rfl rfl)
theorem dX9_passOn_62 : decode cX9_passOn 62 = .ok (.aload_n 0, 1) := dk_42 (dk_at dksX9_passOn_2 16 rfl rfl)
theorem dX9_passOn_63 : decode cX9_passOn 63 = .ok (.getfield 20, 3) := dk_180 0 20 (dk_at dksX9_passOn_2 17 rfl rfl)
theorem dX9_passOn_66 : decode cX9_passOn 66 = .ok (.invokevirtual 52, 3) := dk_182 0 52 (dk_at dksX9_passOn_2 20 rfl rfl)
theorem dX9_passOn_69 : decode cX9_passOn 69 = .ok (.if_icmp .ge 20, 3) := dk_162 0 20 (dk_at dksX9_passOn_3 0 rfl rfl)
theorem dX9_passOn_72 : decode cX9_passOn 72 = .ok (.aload_n 0, 1) := dk_42 (dk_at dksX9_passOn_3 3 rfl rfl)
theorem dX9_passOn_73 : decode cX9_passOn 73 = .ok (.getfield 20, 3) := dk_180 0 20 (dk_at dksX9_passOn_3 4 rfl rfl)
theorem dX9_passOn_76 : decode cX9_passOn 76 = .ok (.aload_n 0, 1) := dk_42 (dk_at dksX9_passOn_3 7 rfl rfl)
theorem dX9_passOn_77 : decode cX9_passOn 77 = .ok (.getfield 112, 3) := dk_180 0 112 (dk_at dksX9_passOn_3 8 rfl rfl)
theorem dX9_passOn_80 : decode cX9_passOn 80 = .ok (.invokevirtual 55, 3) := dk_182 0 55 (dk_at dksX9_passOn_3 11 rfl rfl)
theorem dX9_passOn_83 : decode cX9_passOn 83 = .ok (.checkcast 59, 3) := dk_192 0 59 (dk_at dksX9_passOn_3 14 rfl rfl)
theorem dX9_passOn_86 : decode cX9_passOn 86 = .ok (.goto 4, 3) := dk_167 0 4 (dk_at dksX9_passOn_3 17 rfl rfl)
theorem dX9_passOn_89 : decode cX9_passOn 89 = .ok (.aconst_null, 1) := dk_1 (dk_at dksX9_passOn_3 20 rfl rfl)
theorem dX9_passOn_90 : decode cX9_passOn 90 = .ok (.putfield 99, 3) := dk_181 0 99 (dk_at dksX9_passOn_3 21 rfl rfl)
theorem dX9_passOn_93 : decode cX9_passOn 93 = .ok (.aload_n 0, 1) := dk_42 (dk_at dksX9_passOn_4 0 rfl rfl)
theorem dX9_passOn_94 : decode cX9_passOn 94 = .ok (.aload_n 0, 1) := dk_42 (dk_at dksX9_passOn_4 1 rfl rfl)
theorem dX9_passOn_95 : decode cX9_passOn 95 = .ok (.getfield 99, 3) := dk_180 0 99 (dk_at dksX9_passOn_4 2 rfl rfl)
theorem dX9_passOn_98 : decode cX9_passOn 98 = .ok (.ifnonnull 7, 3) := dk_199 0 7 (dk_at dksX9_passOn_4 5 rfl rfl)
theorem dX9_passOn_101 : decode cX9_passOn 101 = .ok (.iload_n 1, 1) := dk_27 (dk_at dksX9_passOn_4 8 rfl rfl)
theorem dX9_passOn_102 : decode cX9_passOn 102 = .ok (.goto 7, 3) := dk_167 0 7 (dk_at dksX9_passOn_4 9 rfl rfl)
theorem dX9_passOn_105 : decode cX9_passOn 105 = .ok (.iload_n 1, 1) := dk_27 (dk_at dksX9_passOn_4 12 rfl rfl)
theorem dX9_passOn_106 : decode cX9_passOn 106 = .ok (.bipush 60, 2) := dk_16 60 (dk_at dksX9_passOn_4 13 rfl rfl)
theorem dX9_passOn_108 : decode cX9_passOn 108 = .ok (.iadd, 1) := dk_96 (dk_at dksX9_passOn_4 15 rfl rfl)
theorem dX9_passOn_109 : decode cX9_passOn 109 = .ok (.putfield 119, 3) := dk_181 0 119 (dk_at dksX9_passOn_4 16 rfl rfl)
theorem dX9_passOn_112 : decode cX9_passOn 112 = .ok (.return_, 1) := dk_177 (dk_at dksX9_passOn_4 19 rfl rfl)
abbrev cX9_ground : ByteArray := prog_8_method_3_code
def yX9_ground : MethodName := ⟨RX9, "ground", "()I"⟩
theorem dX9_ground_0 : decode cX9_ground 0 = .ok (.aload_n 0, 1) := by decide +kernel
theorem dX9_ground_1 : decode cX9_ground 1 = .ok (.getfield 42, 3) := by decide +kernel
theorem dX9_ground_4 : decode cX9_ground 4 = .ok (.ireturn, 1) := by decide +kernel
abbrev cX9_isColumn : ByteArray := prog_8_method_10_code
def yX9_isColumn : MethodName := ⟨RX9, "isColumn", "(I)Z"⟩
def dkwX9_isColumn_0 : List UInt8 := [27, 155, 0, 15, 27, 42, 182, 0, 48, 162, 0, 7, 4, 167, 0, 4, 3, 172]
abbrev dktX9_isColumn_0 : List UInt8 := dkwX9_isColumn_0 ++ []
theorem dksX9_isColumn_0 : cX9_isColumn.data.toList.drop 0 = dktX9_isColumn_0 := by decide +kernel
theorem dX9_isColumn_0 : decode cX9_isColumn 0 = .ok (.iload_n 1, 1) := dk_27 (dk_at dksX9_isColumn_0 0 rfl rfl)
theorem dX9_isColumn_1 : decode cX9_isColumn 1 = .ok (.ifCond .lt 15, 3) := dk_155 0 15 (dk_at dksX9_isColumn_0 1 rfl rfl)
theorem dX9_isColumn_4 : decode cX9_isColumn 4 = .ok (.iload_n 1, 1) := dk_27 (dk_at dksX9_isColumn_0 4 rfl rfl)
theorem dX9_isColumn_5 : decode cX9_isColumn 5 = .ok (.aload_n 0, 1) := dk_42 (dk_at dksX9_isColumn_0 5 rfl rfl)
theorem dX9_isColumn_6 : decode cX9_isColumn 6 = .ok (.invokevirtual 48, 3) := dk_182 0 48 (dk_at dksX9_isColumn_0 6 rfl rfl)
theorem dX9_isColumn_9 : decode cX9_isColumn 9 = .ok (.if_icmp .ge 7, 3) := dk_162 0 7 (dk_at dksX9_isColumn_0 9 rfl rfl)
theorem dX9_isColumn_12 : decode cX9_isColumn 12 = .ok (.iconst 1, 1) := dk_4 (dk_at dksX9_isColumn_0 12 rfl rfl)
theorem dX9_isColumn_13 : decode cX9_isColumn 13 = .ok (.goto 4, 3) := dk_167 0 4 (dk_at dksX9_isColumn_0 13 rfl rfl)
theorem dX9_isColumn_16 : decode cX9_isColumn 16 = .ok (.iconst 0, 1) := dk_3 (dk_at dksX9_isColumn_0 16 rfl rfl)
theorem dX9_isColumn_17 : decode cX9_isColumn 17 = .ok (.ireturn, 1) := dk_172 (dk_at dksX9_isColumn_0 17 rfl rfl)
abbrev cX9_columns : ByteArray := prog_8_method_6_code
def yX9_columns : MethodName := ⟨RX9, "columns", "()I"⟩
theorem dX9_columns_0 : decode cX9_columns 0 = .ok (.iconst 1, 1) := by decide +kernel
theorem dX9_columns_1 : decode cX9_columns 1 = .ok (.ireturn, 1) := by decide +kernel
abbrev cX9_isOpen : ByteArray := prog_8_method_12_code
def yX9_isOpen : MethodName := ⟨RX9, "isOpen", "(III)Z"⟩
def dkwX9_isOpen_1 : List UInt8 := [167, 0, 4, 3, 172]
abbrev dktX9_isOpen_1 : List UInt8 := dkwX9_isOpen_1 ++ []
def dkwX9_isOpen_0 : List UInt8 := [42, 27, 28, 182, 0, 67, 58, 4, 25, 4, 198, 0, 12, 25, 4, 29, 182, 0, 71, 154, 0, 7, 4]
abbrev dktX9_isOpen_0 : List UInt8 := dkwX9_isOpen_0 ++ dktX9_isOpen_1
theorem dksX9_isOpen_0 : cX9_isOpen.data.toList.drop 0 = dktX9_isOpen_0 := by decide +kernel
theorem dksX9_isOpen_1 : cX9_isOpen.data.toList.drop 23 = dktX9_isOpen_1 := dk_seg dksX9_isOpen_0 23 rfl rfl
theorem dX9_isOpen_0 : decode cX9_isOpen 0 = .ok (.aload_n 0, 1) := dk_42 (dk_at dksX9_isOpen_0 0 rfl rfl)
theorem dX9_isOpen_1 : decode cX9_isOpen 1 = .ok (.iload_n 1, 1) := dk_27 (dk_at dksX9_isOpen_0 1 rfl rfl)
theorem dX9_isOpen_2 : decode cX9_isOpen 2 = .ok (.iload_n 2, 1) := dk_28 (dk_at dksX9_isOpen_0 2 rfl rfl)
theorem dX9_isOpen_3 : decode cX9_isOpen 3 = .ok (.invokevirtual 67, 3) := dk_182 0 67 (dk_at dksX9_isOpen_0 3 rfl rfl)
theorem dX9_isOpen_6 : decode cX9_isOpen 6 = .ok (.astore 4, 2) := dk_58 4 (dk_at dksX9_isOpen_0 6 rfl rfl)
theorem dX9_isOpen_8 : decode cX9_isOpen 8 = .ok (.aload 4, 2) := dk_25 4 (dk_at dksX9_isOpen_0 8 rfl rfl)
theorem dX9_isOpen_10 : decode cX9_isOpen 10 = .ok (.ifnull 12, 3) := dk_198 0 12 (dk_at dksX9_isOpen_0 10 rfl rfl)
theorem dX9_isOpen_13 : decode cX9_isOpen 13 = .ok (.aload 4, 2) := dk_25 4 (dk_at dksX9_isOpen_0 13 rfl rfl)
theorem dX9_isOpen_15 : decode cX9_isOpen 15 = .ok (.iload_n 3, 1) := dk_29 (dk_at dksX9_isOpen_0 15 rfl rfl)
theorem dX9_isOpen_16 : decode cX9_isOpen 16 = .ok (.invokevirtual 71, 3) := dk_182 0 71 (dk_at dksX9_isOpen_0 16 rfl rfl)
theorem dX9_isOpen_19 : decode cX9_isOpen 19 = .ok (.ifCond .ne 7, 3) := dk_154 0 7 (dk_at dksX9_isOpen_0 19 rfl rfl)
theorem dX9_isOpen_22 : decode cX9_isOpen 22 = .ok (.iconst 1, 1) := dk_4 (dk_at dksX9_isOpen_0 22 rfl rfl)
theorem dX9_isOpen_23 : decode cX9_isOpen 23 = .ok (.goto 4, 3) := dk_167 0 4 (dk_at dksX9_isOpen_1 0 rfl rfl)
theorem dX9_isOpen_26 : decode cX9_isOpen 26 = .ok (.iconst 0, 1) := dk_3 (dk_at dksX9_isOpen_1 3 rfl rfl)
theorem dX9_isOpen_27 : decode cX9_isOpen 27 = .ok (.ireturn, 1) := dk_172 (dk_at dksX9_isOpen_1 4 rfl rfl)
abbrev cX9_in : ByteArray := prog_8_method_11_code
def yX9_in : MethodName := ⟨RX9, "in", "(II)LChurchyardBook$Person;"⟩
def dkwX9_in_2 : List UInt8 := [132, 3, 1, 167, 255, 208, 1, 176]
abbrev dktX9_in_2 : List UInt8 := dkwX9_in_2 ++ []
def dkwX9_in_1 : List UInt8 := [58, 4, 25, 4, 180, 0, 61, 27, 160, 0, 15, 25, 4, 180, 0, 64, 28, 160, 0, 6, 25, 4, 176]
abbrev dktX9_in_1 : List UInt8 := dkwX9_in_1 ++ dktX9_in_2
def dkwX9_in_0 : List UInt8 := [3, 62, 29, 42, 180, 0, 24, 182, 0, 52, 162, 0, 43, 42, 180, 0, 24, 29, 182, 0, 55, 192, 0, 59]
abbrev dktX9_in_0 : List UInt8 := dkwX9_in_0 ++ dktX9_in_1
theorem dksX9_in_0 : cX9_in.data.toList.drop 0 = dktX9_in_0 := by decide +kernel
theorem dksX9_in_1 : cX9_in.data.toList.drop 24 = dktX9_in_1 := dk_seg dksX9_in_0 24 rfl rfl
theorem dksX9_in_2 : cX9_in.data.toList.drop 47 = dktX9_in_2 := dk_seg dksX9_in_1 23 rfl rfl
theorem dX9_in_0 : decode cX9_in 0 = .ok (.iconst 0, 1) := dk_3 (dk_at dksX9_in_0 0 rfl rfl)
theorem dX9_in_1 : decode cX9_in 1 = .ok (.istore_n 3, 1) := dk_62 (dk_at dksX9_in_0 1 rfl rfl)
theorem dX9_in_2 : decode cX9_in 2 = .ok (.iload_n 3, 1) := dk_29 (dk_at dksX9_in_0 2 rfl rfl)
theorem dX9_in_3 : decode cX9_in 3 = .ok (.aload_n 0, 1) := dk_42 (dk_at dksX9_in_0 3 rfl rfl)
theorem dX9_in_4 : decode cX9_in 4 = .ok (.getfield 24, 3) := dk_180 0 24 (dk_at dksX9_in_0 4 rfl rfl)
theorem dX9_in_7 : decode cX9_in 7 = .ok (.invokevirtual 52, 3) := dk_182 0 52 (dk_at dksX9_in_0 7 rfl rfl)
theorem dX9_in_10 : decode cX9_in 10 = .ok (.if_icmp .ge 43, 3) := dk_162 0 43 (dk_at dksX9_in_0 10 rfl rfl)
theorem dX9_in_13 : decode cX9_in 13 = .ok (.aload_n 0, 1) := dk_42 (dk_at dksX9_in_0 13 rfl rfl)
theorem dX9_in_14 : decode cX9_in 14 = .ok (.getfield 24, 3) := dk_180 0 24 (dk_at dksX9_in_0 14 rfl rfl)
theorem dX9_in_17 : decode cX9_in 17 = .ok (.iload_n 3, 1) := dk_29 (dk_at dksX9_in_0 17 rfl rfl)
theorem dX9_in_18 : decode cX9_in 18 = .ok (.invokevirtual 55, 3) := dk_182 0 55 (dk_at dksX9_in_0 18 rfl rfl)
theorem dX9_in_21 : decode cX9_in 21 = .ok (.checkcast 59, 3) := dk_192 0 59 (dk_at dksX9_in_0 21 rfl rfl)
theorem dX9_in_24 : decode cX9_in 24 = .ok (.astore 4, 2) := dk_58 4 (dk_at dksX9_in_1 0 rfl rfl)
theorem dX9_in_26 : decode cX9_in 26 = .ok (.aload 4, 2) := dk_25 4 (dk_at dksX9_in_1 2 rfl rfl)
theorem dX9_in_28 : decode cX9_in 28 = .ok (.getfield 61, 3) := dk_180 0 61 (dk_at dksX9_in_1 4 rfl rfl)
theorem dX9_in_31 : decode cX9_in 31 = .ok (.iload_n 1, 1) := dk_27 (dk_at dksX9_in_1 7 rfl rfl)
theorem dX9_in_32 : decode cX9_in 32 = .ok (.if_icmp .ne 15, 3) := dk_160 0 15 (dk_at dksX9_in_1 8 rfl rfl)
theorem dX9_in_35 : decode cX9_in 35 = .ok (.aload 4, 2) := dk_25 4 (dk_at dksX9_in_1 11 rfl rfl)
theorem dX9_in_37 : decode cX9_in 37 = .ok (.getfield 64, 3) := dk_180 0 64 (dk_at dksX9_in_1 13 rfl rfl)
theorem dX9_in_40 : decode cX9_in 40 = .ok (.iload_n 2, 1) := dk_28 (dk_at dksX9_in_1 16 rfl rfl)
theorem dX9_in_41 : decode cX9_in 41 = .ok (.if_icmp .ne 6, 3) := dk_160 0 6 (dk_at dksX9_in_1 17 rfl rfl)
theorem dX9_in_44 : decode cX9_in 44 = .ok (.aload 4, 2) := dk_25 4 (dk_at dksX9_in_1 20 rfl rfl)
theorem dX9_in_46 : decode cX9_in 46 = .ok (.areturn, 1) := dk_176 (dk_at dksX9_in_1 22 rfl rfl)
theorem dX9_in_47 : decode cX9_in 47 = .ok (.iinc 3 1, 3) := dk_132 3 1 (dk_at dksX9_in_2 0 rfl rfl)
theorem dX9_in_50 : decode cX9_in 50 = .ok (.goto (-48), 3) := dk_167 255 208 (dk_at dksX9_in_2 3 rfl rfl)
theorem dX9_in_53 : decode cX9_in 53 = .ok (.aconst_null, 1) := dk_1 (dk_at dksX9_in_2 6 rfl rfl)
theorem dX9_in_54 : decode cX9_in 54 = .ok (.areturn, 1) := dk_176 (dk_at dksX9_in_2 7 rfl rfl)
abbrev cX9_isAgreed : ByteArray := prog_8_method_22_code
def yX9_isAgreed : MethodName := ⟨RX9, "isAgreed", "(LChurchyardBook$Person;)Z"⟩
def dkwX9_isAgreed_3 : List UInt8 := [180, 0, 95, 182, 0, 126, 153, 0, 7, 4, 167, 0, 4, 3, 172]
abbrev dktX9_isAgreed_3 : List UInt8 := dkwX9_isAgreed_3 ++ []
def dkwX9_isAgreed_2 : List UInt8 := [167, 0, 4, 3, 61, 28, 154, 0, 25, 42, 180, 0, 95, 43, 182, 0, 126, 154, 0, 14, 43, 42]
abbrev dktX9_isAgreed_2 : List UInt8 := dkwX9_isAgreed_2 ++ dktX9_isAgreed_3
def dkwX9_isAgreed_1 : List UInt8 := [165, 0, 22, 43, 42, 180, 0, 95, 165, 0, 14, 42, 180, 0, 95, 180, 0, 123, 43, 166, 0, 7, 4]
abbrev dktX9_isAgreed_1 : List UInt8 := dkwX9_isAgreed_1 ++ dktX9_isAgreed_2
def dkwX9_isAgreed_0 : List UInt8 := [42, 180, 0, 105, 198, 0, 15, 42, 180, 0, 105, 43, 180, 0, 122, 51, 154, 0, 30, 43, 42, 180, 0, 109]
abbrev dktX9_isAgreed_0 : List UInt8 := dkwX9_isAgreed_0 ++ dktX9_isAgreed_1
theorem dksX9_isAgreed_0 : cX9_isAgreed.data.toList.drop 0 = dktX9_isAgreed_0 := by decide +kernel
theorem dksX9_isAgreed_1 : cX9_isAgreed.data.toList.drop 24 = dktX9_isAgreed_1 := dk_seg dksX9_isAgreed_0 24 rfl rfl
theorem dksX9_isAgreed_2 : cX9_isAgreed.data.toList.drop 47 = dktX9_isAgreed_2 := dk_seg dksX9_isAgreed_1 23 rfl rfl
theorem dksX9_isAgreed_3 : cX9_isAgreed.data.toList.drop 69 = dktX9_isAgreed_3 := dk_seg dksX9_isAgreed_2 22 rfl rfl
theorem dX9_isAgreed_0 : decode cX9_isAgreed 0 = .ok (.aload_n 0, 1) := dk_42 (dk_at dksX9_isAgreed_0 0 rfl rfl)
theorem dX9_isAgreed_1 : decode cX9_isAgreed 1 = .ok (.getfield 105, 3) := dk_180 0 105 (dk_at dksX9_isAgreed_0 1 rfl rfl)
theorem dX9_isAgreed_4 : decode cX9_isAgreed 4 = .ok (.ifnull 15, 3) := dk_198 0 15 (dk_at dksX9_isAgreed_0 4 rfl rfl)
theorem dX9_isAgreed_7 : decode cX9_isAgreed 7 = .ok (.aload_n 0, 1) := dk_42 (dk_at dksX9_isAgreed_0 7 rfl rfl)
theorem dX9_isAgreed_8 : decode cX9_isAgreed 8 = .ok (.getfield 105, 3) := dk_180 0 105 (dk_at dksX9_isAgreed_0 8 rfl rfl)
theorem dX9_isAgreed_11 : decode cX9_isAgreed 11 = .ok (.aload_n 1, 1) := dk_43 (dk_at dksX9_isAgreed_0 11 rfl rfl)
theorem dX9_isAgreed_12 : decode cX9_isAgreed 12 = .ok (.getfield 122, 3) := dk_180 0 122 (dk_at dksX9_isAgreed_0 12 rfl rfl)
theorem dX9_isAgreed_15 : decode cX9_isAgreed 15 = .ok (.baload, 1) := dk_51 (dk_at dksX9_isAgreed_0 15 rfl rfl)
theorem dX9_isAgreed_16 : decode cX9_isAgreed 16 = .ok (.ifCond .ne 30, 3) := dk_154 0 30 (dk_at dksX9_isAgreed_0 16 rfl rfl)
theorem dX9_isAgreed_19 : decode cX9_isAgreed 19 = .ok (.aload_n 1, 1) := dk_43 (dk_at dksX9_isAgreed_0 19 rfl rfl)
theorem dX9_isAgreed_20 : decode cX9_isAgreed 20 = .ok (.aload_n 0, 1) := dk_42 (dk_at dksX9_isAgreed_0 20 rfl rfl)
theorem dX9_isAgreed_21 : decode cX9_isAgreed 21 = .ok (.getfield 109, 3) := dk_180 0 109 (dk_at dksX9_isAgreed_0 21 rfl rfl)
theorem dX9_isAgreed_24 : decode cX9_isAgreed 24 = .ok (.if_acmp .eq 22, 3) := dk_165 0 22 (dk_at dksX9_isAgreed_1 0 rfl rfl)
theorem dX9_isAgreed_27 : decode cX9_isAgreed 27 = .ok (.aload_n 1, 1) := dk_43 (dk_at dksX9_isAgreed_1 3 rfl rfl)
theorem dX9_isAgreed_28 : decode cX9_isAgreed 28 = .ok (.aload_n 0, 1) := dk_42 (dk_at dksX9_isAgreed_1 4 rfl rfl)
theorem dX9_isAgreed_29 : decode cX9_isAgreed 29 = .ok (.getfield 95, 3) := dk_180 0 95 (dk_at dksX9_isAgreed_1 5 rfl rfl)
theorem dX9_isAgreed_32 : decode cX9_isAgreed 32 = .ok (.if_acmp .eq 14, 3) := dk_165 0 14 (dk_at dksX9_isAgreed_1 8 rfl rfl)
theorem dX9_isAgreed_35 : decode cX9_isAgreed 35 = .ok (.aload_n 0, 1) := dk_42 (dk_at dksX9_isAgreed_1 11 rfl rfl)
theorem dX9_isAgreed_36 : decode cX9_isAgreed 36 = .ok (.getfield 95, 3) := dk_180 0 95 (dk_at dksX9_isAgreed_1 12 rfl rfl)
theorem dX9_isAgreed_39 : decode cX9_isAgreed 39 = .ok (.getfield 123, 3) := dk_180 0 123 (dk_at dksX9_isAgreed_1 15 rfl rfl)
theorem dX9_isAgreed_42 : decode cX9_isAgreed 42 = .ok (.aload_n 1, 1) := dk_43 (dk_at dksX9_isAgreed_1 18 rfl rfl)
theorem dX9_isAgreed_43 : decode cX9_isAgreed 43 = .ok (.if_acmp .ne 7, 3) := dk_166 0 7 (dk_at dksX9_isAgreed_1 19 rfl rfl)
theorem dX9_isAgreed_46 : decode cX9_isAgreed 46 = .ok (.iconst 1, 1) := dk_4 (dk_at dksX9_isAgreed_1 22 rfl rfl)
theorem dX9_isAgreed_47 : decode cX9_isAgreed 47 = .ok (.goto 4, 3) := dk_167 0 4 (dk_at dksX9_isAgreed_2 0 rfl rfl)
theorem dX9_isAgreed_50 : decode cX9_isAgreed 50 = .ok (.iconst 0, 1) := dk_3 (dk_at dksX9_isAgreed_2 3 rfl rfl)
theorem dX9_isAgreed_51 : decode cX9_isAgreed 51 = .ok (.istore_n 2, 1) := dk_61 (dk_at dksX9_isAgreed_2 4 rfl rfl)
theorem dX9_isAgreed_52 : decode cX9_isAgreed 52 = .ok (.iload_n 2, 1) := dk_28 (dk_at dksX9_isAgreed_2 5 rfl rfl)
theorem dX9_isAgreed_53 : decode cX9_isAgreed 53 = .ok (.ifCond .ne 25, 3) := dk_154 0 25 (dk_at dksX9_isAgreed_2 6 rfl rfl)
theorem dX9_isAgreed_56 : decode cX9_isAgreed 56 = .ok (.aload_n 0, 1) := dk_42 (dk_at dksX9_isAgreed_2 9 rfl rfl)
theorem dX9_isAgreed_57 : decode cX9_isAgreed 57 = .ok (.getfield 95, 3) := dk_180 0 95 (dk_at dksX9_isAgreed_2 10 rfl rfl)
theorem dX9_isAgreed_60 : decode cX9_isAgreed 60 = .ok (.aload_n 1, 1) := dk_43 (dk_at dksX9_isAgreed_2 13 rfl rfl)
theorem dX9_isAgreed_61 : decode cX9_isAgreed 61 = .ok (.invokevirtual 126, 3) := dk_182 0 126 (dk_at dksX9_isAgreed_2 14 rfl rfl)
theorem dX9_isAgreed_64 : decode cX9_isAgreed 64 = .ok (.ifCond .ne 14, 3) := dk_154 0 14 (dk_at dksX9_isAgreed_2 17 rfl rfl)
theorem dX9_isAgreed_67 : decode cX9_isAgreed 67 = .ok (.aload_n 1, 1) := dk_43 (dk_at dksX9_isAgreed_2 20 rfl rfl)
theorem dX9_isAgreed_68 : decode cX9_isAgreed 68 = .ok (.aload_n 0, 1) := dk_42 (dk_at dksX9_isAgreed_2 21 rfl rfl)
theorem dX9_isAgreed_69 : decode cX9_isAgreed 69 = .ok (.getfield 95, 3) := dk_180 0 95 (dk_at dksX9_isAgreed_3 0 rfl rfl)
theorem dX9_isAgreed_72 : decode cX9_isAgreed 72 = .ok (.invokevirtual 126, 3) := dk_182 0 126 (dk_at dksX9_isAgreed_3 3 rfl rfl)
theorem dX9_isAgreed_75 : decode cX9_isAgreed 75 = .ok (.ifCond .eq 7, 3) := dk_153 0 7 (dk_at dksX9_isAgreed_3 6 rfl rfl)
theorem dX9_isAgreed_78 : decode cX9_isAgreed 78 = .ok (.iconst 1, 1) := dk_4 (dk_at dksX9_isAgreed_3 9 rfl rfl)
theorem dX9_isAgreed_79 : decode cX9_isAgreed 79 = .ok (.goto 4, 3) := dk_167 0 4 (dk_at dksX9_isAgreed_3 10 rfl rfl)
theorem dX9_isAgreed_82 : decode cX9_isAgreed 82 = .ok (.iconst 0, 1) := dk_3 (dk_at dksX9_isAgreed_3 13 rfl rfl)
theorem dX9_isAgreed_83 : decode cX9_isAgreed 83 = .ok (.ireturn, 1) := dk_172 (dk_at dksX9_isAgreed_3 14 rfl rfl)
abbrev cX9_to : ByteArray := prog_8_method_4_code
def yX9_to : MethodName := ⟨RX9, "to", "()I"⟩
theorem dX9_to_0 : decode cX9_to 0 = .ok (.aload_n 0, 1) := by decide +kernel
theorem dX9_to_1 : decode cX9_to 1 = .ok (.getfield 45, 3) := by decide +kernel
theorem dX9_to_4 : decode cX9_to 4 = .ok (.ireturn, 1) := by decide +kernel
abbrev cX9_put : ByteArray := prog_8_method_17_code
def yX9_put : MethodName := ⟨RX9, "put", "(LChurchyardBook$Person;III)V"⟩
def dkwX9_put_2 : List UInt8 := [42, 28, 29, 182, 0, 88, 177]
abbrev dktX9_put_2 : List UInt8 := dkwX9_put_2 ++ []
def dkwX9_put_1 : List UInt8 := [25, 6, 5, 181, 0, 64, 132, 5, 1, 167, 255, 227, 42, 180, 0, 24, 43, 182, 0, 84, 87, 43, 21, 4]
abbrev dktX9_put_1 : List UInt8 := dkwX9_put_1 ++ dktX9_put_2
def dkwX9_put_0 : List UInt8 := [3, 54, 5, 21, 5, 29, 163, 0, 29, 42, 28, 21, 5, 182, 0, 67, 58, 6, 25, 6, 198, 0, 9]
abbrev dktX9_put_0 : List UInt8 := dkwX9_put_0 ++ dktX9_put_1
theorem dksX9_put_0 : cX9_put.data.toList.drop 0 = dktX9_put_0 := by decide +kernel
theorem dksX9_put_1 : cX9_put.data.toList.drop 23 = dktX9_put_1 := dk_seg dksX9_put_0 23 rfl rfl
theorem dksX9_put_2 : cX9_put.data.toList.drop 47 = dktX9_put_2 := dk_seg dksX9_put_1 24 rfl rfl
theorem dX9_put_0 : decode cX9_put 0 = .ok (.iconst 0, 1) := dk_3 (dk_at dksX9_put_0 0 rfl rfl)
theorem dX9_put_1 : decode cX9_put 1 = .ok (.istore 5, 2) := dk_54 5 (dk_at dksX9_put_0 1 rfl rfl)
theorem dX9_put_3 : decode cX9_put 3 = .ok (.iload 5, 2) := dk_21 5 (dk_at dksX9_put_0 3 rfl rfl)
theorem dX9_put_5 : decode cX9_put 5 = .ok (.iload_n 3, 1) := dk_29 (dk_at dksX9_put_0 5 rfl rfl)
theorem dX9_put_6 : decode cX9_put 6 = .ok (.if_icmp .gt 29, 3) := dk_163 0 29 (dk_at dksX9_put_0 6 rfl rfl)
theorem dX9_put_9 : decode cX9_put 9 = .ok (.aload_n 0, 1) := dk_42 (dk_at dksX9_put_0 9 rfl rfl)
theorem dX9_put_10 : decode cX9_put 10 = .ok (.iload_n 2, 1) := dk_28 (dk_at dksX9_put_0 10 rfl rfl)
theorem dX9_put_11 : decode cX9_put 11 = .ok (.iload 5, 2) := dk_21 5 (dk_at dksX9_put_0 11 rfl rfl)
theorem dX9_put_13 : decode cX9_put 13 = .ok (.invokevirtual 67, 3) := dk_182 0 67 (dk_at dksX9_put_0 13 rfl rfl)
theorem dX9_put_16 : decode cX9_put 16 = .ok (.astore 6, 2) := dk_58 6 (dk_at dksX9_put_0 16 rfl rfl)
theorem dX9_put_18 : decode cX9_put 18 = .ok (.aload 6, 2) := dk_25 6 (dk_at dksX9_put_0 18 rfl rfl)
theorem dX9_put_20 : decode cX9_put 20 = .ok (.ifnull 9, 3) := dk_198 0 9 (dk_at dksX9_put_0 20 rfl rfl)
theorem dX9_put_23 : decode cX9_put 23 = .ok (.aload 6, 2) := dk_25 6 (dk_at dksX9_put_1 0 rfl rfl)
theorem dX9_put_25 : decode cX9_put 25 = .ok (.iconst 2, 1) := dk_5 (dk_at dksX9_put_1 2 rfl rfl)
theorem dX9_put_26 : decode cX9_put 26 = .ok (.putfield 64, 3) := dk_181 0 64 (dk_at dksX9_put_1 3 rfl rfl)
theorem dX9_put_29 : decode cX9_put 29 = .ok (.iinc 5 1, 3) := dk_132 5 1 (dk_at dksX9_put_1 6 rfl rfl)
theorem dX9_put_32 : decode cX9_put 32 = .ok (.goto (-29), 3) := dk_167 255 227 (dk_at dksX9_put_1 9 rfl rfl)
theorem dX9_put_35 : decode cX9_put 35 = .ok (.aload_n 0, 1) := dk_42 (dk_at dksX9_put_1 12 rfl rfl)
theorem dX9_put_36 : decode cX9_put 36 = .ok (.getfield 24, 3) := dk_180 0 24 (dk_at dksX9_put_1 13 rfl rfl)
theorem dX9_put_39 : decode cX9_put 39 = .ok (.aload_n 1, 1) := dk_43 (dk_at dksX9_put_1 16 rfl rfl)
theorem dX9_put_40 : decode cX9_put 40 = .ok (.invokevirtual 84, 3) := dk_182 0 84 (dk_at dksX9_put_1 17 rfl rfl)
theorem dX9_put_43 : decode cX9_put 43 = .ok (.pop, 1) := dk_87 (dk_at dksX9_put_1 20 rfl rfl)
theorem dX9_put_44 : decode cX9_put 44 = .ok (.aload_n 1, 1) := dk_43 (dk_at dksX9_put_1 21 rfl rfl)
theorem dX9_put_45 : decode cX9_put 45 = .ok (.iload 4, 2) := dk_21 4 (dk_at dksX9_put_1 22 rfl rfl)
theorem dX9_put_47 : decode cX9_put 47 = .ok (.aload_n 0, 1) := dk_42 (dk_at dksX9_put_2 0 rfl rfl)
theorem dX9_put_48 : decode cX9_put 48 = .ok (.iload_n 2, 1) := dk_28 (dk_at dksX9_put_2 1 rfl rfl)
theorem dX9_put_49 : decode cX9_put 49 = .ok (.iload_n 3, 1) := dk_29 (dk_at dksX9_put_2 2 rfl rfl)
theorem dX9_put_50 : decode cX9_put 50 = .ok (.invokevirtual 88, 3) := dk_182 0 88 (dk_at dksX9_put_2 3 rfl rfl)
theorem dX9_put_53 : decode cX9_put 53 = .ok (.return_, 1) := dk_177 (dk_at dksX9_put_2 6 rfl rfl)
abbrev cX9_take : ByteArray := prog_8_method_18_code
def yX9_take : MethodName := ⟨RX9, "take", "(LChurchyardBook$Person;)V"⟩
def dkwX9_take_0 : List UInt8 := [42, 180, 0, 24, 43, 182, 0, 92, 87, 177]
abbrev dktX9_take_0 : List UInt8 := dkwX9_take_0 ++ []
theorem dksX9_take_0 : cX9_take.data.toList.drop 0 = dktX9_take_0 := by decide +kernel
theorem dX9_take_0 : decode cX9_take 0 = .ok (.aload_n 0, 1) := dk_42 (dk_at dksX9_take_0 0 rfl rfl)
theorem dX9_take_1 : decode cX9_take 1 = .ok (.getfield 24, 3) := dk_180 0 24 (dk_at dksX9_take_0 1 rfl rfl)
theorem dX9_take_4 : decode cX9_take 4 = .ok (.aload_n 1, 1) := dk_43 (dk_at dksX9_take_0 4 rfl rfl)
theorem dX9_take_5 : decode cX9_take 5 = .ok (.invokevirtual 92, 3) := dk_182 0 92 (dk_at dksX9_take_0 5 rfl rfl)
theorem dX9_take_8 : decode cX9_take 8 = .ok (.pop, 1) := dk_87 (dk_at dksX9_take_0 8 rfl rfl)
theorem dX9_take_9 : decode cX9_take 9 = .ok (.return_, 1) := dk_177 (dk_at dksX9_take_0 9 rfl rfl)
abbrev cX9_hasRest : ByteArray := prog_8_method_15_code
def yX9_hasRest : MethodName := ⟨RX9, "hasRest", "(I)Z"⟩
def dkwX9_hasRest_1 : List UInt8 := [27, 182, 0, 71, 153, 0, 5, 4, 172, 132, 2, 1, 167, 255, 222, 3, 172]
abbrev dktX9_hasRest_1 : List UInt8 := dkwX9_hasRest_1 ++ []
def dkwX9_hasRest_0 : List UInt8 := [3, 61, 28, 42, 180, 0, 24, 182, 0, 52, 162, 0, 29, 42, 180, 0, 24, 28, 182, 0, 55, 192, 0, 59]
abbrev dktX9_hasRest_0 : List UInt8 := dkwX9_hasRest_0 ++ dktX9_hasRest_1
theorem dksX9_hasRest_0 : cX9_hasRest.data.toList.drop 0 = dktX9_hasRest_0 := by decide +kernel
theorem dksX9_hasRest_1 : cX9_hasRest.data.toList.drop 24 = dktX9_hasRest_1 := dk_seg dksX9_hasRest_0 24 rfl rfl
theorem dX9_hasRest_0 : decode cX9_hasRest 0 = .ok (.iconst 0, 1) := dk_3 (dk_at dksX9_hasRest_0 0 rfl rfl)
theorem dX9_hasRest_1 : decode cX9_hasRest 1 = .ok (.istore_n 2, 1) := dk_61 (dk_at dksX9_hasRest_0 1 rfl rfl)
theorem dX9_hasRest_2 : decode cX9_hasRest 2 = .ok (.iload_n 2, 1) := dk_28 (dk_at dksX9_hasRest_0 2 rfl rfl)
theorem dX9_hasRest_3 : decode cX9_hasRest 3 = .ok (.aload_n 0, 1) := dk_42 (dk_at dksX9_hasRest_0 3 rfl rfl)
theorem dX9_hasRest_4 : decode cX9_hasRest 4 = .ok (.getfield 24, 3) := dk_180 0 24 (dk_at dksX9_hasRest_0 4 rfl rfl)
theorem dX9_hasRest_7 : decode cX9_hasRest 7 = .ok (.invokevirtual 52, 3) := dk_182 0 52 (dk_at dksX9_hasRest_0 7 rfl rfl)
theorem dX9_hasRest_10 : decode cX9_hasRest 10 = .ok (.if_icmp .ge 29, 3) := dk_162 0 29 (dk_at dksX9_hasRest_0 10 rfl rfl)
theorem dX9_hasRest_13 : decode cX9_hasRest 13 = .ok (.aload_n 0, 1) := dk_42 (dk_at dksX9_hasRest_0 13 rfl rfl)
theorem dX9_hasRest_14 : decode cX9_hasRest 14 = .ok (.getfield 24, 3) := dk_180 0 24 (dk_at dksX9_hasRest_0 14 rfl rfl)
theorem dX9_hasRest_17 : decode cX9_hasRest 17 = .ok (.iload_n 2, 1) := dk_28 (dk_at dksX9_hasRest_0 17 rfl rfl)
theorem dX9_hasRest_18 : decode cX9_hasRest 18 = .ok (.invokevirtual 55, 3) := dk_182 0 55 (dk_at dksX9_hasRest_0 18 rfl rfl)
theorem dX9_hasRest_21 : decode cX9_hasRest 21 = .ok (.checkcast 59, 3) := dk_192 0 59 (dk_at dksX9_hasRest_0 21 rfl rfl)
theorem dX9_hasRest_24 : decode cX9_hasRest 24 = .ok (.iload_n 1, 1) := dk_27 (dk_at dksX9_hasRest_1 0 rfl rfl)
theorem dX9_hasRest_25 : decode cX9_hasRest 25 = .ok (.invokevirtual 71, 3) := dk_182 0 71 (dk_at dksX9_hasRest_1 1 rfl rfl)
theorem dX9_hasRest_28 : decode cX9_hasRest 28 = .ok (.ifCond .eq 5, 3) := dk_153 0 5 (dk_at dksX9_hasRest_1 4 rfl rfl)
theorem dX9_hasRest_31 : decode cX9_hasRest 31 = .ok (.iconst 1, 1) := dk_4 (dk_at dksX9_hasRest_1 7 rfl rfl)
theorem dX9_hasRest_32 : decode cX9_hasRest 32 = .ok (.ireturn, 1) := dk_172 (dk_at dksX9_hasRest_1 8 rfl rfl)
theorem dX9_hasRest_33 : decode cX9_hasRest 33 = .ok (.iinc 2 1, 3) := dk_132 2 1 (dk_at dksX9_hasRest_1 9 rfl rfl)
theorem dX9_hasRest_36 : decode cX9_hasRest 36 = .ok (.goto (-34), 3) := dk_167 255 222 (dk_at dksX9_hasRest_1 12 rfl rfl)
theorem dX9_hasRest_39 : decode cX9_hasRest 39 = .ok (.iconst 0, 1) := dk_3 (dk_at dksX9_hasRest_1 15 rfl rfl)
theorem dX9_hasRest_40 : decode cX9_hasRest 40 = .ok (.ireturn, 1) := dk_172 (dk_at dksX9_hasRest_1 16 rfl rfl)
abbrev cX9_turn : ByteArray := prog_8_method_23_code
def yX9_turn : MethodName := ⟨RX9, "turn", "(I)V"⟩
def dkwX9_turn_4 : List UInt8 := [182, 0, 130, 167, 0, 8, 42, 29, 182, 0, 133, 167, 255, 156, 177]
abbrev dktX9_turn_4 : List UInt8 := dkwX9_turn_4 ++ []
def dkwX9_turn_3 : List UInt8 := [154, 0, 6, 167, 255, 186, 29, 42, 180, 0, 45, 163, 0, 10, 42, 180, 0, 99, 199, 0, 10, 42]
abbrev dktX9_turn_3 : List UInt8 := dkwX9_turn_3 ++ dktX9_turn_4
def dkwX9_turn_2 : List UInt8 := [167, 0, 9, 42, 180, 0, 45, 4, 96, 62, 29, 27, 163, 0, 7, 4, 167, 0, 4, 3, 61, 28]
abbrev dktX9_turn_2 : List UInt8 := dkwX9_turn_2 ++ dktX9_turn_3
def dkwX9_turn_1 : List UInt8 := [180, 0, 9, 5, 160, 0, 23, 42, 180, 0, 119, 42, 180, 0, 45, 162, 0, 12, 42, 180, 0, 119, 4, 96]
abbrev dktX9_turn_1 : List UInt8 := dkwX9_turn_1 ++ dktX9_turn_2
def dkwX9_turn_0 : List UInt8 := [4, 61, 28, 153, 0, 102, 42, 180, 0, 9, 4, 159, 0, 11, 42, 180, 0, 9, 5, 160, 0, 86, 42]
abbrev dktX9_turn_0 : List UInt8 := dkwX9_turn_0 ++ dktX9_turn_1
theorem dksX9_turn_0 : cX9_turn.data.toList.drop 0 = dktX9_turn_0 := by decide +kernel
theorem dksX9_turn_1 : cX9_turn.data.toList.drop 23 = dktX9_turn_1 := dk_seg dksX9_turn_0 23 rfl rfl
theorem dksX9_turn_2 : cX9_turn.data.toList.drop 47 = dktX9_turn_2 := dk_seg dksX9_turn_1 24 rfl rfl
theorem dksX9_turn_3 : cX9_turn.data.toList.drop 69 = dktX9_turn_3 := dk_seg dksX9_turn_2 22 rfl rfl
theorem dksX9_turn_4 : cX9_turn.data.toList.drop 91 = dktX9_turn_4 := dk_seg dksX9_turn_3 22 rfl rfl
theorem dX9_turn_0 : decode cX9_turn 0 = .ok (.iconst 1, 1) := dk_4 (dk_at dksX9_turn_0 0 rfl rfl)
theorem dX9_turn_1 : decode cX9_turn 1 = .ok (.istore_n 2, 1) := dk_61 (dk_at dksX9_turn_0 1 rfl rfl)
theorem dX9_turn_2 : decode cX9_turn 2 = .ok (.iload_n 2, 1) := dk_28 (dk_at dksX9_turn_0 2 rfl rfl)
theorem dX9_turn_3 : decode cX9_turn 3 = .ok (.ifCond .eq 102, 3) := dk_153 0 102 (dk_at dksX9_turn_0 3 rfl rfl)
theorem dX9_turn_6 : decode cX9_turn 6 = .ok (.aload_n 0, 1) := dk_42 (dk_at dksX9_turn_0 6 rfl rfl)
theorem dX9_turn_7 : decode cX9_turn 7 = .ok (.getfield 9, 3) := dk_180 0 9 (dk_at dksX9_turn_0 7 rfl rfl)
theorem dX9_turn_10 : decode cX9_turn 10 = .ok (.iconst 1, 1) := dk_4 (dk_at dksX9_turn_0 10 rfl rfl)
theorem dX9_turn_11 : decode cX9_turn 11 = .ok (.if_icmp .eq 11, 3) := dk_159 0 11 (dk_at dksX9_turn_0 11 rfl rfl)
theorem dX9_turn_14 : decode cX9_turn 14 = .ok (.aload_n 0, 1) := dk_42 (dk_at dksX9_turn_0 14 rfl rfl)
theorem dX9_turn_15 : decode cX9_turn 15 = .ok (.getfield 9, 3) := dk_180 0 9 (dk_at dksX9_turn_0 15 rfl rfl)
theorem dX9_turn_18 : decode cX9_turn 18 = .ok (.iconst 2, 1) := dk_5 (dk_at dksX9_turn_0 18 rfl rfl)
theorem dX9_turn_19 : decode cX9_turn 19 = .ok (.if_icmp .ne 86, 3) := dk_160 0 86 (dk_at dksX9_turn_0 19 rfl rfl)
theorem dX9_turn_22 : decode cX9_turn 22 = .ok (.aload_n 0, 1) := dk_42 (dk_at dksX9_turn_0 22 rfl rfl)
theorem dX9_turn_23 : decode cX9_turn 23 = .ok (.getfield 9, 3) := dk_180 0 9 (dk_at dksX9_turn_1 0 rfl rfl)
theorem dX9_turn_26 : decode cX9_turn 26 = .ok (.iconst 2, 1) := dk_5 (dk_at dksX9_turn_1 3 rfl rfl)
theorem dX9_turn_27 : decode cX9_turn 27 = .ok (.if_icmp .ne 23, 3) := dk_160 0 23 (dk_at dksX9_turn_1 4 rfl rfl)
theorem dX9_turn_30 : decode cX9_turn 30 = .ok (.aload_n 0, 1) := dk_42 (dk_at dksX9_turn_1 7 rfl rfl)
theorem dX9_turn_31 : decode cX9_turn 31 = .ok (.getfield 119, 3) := dk_180 0 119 (dk_at dksX9_turn_1 8 rfl rfl)
theorem dX9_turn_34 : decode cX9_turn 34 = .ok (.aload_n 0, 1) := dk_42 (dk_at dksX9_turn_1 11 rfl rfl)
theorem dX9_turn_35 : decode cX9_turn 35 = .ok (.getfield 45, 3) := dk_180 0 45 (dk_at dksX9_turn_1 12 rfl rfl)
theorem dX9_turn_38 : decode cX9_turn 38 = .ok (.if_icmp .ge 12, 3) := dk_162 0 12 (dk_at dksX9_turn_1 15 rfl rfl)
theorem dX9_turn_41 : decode cX9_turn 41 = .ok (.aload_n 0, 1) := dk_42 (dk_at dksX9_turn_1 18 rfl rfl)
theorem dX9_turn_42 : decode cX9_turn 42 = .ok (.getfield 119, 3) := dk_180 0 119 (dk_at dksX9_turn_1 19 rfl rfl)
theorem dX9_turn_45 : decode cX9_turn 45 = .ok (.iconst 1, 1) := dk_4 (dk_at dksX9_turn_1 22 rfl rfl)
theorem dX9_turn_46 : decode cX9_turn 46 = .ok (.iadd, 1) := dk_96 (dk_at dksX9_turn_1 23 rfl rfl)
theorem dX9_turn_47 : decode cX9_turn 47 = .ok (.goto 9, 3) := dk_167 0 9 (dk_at dksX9_turn_2 0 rfl rfl)
theorem dX9_turn_50 : decode cX9_turn 50 = .ok (.aload_n 0, 1) := dk_42 (dk_at dksX9_turn_2 3 rfl rfl)
theorem dX9_turn_51 : decode cX9_turn 51 = .ok (.getfield 45, 3) := dk_180 0 45 (dk_at dksX9_turn_2 4 rfl rfl)
theorem dX9_turn_54 : decode cX9_turn 54 = .ok (.iconst 1, 1) := dk_4 (dk_at dksX9_turn_2 7 rfl rfl)
theorem dX9_turn_55 : decode cX9_turn 55 = .ok (.iadd, 1) := dk_96 (dk_at dksX9_turn_2 8 rfl rfl)
theorem dX9_turn_56 : decode cX9_turn 56 = .ok (.istore_n 3, 1) := dk_62 (dk_at dksX9_turn_2 9 rfl rfl)
theorem dX9_turn_57 : decode cX9_turn 57 = .ok (.iload_n 3, 1) := dk_29 (dk_at dksX9_turn_2 10 rfl rfl)
theorem dX9_turn_58 : decode cX9_turn 58 = .ok (.iload_n 1, 1) := dk_27 (dk_at dksX9_turn_2 11 rfl rfl)
theorem dX9_turn_59 : decode cX9_turn 59 = .ok (.if_icmp .gt 7, 3) := dk_163 0 7 (dk_at dksX9_turn_2 12 rfl rfl)
theorem dX9_turn_62 : decode cX9_turn 62 = .ok (.iconst 1, 1) := dk_4 (dk_at dksX9_turn_2 15 rfl rfl)
theorem dX9_turn_63 : decode cX9_turn 63 = .ok (.goto 4, 3) := dk_167 0 4 (dk_at dksX9_turn_2 16 rfl rfl)
theorem dX9_turn_66 : decode cX9_turn 66 = .ok (.iconst 0, 1) := dk_3 (dk_at dksX9_turn_2 19 rfl rfl)
theorem dX9_turn_67 : decode cX9_turn 67 = .ok (.istore_n 2, 1) := dk_61 (dk_at dksX9_turn_2 20 rfl rfl)
theorem dX9_turn_68 : decode cX9_turn 68 = .ok (.iload_n 2, 1) := dk_28 (dk_at dksX9_turn_2 21 rfl rfl)
theorem dX9_turn_69 : decode cX9_turn 69 = .ok (.ifCond .ne 6, 3) := dk_154 0 6 (dk_at dksX9_turn_3 0 rfl rfl)
theorem dX9_turn_72 : decode cX9_turn 72 = .ok (.goto (-70), 3) := dk_167 255 186 (dk_at dksX9_turn_3 3 rfl rfl)
theorem dX9_turn_75 : decode cX9_turn 75 = .ok (.iload_n 3, 1) := dk_29 (dk_at dksX9_turn_3 6 rfl rfl)
theorem dX9_turn_76 : decode cX9_turn 76 = .ok (.aload_n 0, 1) := dk_42 (dk_at dksX9_turn_3 7 rfl rfl)
theorem dX9_turn_77 : decode cX9_turn 77 = .ok (.getfield 45, 3) := dk_180 0 45 (dk_at dksX9_turn_3 8 rfl rfl)
theorem dX9_turn_80 : decode cX9_turn 80 = .ok (.if_icmp .gt 10, 3) := dk_163 0 10 (dk_at dksX9_turn_3 11 rfl rfl)
theorem dX9_turn_83 : decode cX9_turn 83 = .ok (.aload_n 0, 1) := dk_42 (dk_at dksX9_turn_3 14 rfl rfl)
theorem dX9_turn_84 : decode cX9_turn 84 = .ok (.getfield 99, 3) := dk_180 0 99 (dk_at dksX9_turn_3 15 rfl rfl)
theorem dX9_turn_87 : decode cX9_turn 87 = .ok (.ifnonnull 10, 3) := dk_199 0 10 (dk_at dksX9_turn_3 18 rfl rfl)
theorem dX9_turn_90 : decode cX9_turn 90 = .ok (.aload_n 0, 1) := dk_42 (dk_at dksX9_turn_3 21 rfl rfl)
theorem dX9_turn_91 : decode cX9_turn 91 = .ok (.invokevirtual 130, 3) := dk_182 0 130 (dk_at dksX9_turn_4 0 rfl rfl)
theorem dX9_turn_94 : decode cX9_turn 94 = .ok (.goto 8, 3) := dk_167 0 8 (dk_at dksX9_turn_4 3 rfl rfl)
theorem dX9_turn_97 : decode cX9_turn 97 = .ok (.aload_n 0, 1) := dk_42 (dk_at dksX9_turn_4 6 rfl rfl)
theorem dX9_turn_98 : decode cX9_turn 98 = .ok (.iload_n 3, 1) := dk_29 (dk_at dksX9_turn_4 7 rfl rfl)
theorem dX9_turn_99 : decode cX9_turn 99 = .ok (.invokevirtual 133, 3) := dk_182 0 133 (dk_at dksX9_turn_4 8 rfl rfl)
theorem dX9_turn_102 : decode cX9_turn 102 = .ok (.goto (-100), 3) := dk_167 255 156 (dk_at dksX9_turn_4 11 rfl rfl)
theorem dX9_turn_105 : decode cX9_turn 105 = .ok (.return_, 1) := dk_177 (dk_at dksX9_turn_4 14 rfl rfl)
abbrev cX9_falls : ByteArray := prog_8_method_20_code
def yX9_falls : MethodName := ⟨RX9, "falls", "()V"⟩
def dkwX9_falls_1 : List UInt8 := [181, 0, 105, 42, 1, 181, 0, 109, 177]
abbrev dktX9_falls_1 : List UInt8 := dkwX9_falls_1 ++ []
def dkwX9_falls_0 : List UInt8 := [42, 6, 181, 0, 9, 42, 1, 181, 0, 95, 42, 1, 181, 0, 99, 42, 180, 0, 20, 182, 0, 102, 42, 1]
abbrev dktX9_falls_0 : List UInt8 := dkwX9_falls_0 ++ dktX9_falls_1
theorem dksX9_falls_0 : cX9_falls.data.toList.drop 0 = dktX9_falls_0 := by decide +kernel
theorem dksX9_falls_1 : cX9_falls.data.toList.drop 24 = dktX9_falls_1 := dk_seg dksX9_falls_0 24 rfl rfl
theorem dX9_falls_0 : decode cX9_falls 0 = .ok (.aload_n 0, 1) := dk_42 (dk_at dksX9_falls_0 0 rfl rfl)
theorem dX9_falls_1 : decode cX9_falls 1 = .ok (.iconst 3, 1) := dk_6 (dk_at dksX9_falls_0 1 rfl rfl)
theorem dX9_falls_2 : decode cX9_falls 2 = .ok (.putfield 9, 3) := dk_181 0 9 (dk_at dksX9_falls_0 2 rfl rfl)
theorem dX9_falls_5 : decode cX9_falls 5 = .ok (.aload_n 0, 1) := dk_42 (dk_at dksX9_falls_0 5 rfl rfl)
theorem dX9_falls_6 : decode cX9_falls 6 = .ok (.aconst_null, 1) := dk_1 (dk_at dksX9_falls_0 6 rfl rfl)
theorem dX9_falls_7 : decode cX9_falls 7 = .ok (.putfield 95, 3) := dk_181 0 95 (dk_at dksX9_falls_0 7 rfl rfl)
theorem dX9_falls_10 : decode cX9_falls 10 = .ok (.aload_n 0, 1) := dk_42 (dk_at dksX9_falls_0 10 rfl rfl)
theorem dX9_falls_11 : decode cX9_falls 11 = .ok (.aconst_null, 1) := dk_1 (dk_at dksX9_falls_0 11 rfl rfl)
theorem dX9_falls_12 : decode cX9_falls 12 = .ok (.putfield 99, 3) := dk_181 0 99 (dk_at dksX9_falls_0 12 rfl rfl)
theorem dX9_falls_15 : decode cX9_falls 15 = .ok (.aload_n 0, 1) := dk_42 (dk_at dksX9_falls_0 15 rfl rfl)
theorem dX9_falls_16 : decode cX9_falls 16 = .ok (.getfield 20, 3) := dk_180 0 20 (dk_at dksX9_falls_0 16 rfl rfl)
theorem dX9_falls_19 : decode cX9_falls 19 = .ok (.invokevirtual 102, 3) := dk_182 0 102 (dk_at dksX9_falls_0 19 rfl rfl)
theorem dX9_falls_22 : decode cX9_falls 22 = .ok (.aload_n 0, 1) := dk_42 (dk_at dksX9_falls_0 22 rfl rfl)
theorem dX9_falls_23 : decode cX9_falls 23 = .ok (.aconst_null, 1) := dk_1 (dk_at dksX9_falls_0 23 rfl rfl)
theorem dX9_falls_24 : decode cX9_falls 24 = .ok (.putfield 105, 3) := dk_181 0 105 (dk_at dksX9_falls_1 0 rfl rfl)
theorem dX9_falls_27 : decode cX9_falls 27 = .ok (.aload_n 0, 1) := dk_42 (dk_at dksX9_falls_1 3 rfl rfl)
theorem dX9_falls_28 : decode cX9_falls 28 = .ok (.aconst_null, 1) := dk_1 (dk_at dksX9_falls_1 4 rfl rfl)
theorem dX9_falls_29 : decode cX9_falls 29 = .ok (.putfield 109, 3) := dk_181 0 109 (dk_at dksX9_falls_1 5 rfl rfl)
theorem dX9_falls_32 : decode cX9_falls 32 = .ok (.return_, 1) := dk_177 (dk_at dksX9_falls_1 8 rfl rfl)
abbrev cX9_what : ByteArray := prog_8_method_2_code
def yX9_what : MethodName := ⟨RX9, "what", "()I"⟩
def dkwX9_what_0 : List UInt8 := [16, 10, 42, 180, 0, 27, 96, 172]
abbrev dktX9_what_0 : List UInt8 := dkwX9_what_0 ++ []
theorem dksX9_what_0 : cX9_what.data.toList.drop 0 = dktX9_what_0 := by decide +kernel
theorem dX9_what_0 : decode cX9_what 0 = .ok (.bipush 10, 2) := dk_16 10 (dk_at dksX9_what_0 0 rfl rfl)
theorem dX9_what_2 : decode cX9_what 2 = .ok (.aload_n 0, 1) := dk_42 (dk_at dksX9_what_0 2 rfl rfl)
theorem dX9_what_3 : decode cX9_what 3 = .ok (.getfield 27, 3) := dk_180 0 27 (dk_at dksX9_what_0 3 rfl rfl)
theorem dX9_what_6 : decode cX9_what 6 = .ok (.iadd, 1) := dk_96 (dk_at dksX9_what_0 6 rfl rfl)
theorem dX9_what_7 : decode cX9_what 7 = .ok (.ireturn, 1) := dk_172 (dk_at dksX9_what_0 7 rfl rfl)
abbrev cX9_greatestEnd : ByteArray := prog_8_method_16_code
def yX9_greatestEnd : MethodName := ⟨RX9, "greatestEnd", "()I"⟩
def dkwX9_greatestEnd_1 : List UInt8 := [192, 0, 59, 180, 0, 75, 184, 0, 78, 60, 132, 2, 1, 167, 255, 223, 27, 172]
abbrev dktX9_greatestEnd_1 : List UInt8 := dkwX9_greatestEnd_1 ++ []
def dkwX9_greatestEnd_0 : List UInt8 := [3, 60, 3, 61, 28, 42, 180, 0, 24, 182, 0, 52, 162, 0, 28, 27, 42, 180, 0, 24, 28, 182, 0, 55]
abbrev dktX9_greatestEnd_0 : List UInt8 := dkwX9_greatestEnd_0 ++ dktX9_greatestEnd_1
theorem dksX9_greatestEnd_0 : cX9_greatestEnd.data.toList.drop 0 = dktX9_greatestEnd_0 := by decide +kernel
theorem dksX9_greatestEnd_1 : cX9_greatestEnd.data.toList.drop 24 = dktX9_greatestEnd_1 := dk_seg dksX9_greatestEnd_0 24 rfl rfl
theorem dX9_greatestEnd_0 : decode cX9_greatestEnd 0 = .ok (.iconst 0, 1) := dk_3 (dk_at dksX9_greatestEnd_0 0 rfl rfl)
theorem dX9_greatestEnd_1 : decode cX9_greatestEnd 1 = .ok (.istore_n 1, 1) := dk_60 (dk_at dksX9_greatestEnd_0 1 rfl rfl)
theorem dX9_greatestEnd_2 : decode cX9_greatestEnd 2 = .ok (.iconst 0, 1) := dk_3 (dk_at dksX9_greatestEnd_0 2 rfl rfl)
theorem dX9_greatestEnd_3 : decode cX9_greatestEnd 3 = .ok (.istore_n 2, 1) := dk_61 (dk_at dksX9_greatestEnd_0 3 rfl rfl)
theorem dX9_greatestEnd_4 : decode cX9_greatestEnd 4 = .ok (.iload_n 2, 1) := dk_28 (dk_at dksX9_greatestEnd_0 4 rfl rfl)
theorem dX9_greatestEnd_5 : decode cX9_greatestEnd 5 = .ok (.aload_n 0, 1) := dk_42 (dk_at dksX9_greatestEnd_0 5 rfl rfl)
theorem dX9_greatestEnd_6 : decode cX9_greatestEnd 6 = .ok (.getfield 24, 3) := dk_180 0 24 (dk_at dksX9_greatestEnd_0 6 rfl rfl)
theorem dX9_greatestEnd_9 : decode cX9_greatestEnd 9 = .ok (.invokevirtual 52, 3) := dk_182 0 52 (dk_at dksX9_greatestEnd_0 9 rfl rfl)
theorem dX9_greatestEnd_12 : decode cX9_greatestEnd 12 = .ok (.if_icmp .ge 28, 3) := dk_162 0 28 (dk_at dksX9_greatestEnd_0 12 rfl rfl)
theorem dX9_greatestEnd_15 : decode cX9_greatestEnd 15 = .ok (.iload_n 1, 1) := dk_27 (dk_at dksX9_greatestEnd_0 15 rfl rfl)
theorem dX9_greatestEnd_16 : decode cX9_greatestEnd 16 = .ok (.aload_n 0, 1) := dk_42 (dk_at dksX9_greatestEnd_0 16 rfl rfl)
theorem dX9_greatestEnd_17 : decode cX9_greatestEnd 17 = .ok (.getfield 24, 3) := dk_180 0 24 (dk_at dksX9_greatestEnd_0 17 rfl rfl)
theorem dX9_greatestEnd_20 : decode cX9_greatestEnd 20 = .ok (.iload_n 2, 1) := dk_28 (dk_at dksX9_greatestEnd_0 20 rfl rfl)
theorem dX9_greatestEnd_21 : decode cX9_greatestEnd 21 = .ok (.invokevirtual 55, 3) := dk_182 0 55 (dk_at dksX9_greatestEnd_0 21 rfl rfl)
theorem dX9_greatestEnd_24 : decode cX9_greatestEnd 24 = .ok (.checkcast 59, 3) := dk_192 0 59 (dk_at dksX9_greatestEnd_1 0 rfl rfl)
theorem dX9_greatestEnd_27 : decode cX9_greatestEnd 27 = .ok (.getfield 75, 3) := dk_180 0 75 (dk_at dksX9_greatestEnd_1 3 rfl rfl)
theorem dX9_greatestEnd_30 : decode cX9_greatestEnd 30 = .ok (.invokestatic 78, 3) := dk_184 0 78 (dk_at dksX9_greatestEnd_1 6 rfl rfl)
theorem dX9_greatestEnd_33 : decode cX9_greatestEnd 33 = .ok (.istore_n 1, 1) := dk_60 (dk_at dksX9_greatestEnd_1 9 rfl rfl)
theorem dX9_greatestEnd_34 : decode cX9_greatestEnd 34 = .ok (.iinc 2 1, 3) := dk_132 2 1 (dk_at dksX9_greatestEnd_1 10 rfl rfl)
theorem dX9_greatestEnd_37 : decode cX9_greatestEnd 37 = .ok (.goto (-33), 3) := dk_167 255 223 (dk_at dksX9_greatestEnd_1 13 rfl rfl)
theorem dX9_greatestEnd_40 : decode cX9_greatestEnd 40 = .ok (.iload_n 1, 1) := dk_27 (dk_at dksX9_greatestEnd_1 16 rfl rfl)
theorem dX9_greatestEnd_41 : decode cX9_greatestEnd 41 = .ok (.ireturn, 1) := dk_172 (dk_at dksX9_greatestEnd_1 17 rfl rfl)
theorem q114 : (Jvm.Cond.initialized "ChurchyardBook$Grave") ∈ lw_all := lw_g (lw_at lw_m1 28 rfl) rfl
theorem q649 : (Jvm.Cond.instanceMethod ({ cls := "ChurchyardBook$Grave", name := "<init>", desc := "(IIIIII)V" } : Jvm.MethodName)) ∈ lw_all := lw_g (lw_at lw_m3 83 rfl) rfl
theorem q650 : (Jvm.Cond.code ({ cls := "ChurchyardBook$Grave", name := "<init>", desc := "(IIIIII)V" } : Jvm.MethodName) prog_8_method_1_code (7 : Nat) (Option.none : Option Jvm.ClassFile.FieldType)) ∈ lw_all := lw_g (lw_at lw_m3 84 rfl) rfl
theorem q651 : (Jvm.Cond.methodLinkNest "ChurchyardBook$Grave" (3 : Nat) ({ cls := "ChurchyardBook$Place", name := "<init>", desc := "()V" } : Jvm.MethodName) "ChurchyardBook") ∈ lw_tbl := lw_at lw_m3 85 rfl
theorem q652 : (Jvm.Cond.classLink "ChurchyardBook$Grave" (15 : Nat) "java/util/ArrayList") ∈ lw_all := lw_g (lw_at lw_m3 86 rfl) rfl
theorem q653 : (Jvm.Cond.methodLink "ChurchyardBook$Grave" (17 : Nat) ({ cls := "java/util/ArrayList", name := "<init>", desc := "(I)V" } : Jvm.MethodName)) ∈ lw_all := lw_g (lw_at lw_m3 87 rfl) rfl
theorem q654 : (Jvm.Cond.fieldLink "ChurchyardBook$Grave" (27 : Nat) "ChurchyardBook$Grave" "number" "I") ∈ lw_all := lw_g (lw_at lw_m3 88 rfl) rfl
theorem q657 : (Jvm.Cond.fieldLink "ChurchyardBook$Grave" (30 : Nat) "ChurchyardBook$Grave" "field" "I") ∈ lw_all := lw_g (lw_at lw_m3 91 rfl) rfl
theorem q660 : (Jvm.Cond.fieldLink "ChurchyardBook$Grave" (33 : Nat) "ChurchyardBook$Grave" "row" "I") ∈ lw_all := lw_g (lw_at lw_m3 94 rfl) rfl
theorem q663 : (Jvm.Cond.fieldLink "ChurchyardBook$Grave" (36 : Nat) "ChurchyardBook$Grave" "place" "I") ∈ lw_all := lw_g (lw_at lw_m3 97 rfl) rfl
theorem q666 : (Jvm.Cond.fieldLink "ChurchyardBook$Grave" (39 : Nat) "ChurchyardBook$Grave" "wide" "I") ∈ lw_all := lw_g (lw_at lw_m3 100 rfl) rfl
theorem q670 : (Jvm.Cond.fieldLink "ChurchyardBook$Grave" (42 : Nat) "ChurchyardBook$Grave" "ground" "I") ∈ lw_all := lw_g (lw_at lw_m3 104 rfl) rfl
theorem q671 : (Jvm.Cond.fieldLink "ChurchyardBook$Grave" (9 : Nat) "ChurchyardBook$Grave" "state" "I") ∈ lw_all := lw_g (lw_at lw_m3 105 rfl) rfl
theorem q674 : (Jvm.Cond.fieldLink "ChurchyardBook$Grave" (95 : Nat) "ChurchyardBook$Grave" "holder" "LChurchyardBook$Person;") ∈ lw_all := lw_g (lw_at lw_m3 108 rfl) rfl
theorem q677 : (Jvm.Cond.fieldLink "ChurchyardBook$Grave" (45 : Nat) "ChurchyardBook$Grave" "to" "I") ∈ lw_all := lw_g (lw_at lw_m3 111 rfl) rfl
theorem q680 : (Jvm.Cond.fieldLink "ChurchyardBook$Grave" (99 : Nat) "ChurchyardBook$Grave" "offered" "LChurchyardBook$Person;") ∈ lw_all := lw_g (lw_at lw_m3 114 rfl) rfl
theorem q683 : (Jvm.Cond.fieldLink "ChurchyardBook$Grave" (119 : Nat) "ChurchyardBook$Grave" "date" "I") ∈ lw_all := lw_g (lw_at lw_m3 117 rfl) rfl
theorem q685 : (Jvm.Cond.fieldLink "ChurchyardBook$Grave" (20 : Nat) "ChurchyardBook$Grave" "order" "Ljava/util/ArrayList;") ∈ lw_all := lw_g (lw_at lw_m3 119 rfl) rfl
theorem q688 : (Jvm.Cond.fieldLink "ChurchyardBook$Grave" (112 : Nat) "ChurchyardBook$Grave" "at" "I") ∈ lw_all := lw_g (lw_at lw_m3 122 rfl) rfl
theorem q691 : (Jvm.Cond.fieldLink "ChurchyardBook$Grave" (105 : Nat) "ChurchyardBook$Grave" "told" "[Z") ∈ lw_all := lw_g (lw_at lw_m3 125 rfl) rfl
theorem q693 : (Jvm.Cond.fieldLink "ChurchyardBook$Grave" (109 : Nat) "ChurchyardBook$Grave" "from" "LChurchyardBook$Person;") ∈ lw_all := lw_g (lw_at lw_m3 127 rfl) rfl
theorem q695 : (Jvm.Cond.fieldLink "ChurchyardBook$Grave" (24 : Nat) "ChurchyardBook$Grave" "lying" "Ljava/util/ArrayList;") ∈ lw_all := lw_g (lw_at lw_m3 129 rfl) rfl
theorem q703 : (Jvm.Cond.soleField "ChurchyardBook$Grave" "number") ∈ lw_all := lw_g (lw_at lw_m3 137 rfl) rfl
theorem q705 : (Jvm.Cond.soleField "ChurchyardBook$Grave" "field") ∈ lw_all := lw_g (lw_at lw_m3 139 rfl) rfl
theorem q707 : (Jvm.Cond.soleField "ChurchyardBook$Grave" "row") ∈ lw_all := lw_g (lw_at lw_m3 141 rfl) rfl
theorem q709 : (Jvm.Cond.soleField "ChurchyardBook$Grave" "place") ∈ lw_all := lw_g (lw_at lw_m3 143 rfl) rfl
theorem q711 : (Jvm.Cond.soleField "ChurchyardBook$Grave" "wide") ∈ lw_all := lw_g (lw_at lw_m3 145 rfl) rfl
theorem q713 : (Jvm.Cond.soleField "ChurchyardBook$Grave" "ground") ∈ lw_all := lw_g (lw_at lw_m3 147 rfl) rfl
theorem q715 : (Jvm.Cond.soleField "ChurchyardBook$Grave" "state") ∈ lw_all := lw_g (lw_at lw_m3 149 rfl) rfl
theorem q717 : (Jvm.Cond.soleField "ChurchyardBook$Grave" "holder") ∈ lw_all := lw_g (lw_at lw_m3 151 rfl) rfl
theorem q719 : (Jvm.Cond.soleField "ChurchyardBook$Grave" "to") ∈ lw_all := lw_g (lw_at lw_m3 153 rfl) rfl
theorem q721 : (Jvm.Cond.soleField "ChurchyardBook$Grave" "offered") ∈ lw_all := lw_g (lw_at lw_m3 155 rfl) rfl
theorem q723 : (Jvm.Cond.soleField "ChurchyardBook$Grave" "date") ∈ lw_all := lw_g (lw_at lw_m3 157 rfl) rfl
theorem q725 : (Jvm.Cond.soleField "ChurchyardBook$Grave" "order") ∈ lw_all := lw_g (lw_at lw_m3 159 rfl) rfl
theorem q727 : (Jvm.Cond.soleField "ChurchyardBook$Grave" "at") ∈ lw_all := lw_g (lw_at lw_m3 161 rfl) rfl
theorem q729 : (Jvm.Cond.soleField "ChurchyardBook$Grave" "told") ∈ lw_all := lw_g (lw_at lw_m3 163 rfl) rfl
theorem q731 : (Jvm.Cond.soleField "ChurchyardBook$Grave" "from") ∈ lw_all := lw_g (lw_at lw_m3 165 rfl) rfl
theorem q733 : (Jvm.Cond.soleField "ChurchyardBook$Grave" "lying") ∈ lw_all := lw_g (lw_at lw_m3 167 rfl) rfl
theorem q862 : (Jvm.Cond.fieldLink "ChurchyardBook$Grave" (122 : Nat) "ChurchyardBook$Person" "number" "I") ∈ lw_all := lw_g (lw_at lw_m4 56 rfl) rfl
theorem q869 : (Jvm.Cond.fieldLink "ChurchyardBook$Grave" (115 : Nat) "ChurchyardBook$Person" "isDead" "Z") ∈ lw_all := lw_g (lw_at lw_m4 63 rfl) rfl
theorem q874 : (Jvm.Cond.fieldLink "ChurchyardBook$Grave" (123 : Nat) "ChurchyardBook$Person" "wed" "LChurchyardBook$Person;") ∈ lw_all := lw_g (lw_at lw_m4 68 rfl) rfl
theorem q888 : (Jvm.Cond.fieldLink "ChurchyardBook$Grave" (75 : Nat) "ChurchyardBook$Person" "end" "I") ∈ lw_all := lw_g (lw_at lw_m4 82 rfl) rfl
theorem q895 : (Jvm.Cond.fieldLink "ChurchyardBook$Grave" (61 : Nat) "ChurchyardBook$Person" "column" "I") ∈ lw_all := lw_g (lw_at lw_m4 89 rfl) rfl
theorem q899 : (Jvm.Cond.fieldLink "ChurchyardBook$Grave" (64 : Nat) "ChurchyardBook$Person" "depth" "I") ∈ lw_all := lw_g (lw_at lw_m4 93 rfl) rfl
theorem q958 : (Jvm.Cond.instanceMethod ({ cls := "ChurchyardBook$Grave", name := "needsHolder", desc := "()Z" } : Jvm.MethodName)) ∈ lw_all := lw_g (lw_at lw_m4 152 rfl) rfl
theorem q959 : (Jvm.Cond.sameMethod "ChurchyardBook$Grave" "ChurchyardBook$Grave" "needsHolder" "()Z") ∈ lw_all := lw_g (lw_at lw_m4 153 rfl) rfl
theorem q968 : (Jvm.Cond.code ({ cls := "ChurchyardBook$Grave", name := "needsHolder", desc := "()Z" } : Jvm.MethodName) prog_8_method_8_code (1 : Nat) (Option.some Jvm.ClassFile.FieldType.boolean)) ∈ lw_all := lw_g (lw_at lw_m4 162 rfl) rfl
theorem q970 : (Jvm.Cond.instanceMethod ({ cls := "ChurchyardBook$Grave", name := "hold", desc := "(LChurchyardBook$Person;)V" } : Jvm.MethodName)) ∈ lw_all := lw_g (lw_at lw_m4 164 rfl) rfl
theorem q971 : (Jvm.Cond.sameMethod "ChurchyardBook$Grave" "ChurchyardBook$Grave" "hold" "(LChurchyardBook$Person;)V") ∈ lw_all := lw_g (lw_at lw_m4 165 rfl) rfl
theorem q978 : (Jvm.Cond.code ({ cls := "ChurchyardBook$Grave", name := "hold", desc := "(LChurchyardBook$Person;)V" } : Jvm.MethodName) prog_8_method_19_code (2 : Nat) (Option.none : Option Jvm.ClassFile.FieldType)) ∈ lw_all := lw_g (lw_at lw_m4 172 rfl) rfl
theorem q979 : (Jvm.Cond.methodLink "ChurchyardBook$Grave" (102 : Nat) ({ cls := "java/util/ArrayList", name := "clear", desc := "()V" } : Jvm.MethodName)) ∈ lw_all := lw_g (lw_at lw_m4 173 rfl) rfl
theorem q984 : (Jvm.Cond.instanceMethod ({ cls := "ChurchyardBook$Grave", name := "yearly", desc := "()I" } : Jvm.MethodName)) ∈ lw_all := lw_g (lw_at lw_m4 178 rfl) rfl
theorem q985 : (Jvm.Cond.sameMethod "ChurchyardBook$Grave" "ChurchyardBook$Grave" "yearly" "()I") ∈ lw_all := lw_g (lw_at lw_m4 179 rfl) rfl
theorem q993 : (Jvm.Cond.declares ({ cls := "ChurchyardBook$Grave", name := "yearly", desc := "()I" } : Jvm.MethodName)) ∈ lw_tbl := lw_at lw_m4 187 rfl
theorem q994 : (Jvm.Cond.code ({ cls := "ChurchyardBook$Grave", name := "yearly", desc := "()I" } : Jvm.MethodName) prog_8_method_9_code (1 : Nat) (Option.some Jvm.ClassFile.FieldType.int)) ∈ lw_all := lw_g (lw_at lw_m4 188 rfl) rfl
theorem q1079 : (Jvm.Cond.instanceMethod ({ cls := "ChurchyardBook$Grave", name := "passOn", desc := "(I)V" } : Jvm.MethodName)) ∈ lw_all := lw_g (lw_at lw_m5 33 rfl) rfl
theorem q1080 : (Jvm.Cond.sameMethod "ChurchyardBook$Grave" "ChurchyardBook$Grave" "passOn" "(I)V") ∈ lw_all := lw_g (lw_at lw_m5 34 rfl) rfl
theorem q1087 : (Jvm.Cond.code ({ cls := "ChurchyardBook$Grave", name := "passOn", desc := "(I)V" } : Jvm.MethodName) prog_8_method_21_code (2 : Nat) (Option.none : Option Jvm.ClassFile.FieldType)) ∈ lw_all := lw_g (lw_at lw_m5 41 rfl) rfl
theorem q1088 : (Jvm.Cond.methodLink "ChurchyardBook$Grave" (52 : Nat) ({ cls := "java/util/ArrayList", name := "size", desc := "()I" } : Jvm.MethodName)) ∈ lw_all := lw_g (lw_at lw_m5 42 rfl) rfl
theorem q1089 : (Jvm.Cond.methodLink "ChurchyardBook$Grave" (55 : Nat) ({ cls := "java/util/ArrayList", name := "get", desc := "(I)Ljava/lang/Object;" } : Jvm.MethodName)) ∈ lw_all := lw_g (lw_at lw_m5 43 rfl) rfl
theorem q1090 : (Jvm.Cond.classLink "ChurchyardBook$Grave" (59 : Nat) "ChurchyardBook$Person") ∈ lw_all := lw_g (lw_at lw_m5 44 rfl) rfl
theorem q1115 : (Jvm.Cond.superclass "ChurchyardBook$Grave" "ChurchyardBook$Place") ∈ lw_all := lw_g (lw_at lw_m5 69 rfl) rfl
theorem q1133 : (Jvm.Cond.instanceMethod ({ cls := "ChurchyardBook$Grave", name := "ground", desc := "()I" } : Jvm.MethodName)) ∈ lw_all := lw_g (lw_at lw_m5 87 rfl) rfl
theorem q1134 : (Jvm.Cond.publicMethod ({ cls := "ChurchyardBook$Grave", name := "ground", desc := "()I" } : Jvm.MethodName)) ∈ lw_tbl := lw_at lw_m5 88 rfl
theorem q1135 : (Jvm.Cond.code ({ cls := "ChurchyardBook$Grave", name := "ground", desc := "()I" } : Jvm.MethodName) prog_8_method_3_code (1 : Nat) (Option.some Jvm.ClassFile.FieldType.int)) ∈ lw_all := lw_g (lw_at lw_m5 89 rfl) rfl
theorem q1156 : (Jvm.Cond.instanceMethod ({ cls := "ChurchyardBook$Grave", name := "isColumn", desc := "(I)Z" } : Jvm.MethodName)) ∈ lw_all := lw_g (lw_at lw_m5 110 rfl) rfl
theorem q1157 : (Jvm.Cond.sameMethod "ChurchyardBook$Grave" "ChurchyardBook$Grave" "isColumn" "(I)Z") ∈ lw_all := lw_g (lw_at lw_m5 111 rfl) rfl
theorem q1164 : (Jvm.Cond.code ({ cls := "ChurchyardBook$Grave", name := "isColumn", desc := "(I)Z" } : Jvm.MethodName) prog_8_method_10_code (2 : Nat) (Option.some Jvm.ClassFile.FieldType.boolean)) ∈ lw_all := lw_g (lw_at lw_m5 118 rfl) rfl
theorem q1165 : (Jvm.Cond.methodLink "ChurchyardBook$Grave" (48 : Nat) ({ cls := "ChurchyardBook$Grave", name := "columns", desc := "()I" } : Jvm.MethodName)) ∈ lw_all := lw_g (lw_at lw_m5 119 rfl) rfl
theorem q1166 : (Jvm.Cond.instanceMethod ({ cls := "ChurchyardBook$Grave", name := "columns", desc := "()I" } : Jvm.MethodName)) ∈ lw_all := lw_g (lw_at lw_m5 120 rfl) rfl
theorem q1167 : (Jvm.Cond.sameMethod "ChurchyardBook$Grave" "ChurchyardBook$Grave" "columns" "()I") ∈ lw_all := lw_g (lw_at lw_m5 121 rfl) rfl
theorem q1180 : (Jvm.Cond.code ({ cls := "ChurchyardBook$Grave", name := "columns", desc := "()I" } : Jvm.MethodName) prog_8_method_6_code (1 : Nat) (Option.some Jvm.ClassFile.FieldType.int)) ∈ lw_all := lw_g (lw_at lw_m5 134 rfl) rfl
theorem q1195 : (Jvm.Cond.declares ({ cls := "ChurchyardBook$Grave", name := "room", desc := "(II)I" } : Jvm.MethodName)) ∈ lw_tbl := lw_at lw_m5 149 rfl
theorem q1196 : (Jvm.Cond.sameMethod "ChurchyardBook$Grave" "ChurchyardBook$Grave" "room" "(II)I") ∈ lw_all := lw_g (lw_at lw_m5 150 rfl) rfl
theorem q1202 : (Jvm.Cond.declares ({ cls := "ChurchyardBook$Grave", name := "isOpen", desc := "(III)Z" } : Jvm.MethodName)) ∈ lw_tbl := lw_at lw_m5 156 rfl
theorem q1209 : (Jvm.Cond.instanceMethod ({ cls := "ChurchyardBook$Grave", name := "isOpen", desc := "(III)Z" } : Jvm.MethodName)) ∈ lw_all := lw_g (lw_at lw_m5 163 rfl) rfl
theorem q1210 : (Jvm.Cond.code ({ cls := "ChurchyardBook$Grave", name := "isOpen", desc := "(III)Z" } : Jvm.MethodName) prog_8_method_12_code (5 : Nat) (Option.some Jvm.ClassFile.FieldType.boolean)) ∈ lw_all := lw_g (lw_at lw_m5 164 rfl) rfl
theorem q1211 : (Jvm.Cond.methodLink "ChurchyardBook$Grave" (67 : Nat) ({ cls := "ChurchyardBook$Grave", name := "in", desc := "(II)LChurchyardBook$Person;" } : Jvm.MethodName)) ∈ lw_all := lw_g (lw_at lw_m5 165 rfl) rfl
theorem q1212 : (Jvm.Cond.instanceMethod ({ cls := "ChurchyardBook$Grave", name := "in", desc := "(II)LChurchyardBook$Person;" } : Jvm.MethodName)) ∈ lw_all := lw_g (lw_at lw_m5 166 rfl) rfl
theorem q1213 : (Jvm.Cond.sameMethod "ChurchyardBook$Grave" "ChurchyardBook$Grave" "in" "(II)LChurchyardBook$Person;") ∈ lw_all := lw_g (lw_at lw_m5 167 rfl) rfl
theorem q1220 : (Jvm.Cond.code ({ cls := "ChurchyardBook$Grave", name := "in", desc := "(II)LChurchyardBook$Person;" } : Jvm.MethodName) prog_8_method_11_code (5 : Nat) (Option.some (Jvm.ClassFile.FieldType.object "ChurchyardBook$Person"))) ∈ lw_all := lw_g (lw_at lw_m5 174 rfl) rfl
theorem q1221 : (Jvm.Cond.methodLink "ChurchyardBook$Grave" (71 : Nat) ({ cls := "ChurchyardBook$Person", name := "rests", desc := "(I)Z" } : Jvm.MethodName)) ∈ lw_all := lw_g (lw_at lw_m5 175 rfl) rfl
theorem q1244 : (Jvm.Cond.declares ({ cls := "ChurchyardBook$Grave", name := "in", desc := "(II)LChurchyardBook$Person;" } : Jvm.MethodName)) ∈ lw_tbl := lw_at lw_m5 198 rfl
theorem q1248 : (Jvm.Cond.instanceMethod ({ cls := "ChurchyardBook$Grave", name := "isAgreed", desc := "(LChurchyardBook$Person;)Z" } : Jvm.MethodName)) ∈ lw_all := lw_g (lw_at lw_m5 202 rfl) rfl
theorem q1249 : (Jvm.Cond.sameMethod "ChurchyardBook$Grave" "ChurchyardBook$Grave" "isAgreed" "(LChurchyardBook$Person;)Z") ∈ lw_all := lw_g (lw_at lw_m5 203 rfl) rfl
theorem q1256 : (Jvm.Cond.code ({ cls := "ChurchyardBook$Grave", name := "isAgreed", desc := "(LChurchyardBook$Person;)Z" } : Jvm.MethodName) prog_8_method_22_code (3 : Nat) (Option.some Jvm.ClassFile.FieldType.boolean)) ∈ lw_all := lw_g (lw_at lw_m5 210 rfl) rfl
theorem q1257 : (Jvm.Cond.methodLink "ChurchyardBook$Grave" (126 : Nat) ({ cls := "ChurchyardBook$Person", name := "isParentOf", desc := "(LChurchyardBook$Person;)Z" } : Jvm.MethodName)) ∈ lw_all := lw_g (lw_at lw_m5 211 rfl) rfl
theorem q1275 : (Jvm.Cond.instanceMethod ({ cls := "ChurchyardBook$Grave", name := "to", desc := "()I" } : Jvm.MethodName)) ∈ lw_all := lw_g (lw_at lw_m5 229 rfl) rfl
theorem q1276 : (Jvm.Cond.publicMethod ({ cls := "ChurchyardBook$Grave", name := "to", desc := "()I" } : Jvm.MethodName)) ∈ lw_tbl := lw_at lw_m5 230 rfl
theorem q1277 : (Jvm.Cond.code ({ cls := "ChurchyardBook$Grave", name := "to", desc := "()I" } : Jvm.MethodName) prog_8_method_4_code (1 : Nat) (Option.some Jvm.ClassFile.FieldType.int)) ∈ lw_all := lw_g (lw_at lw_m5 231 rfl) rfl
theorem q1298 : (Jvm.Cond.instanceMethod ({ cls := "ChurchyardBook$Grave", name := "put", desc := "(LChurchyardBook$Person;III)V" } : Jvm.MethodName)) ∈ lw_all := lw_g (lw_at lw_m6 12 rfl) rfl
theorem q1299 : (Jvm.Cond.sameMethod "ChurchyardBook$Grave" "ChurchyardBook$Grave" "put" "(LChurchyardBook$Person;III)V") ∈ lw_all := lw_g (lw_at lw_m6 13 rfl) rfl
theorem q1330 : (Jvm.Cond.code ({ cls := "ChurchyardBook$Grave", name := "put", desc := "(LChurchyardBook$Person;III)V" } : Jvm.MethodName) prog_8_method_17_code (7 : Nat) (Option.none : Option Jvm.ClassFile.FieldType)) ∈ lw_all := lw_g (lw_at lw_m6 44 rfl) rfl
theorem q1331 : (Jvm.Cond.methodLink "ChurchyardBook$Grave" (84 : Nat) ({ cls := "java/util/ArrayList", name := "add", desc := "(Ljava/lang/Object;)Z" } : Jvm.MethodName)) ∈ lw_all := lw_g (lw_at lw_m6 45 rfl) rfl
theorem q1332 : (Jvm.Cond.methodLink "ChurchyardBook$Grave" (88 : Nat) ({ cls := "ChurchyardBook$Person", name := "lies", desc := "(ILChurchyardBook$Grave;II)V" } : Jvm.MethodName)) ∈ lw_all := lw_g (lw_at lw_m6 46 rfl) rfl
theorem q1340 : (Jvm.Cond.instanceMethod ({ cls := "ChurchyardBook$Grave", name := "take", desc := "(LChurchyardBook$Person;)V" } : Jvm.MethodName)) ∈ lw_all := lw_g (lw_at lw_m6 54 rfl) rfl
theorem q1341 : (Jvm.Cond.sameMethod "ChurchyardBook$Grave" "ChurchyardBook$Grave" "take" "(LChurchyardBook$Person;)V") ∈ lw_all := lw_g (lw_at lw_m6 55 rfl) rfl
theorem q1348 : (Jvm.Cond.code ({ cls := "ChurchyardBook$Grave", name := "take", desc := "(LChurchyardBook$Person;)V" } : Jvm.MethodName) prog_8_method_18_code (2 : Nat) (Option.none : Option Jvm.ClassFile.FieldType)) ∈ lw_all := lw_g (lw_at lw_m6 62 rfl) rfl
theorem q1349 : (Jvm.Cond.methodLink "ChurchyardBook$Grave" (92 : Nat) ({ cls := "java/util/ArrayList", name := "remove", desc := "(Ljava/lang/Object;)Z" } : Jvm.MethodName)) ∈ lw_all := lw_g (lw_at lw_m6 63 rfl) rfl
theorem q1362 : (Jvm.Cond.instanceMethod ({ cls := "ChurchyardBook$Grave", name := "hasRest", desc := "(I)Z" } : Jvm.MethodName)) ∈ lw_all := lw_g (lw_at lw_m6 76 rfl) rfl
theorem q1363 : (Jvm.Cond.sameMethod "ChurchyardBook$Grave" "ChurchyardBook$Grave" "hasRest" "(I)Z") ∈ lw_all := lw_g (lw_at lw_m6 77 rfl) rfl
theorem q1370 : (Jvm.Cond.code ({ cls := "ChurchyardBook$Grave", name := "hasRest", desc := "(I)Z" } : Jvm.MethodName) prog_8_method_15_code (3 : Nat) (Option.some Jvm.ClassFile.FieldType.boolean)) ∈ lw_all := lw_g (lw_at lw_m6 84 rfl) rfl
theorem q1372 : (Jvm.Cond.declares ({ cls := "ChurchyardBook$Grave", name := "kind", desc := "()I" } : Jvm.MethodName)) ∈ lw_tbl := lw_at lw_m6 86 rfl
theorem q1373 : (Jvm.Cond.sameMethod "ChurchyardBook$Grave" "ChurchyardBook$Grave" "kind" "()I") ∈ lw_all := lw_g (lw_at lw_m6 87 rfl) rfl
theorem q1413 : (Jvm.Cond.instanceMethod ({ cls := "ChurchyardBook$Grave", name := "turn", desc := "(I)V" } : Jvm.MethodName)) ∈ lw_all := lw_g (lw_at lw_m6 127 rfl) rfl
theorem q1414 : (Jvm.Cond.sameMethod "ChurchyardBook$Grave" "ChurchyardBook$Grave" "turn" "(I)V") ∈ lw_all := lw_g (lw_at lw_m6 128 rfl) rfl
theorem q1421 : (Jvm.Cond.code ({ cls := "ChurchyardBook$Grave", name := "turn", desc := "(I)V" } : Jvm.MethodName) prog_8_method_23_code (4 : Nat) (Option.none : Option Jvm.ClassFile.FieldType)) ∈ lw_all := lw_g (lw_at lw_m6 135 rfl) rfl
theorem q1422 : (Jvm.Cond.methodLink "ChurchyardBook$Grave" (130 : Nat) ({ cls := "ChurchyardBook$Grave", name := "falls", desc := "()V" } : Jvm.MethodName)) ∈ lw_all := lw_g (lw_at lw_m6 136 rfl) rfl
theorem q1423 : (Jvm.Cond.instanceMethod ({ cls := "ChurchyardBook$Grave", name := "falls", desc := "()V" } : Jvm.MethodName)) ∈ lw_all := lw_g (lw_at lw_m6 137 rfl) rfl
theorem q1424 : (Jvm.Cond.sameMethod "ChurchyardBook$Grave" "ChurchyardBook$Grave" "falls" "()V") ∈ lw_all := lw_g (lw_at lw_m6 138 rfl) rfl
theorem q1431 : (Jvm.Cond.code ({ cls := "ChurchyardBook$Grave", name := "falls", desc := "()V" } : Jvm.MethodName) prog_8_method_20_code (1 : Nat) (Option.none : Option Jvm.ClassFile.FieldType)) ∈ lw_all := lw_g (lw_at lw_m6 145 rfl) rfl
theorem q1432 : (Jvm.Cond.methodLink "ChurchyardBook$Grave" (133 : Nat) ({ cls := "ChurchyardBook$Grave", name := "passOn", desc := "(I)V" } : Jvm.MethodName)) ∈ lw_all := lw_g (lw_at lw_m6 146 rfl) rfl
theorem q1532 : (Jvm.Cond.declares ({ cls := "ChurchyardBook$Grave", name := "plan", desc := "(III)I" } : Jvm.MethodName)) ∈ lw_tbl := lw_at lw_m7 6 rfl
theorem q1533 : (Jvm.Cond.sameMethod "ChurchyardBook$Grave" "ChurchyardBook$Grave" "plan" "(III)I") ∈ lw_all := lw_g (lw_at lw_m7 7 rfl) rfl
theorem q1564 : (Jvm.Cond.declares ({ cls := "ChurchyardBook$Grave", name := "columns", desc := "()I" } : Jvm.MethodName)) ∈ lw_tbl := lw_at lw_m7 38 rfl
theorem q1621 : (Jvm.Cond.instanceMethod ({ cls := "ChurchyardBook$Grave", name := "what", desc := "()I" } : Jvm.MethodName)) ∈ lw_all := lw_g (lw_at lw_m7 95 rfl) rfl
theorem q1622 : (Jvm.Cond.code ({ cls := "ChurchyardBook$Grave", name := "what", desc := "()I" } : Jvm.MethodName) prog_8_method_2_code (1 : Nat) (Option.some Jvm.ClassFile.FieldType.int)) ∈ lw_all := lw_g (lw_at lw_m7 96 rfl) rfl
theorem q1690 : (Jvm.Cond.instanceMethod ({ cls := "ChurchyardBook$Grave", name := "greatestEnd", desc := "()I" } : Jvm.MethodName)) ∈ lw_all := lw_g (lw_at lw_m7 164 rfl) rfl
theorem q1691 : (Jvm.Cond.sameMethod "ChurchyardBook$Grave" "ChurchyardBook$Grave" "greatestEnd" "()I") ∈ lw_all := lw_g (lw_at lw_m7 165 rfl) rfl
theorem q1698 : (Jvm.Cond.code ({ cls := "ChurchyardBook$Grave", name := "greatestEnd", desc := "()I" } : Jvm.MethodName) prog_8_method_16_code (3 : Nat) (Option.some Jvm.ClassFile.FieldType.int)) ∈ lw_all := lw_g (lw_at lw_m7 172 rfl) rfl
theorem q1699 : (Jvm.Cond.methodLink "ChurchyardBook$Grave" (78 : Nat) ({ cls := "java/lang/Math", name := "max", desc := "(II)I" } : Jvm.MethodName)) ∈ lw_all := lw_g (lw_at lw_m7 173 rfl) rfl
theorem q2257 : (Jvm.Cond.castable "ChurchyardBook$Grave" "java/lang/Object") ∈ lw_tbl := lw_at lw_m10 11 rfl
theorem q2290 : (Jvm.Cond.castable "ChurchyardBook$Grave" "ChurchyardBook$Place") ∈ lw_tbl := lw_at lw_m10 44 rfl

/-! ChurchyardBook$Single -/
set_option maxRecDepth 100000
def RX10 : String := "ChurchyardBook$Single"
def TX10 : u_T := fun k => match k with
  | 0 => ("ChurchyardBook$Grave", "number", "I", true)
  | 1 => ("ChurchyardBook$Grave", "field", "I", true)
  | 2 => ("ChurchyardBook$Grave", "row", "I", true)
  | 3 => ("ChurchyardBook$Grave", "place", "I", true)
  | 4 => ("ChurchyardBook$Grave", "wide", "I", true)
  | 5 => ("ChurchyardBook$Grave", "ground", "I", true)
  | 6 => ("ChurchyardBook$Grave", "state", "I", false)
  | 7 => ("ChurchyardBook$Grave", "holder", "LChurchyardBook$Person;", false)
  | 8 => ("ChurchyardBook$Grave", "to", "I", false)
  | 9 => ("ChurchyardBook$Grave", "offered", "LChurchyardBook$Person;", false)
  | 10 => ("ChurchyardBook$Grave", "date", "I", false)
  | 11 => ("ChurchyardBook$Grave", "order", "Ljava/util/ArrayList;", true)
  | 12 => ("ChurchyardBook$Grave", "at", "I", false)
  | 13 => ("ChurchyardBook$Grave", "told", "[Z", false)
  | 14 => ("ChurchyardBook$Grave", "from", "LChurchyardBook$Person;", false)
  | _ => ("ChurchyardBook$Grave", "lying", "Ljava/util/ArrayList;", true)
def tyX10 : Nat → FieldType := fun k => match k with
  | 0 => .int
  | 1 => .int
  | 2 => .int
  | 3 => .int
  | 4 => .int
  | 5 => .int
  | 6 => .int
  | 7 => .object "ChurchyardBook$Person"
  | 8 => .int
  | 9 => .object "ChurchyardBook$Person"
  | 10 => .int
  | 11 => .object "java/util/ArrayList"
  | 12 => .int
  | 13 => .array .boolean
  | 14 => .object "ChurchyardBook$Person"
  | _ => .object "java/util/ArrayList"
abbrev wsX100 : List Cond := u_ws RX10 TX10 16
set_option maxRecDepth 100000 in
theorem nmX10 : ∀ a, a < 16 → ∀ b, b < 16 → a ≠ b → (TX10 a).2.1 ≠ (TX10 b).2.1 := by decide +kernel
set_option maxRecDepth 100000 in
theorem tyX10_ok : ∀ k, k < 16 → parseFieldDescriptor (TX10 k).2.2.1 = some (tyX10 k) := by decide +kernel
abbrev cX10_init : ByteArray := prog_14_method_1_code
def yX10_init : MethodName := ⟨RX10, "<init>", "(IIIIII)V"⟩
def dkwX10_init_0 : List UInt8 := [42, 27, 28, 29, 21, 4, 21, 5, 21, 6, 183, 0, 3, 177]
abbrev dktX10_init_0 : List UInt8 := dkwX10_init_0 ++ []
theorem dksX10_init_0 : cX10_init.data.toList.drop 0 = dktX10_init_0 := by decide +kernel
theorem dX10_init_0 : decode cX10_init 0 = .ok (.aload_n 0, 1) := dk_42 (dk_at dksX10_init_0 0 rfl rfl)
theorem dX10_init_1 : decode cX10_init 1 = .ok (.iload_n 1, 1) := dk_27 (dk_at dksX10_init_0 1 rfl rfl)
theorem dX10_init_2 : decode cX10_init 2 = .ok (.iload_n 2, 1) := dk_28 (dk_at dksX10_init_0 2 rfl rfl)
theorem dX10_init_3 : decode cX10_init 3 = .ok (.iload_n 3, 1) := dk_29 (dk_at dksX10_init_0 3 rfl rfl)
theorem dX10_init_4 : decode cX10_init 4 = .ok (.iload 4, 2) := dk_21 4 (dk_at dksX10_init_0 4 rfl rfl)
theorem dX10_init_6 : decode cX10_init 6 = .ok (.iload 5, 2) := dk_21 5 (dk_at dksX10_init_0 6 rfl rfl)
theorem dX10_init_8 : decode cX10_init 8 = .ok (.iload 6, 2) := dk_21 6 (dk_at dksX10_init_0 8 rfl rfl)
theorem dX10_init_10 : decode cX10_init 10 = .ok (.invokespecial 3, 3) := dk_183 0 3 (dk_at dksX10_init_0 10 rfl rfl)
theorem dX10_init_13 : decode cX10_init 13 = .ok (.return_, 1) := dk_177 (dk_at dksX10_init_0 13 rfl rfl)
abbrev cX10_takes : ByteArray := prog_14_method_3_code
def yX10_takes : MethodName := ⟨RX10, "takes", "(I)Z"⟩
def dkwX10_takes_0 : List UInt8 := [27, 4, 159, 0, 7, 4, 167, 0, 4, 3, 172]
abbrev dktX10_takes_0 : List UInt8 := dkwX10_takes_0 ++ []
theorem dksX10_takes_0 : cX10_takes.data.toList.drop 0 = dktX10_takes_0 := by decide +kernel
theorem dX10_takes_0 : decode cX10_takes 0 = .ok (.iload_n 1, 1) := dk_27 (dk_at dksX10_takes_0 0 rfl rfl)
theorem dX10_takes_1 : decode cX10_takes 1 = .ok (.iconst 1, 1) := dk_4 (dk_at dksX10_takes_0 1 rfl rfl)
theorem dX10_takes_2 : decode cX10_takes 2 = .ok (.if_icmp .eq 7, 3) := dk_159 0 7 (dk_at dksX10_takes_0 2 rfl rfl)
theorem dX10_takes_5 : decode cX10_takes 5 = .ok (.iconst 1, 1) := dk_4 (dk_at dksX10_takes_0 5 rfl rfl)
theorem dX10_takes_6 : decode cX10_takes 6 = .ok (.goto 4, 3) := dk_167 0 4 (dk_at dksX10_takes_0 6 rfl rfl)
theorem dX10_takes_9 : decode cX10_takes 9 = .ok (.iconst 0, 1) := dk_3 (dk_at dksX10_takes_0 9 rfl rfl)
theorem dX10_takes_10 : decode cX10_takes 10 = .ok (.ireturn, 1) := dk_172 (dk_at dksX10_takes_0 10 rfl rfl)
abbrev cX10_room : ByteArray := prog_14_method_4_code
def yX10_room : MethodName := ⟨RX10, "room", "(II)I"⟩
def dkwX10_room_0 : List UInt8 := [42, 27, 3, 28, 182, 0, 9, 153, 0, 7, 3, 167, 0, 4, 2, 172]
abbrev dktX10_room_0 : List UInt8 := dkwX10_room_0 ++ []
theorem dksX10_room_0 : cX10_room.data.toList.drop 0 = dktX10_room_0 := by decide +kernel
theorem dX10_room_0 : decode cX10_room 0 = .ok (.aload_n 0, 1) := dk_42 (dk_at dksX10_room_0 0 rfl rfl)
theorem dX10_room_1 : decode cX10_room 1 = .ok (.iload_n 1, 1) := dk_27 (dk_at dksX10_room_0 1 rfl rfl)
theorem dX10_room_2 : decode cX10_room 2 = .ok (.iconst 0, 1) := dk_3 (dk_at dksX10_room_0 2 rfl rfl)
theorem dX10_room_3 : decode cX10_room 3 = .ok (.iload_n 2, 1) := dk_28 (dk_at dksX10_room_0 3 rfl rfl)
theorem dX10_room_4 : decode cX10_room 4 = .ok (.invokevirtual 9, 3) := dk_182 0 9 (dk_at dksX10_room_0 4 rfl rfl)
theorem dX10_room_7 : decode cX10_room 7 = .ok (.ifCond .eq 7, 3) := dk_153 0 7 (dk_at dksX10_room_0 7 rfl rfl)
theorem dX10_room_10 : decode cX10_room 10 = .ok (.iconst 0, 1) := dk_3 (dk_at dksX10_room_0 10 rfl rfl)
theorem dX10_room_11 : decode cX10_room 11 = .ok (.goto 4, 3) := dk_167 0 4 (dk_at dksX10_room_0 11 rfl rfl)
theorem dX10_room_14 : decode cX10_room 14 = .ok (.iconst (-1), 1) := dk_2 (dk_at dksX10_room_0 14 rfl rfl)
theorem dX10_room_15 : decode cX10_room 15 = .ok (.ireturn, 1) := dk_172 (dk_at dksX10_room_0 15 rfl rfl)
abbrev cX10_kind : ByteArray := prog_14_method_2_code
def yX10_kind : MethodName := ⟨RX10, "kind", "()I"⟩
theorem dX10_kind_0 : decode cX10_kind 0 = .ok (.iconst 1, 1) := by decide +kernel
theorem dX10_kind_1 : decode cX10_kind 1 = .ok (.ireturn, 1) := by decide +kernel
abbrev cX10_plan : ByteArray := prog_14_method_7_code
def yX10_plan : MethodName := ⟨RX10, "plan", "(III)I"⟩
def dkwX10_plan_0 : List UInt8 := [42, 3, 3, 27, 182, 0, 31, 28, 29, 184, 0, 35, 172]
abbrev dktX10_plan_0 : List UInt8 := dkwX10_plan_0 ++ []
theorem dksX10_plan_0 : cX10_plan.data.toList.drop 0 = dktX10_plan_0 := by decide +kernel
theorem dX10_plan_0 : decode cX10_plan 0 = .ok (.aload_n 0, 1) := dk_42 (dk_at dksX10_plan_0 0 rfl rfl)
theorem dX10_plan_1 : decode cX10_plan 1 = .ok (.iconst 0, 1) := dk_3 (dk_at dksX10_plan_0 1 rfl rfl)
theorem dX10_plan_2 : decode cX10_plan 2 = .ok (.iconst 0, 1) := dk_3 (dk_at dksX10_plan_0 2 rfl rfl)
theorem dX10_plan_3 : decode cX10_plan 3 = .ok (.iload_n 1, 1) := dk_27 (dk_at dksX10_plan_0 3 rfl rfl)
theorem dX10_plan_4 : decode cX10_plan 4 = .ok (.invokevirtual 31, 3) := dk_182 0 31 (dk_at dksX10_plan_0 4 rfl rfl)
theorem dX10_plan_7 : decode cX10_plan 7 = .ok (.iload_n 2, 1) := dk_28 (dk_at dksX10_plan_0 7 rfl rfl)
theorem dX10_plan_8 : decode cX10_plan 8 = .ok (.iload_n 3, 1) := dk_29 (dk_at dksX10_plan_0 8 rfl rfl)
theorem dX10_plan_9 : decode cX10_plan 9 = .ok (.invokestatic 35, 3) := dk_184 0 35 (dk_at dksX10_plan_0 9 rfl rfl)
theorem dX10_plan_12 : decode cX10_plan 12 = .ok (.ireturn, 1) := dk_172 (dk_at dksX10_plan_0 12 rfl rfl)
abbrev cX10_opens : ByteArray := prog_14_method_6_code
def yX10_opens : MethodName := ⟨RX10, "opens", "(III)I"⟩
def dkwX10_opens_1 : List UInt8 := [184, 0, 25, 172]
abbrev dktX10_opens_1 : List UInt8 := dkwX10_opens_1 ++ []
def dkwX10_opens_0 : List UInt8 := [42, 27, 28, 182, 0, 15, 58, 4, 25, 4, 199, 0, 7, 29, 167, 0, 12, 29, 25, 4, 180, 0, 19]
abbrev dktX10_opens_0 : List UInt8 := dkwX10_opens_0 ++ dktX10_opens_1
theorem dksX10_opens_0 : cX10_opens.data.toList.drop 0 = dktX10_opens_0 := by decide +kernel
theorem dksX10_opens_1 : cX10_opens.data.toList.drop 23 = dktX10_opens_1 := dk_seg dksX10_opens_0 23 rfl rfl
theorem dX10_opens_0 : decode cX10_opens 0 = .ok (.aload_n 0, 1) := dk_42 (dk_at dksX10_opens_0 0 rfl rfl)
theorem dX10_opens_1 : decode cX10_opens 1 = .ok (.iload_n 1, 1) := dk_27 (dk_at dksX10_opens_0 1 rfl rfl)
theorem dX10_opens_2 : decode cX10_opens 2 = .ok (.iload_n 2, 1) := dk_28 (dk_at dksX10_opens_0 2 rfl rfl)
theorem dX10_opens_3 : decode cX10_opens 3 = .ok (.invokevirtual 15, 3) := dk_182 0 15 (dk_at dksX10_opens_0 3 rfl rfl)
theorem dX10_opens_6 : decode cX10_opens 6 = .ok (.astore 4, 2) := dk_58 4 (dk_at dksX10_opens_0 6 rfl rfl)
theorem dX10_opens_8 : decode cX10_opens 8 = .ok (.aload 4, 2) := dk_25 4 (dk_at dksX10_opens_0 8 rfl rfl)
theorem dX10_opens_10 : decode cX10_opens 10 = .ok (.ifnonnull 7, 3) := dk_199 0 7 (dk_at dksX10_opens_0 10 rfl rfl)
theorem dX10_opens_13 : decode cX10_opens 13 = .ok (.iload_n 3, 1) := dk_29 (dk_at dksX10_opens_0 13 rfl rfl)
theorem dX10_opens_14 : decode cX10_opens 14 = .ok (.goto 12, 3) := dk_167 0 12 (dk_at dksX10_opens_0 14 rfl rfl)
theorem dX10_opens_17 : decode cX10_opens 17 = .ok (.iload_n 3, 1) := dk_29 (dk_at dksX10_opens_0 17 rfl rfl)
theorem dX10_opens_18 : decode cX10_opens 18 = .ok (.aload 4, 2) := dk_25 4 (dk_at dksX10_opens_0 18 rfl rfl)
theorem dX10_opens_20 : decode cX10_opens 20 = .ok (.getfield 19, 3) := dk_180 0 19 (dk_at dksX10_opens_0 20 rfl rfl)
theorem dX10_opens_23 : decode cX10_opens 23 = .ok (.invokestatic 25, 3) := dk_184 0 25 (dk_at dksX10_opens_1 0 rfl rfl)
theorem dX10_opens_26 : decode cX10_opens 26 = .ok (.ireturn, 1) := dk_172 (dk_at dksX10_opens_1 3 rfl rfl)
abbrev cX10_times : ByteArray := prog_14_method_5_code
def yX10_times : MethodName := ⟨RX10, "times", "(III)I"⟩
def dkwX10_times_0 : List UInt8 := [26, 27, 164, 0, 7, 3, 167, 0, 10, 4, 27, 26, 100, 28, 108, 96, 172]
abbrev dktX10_times_0 : List UInt8 := dkwX10_times_0 ++ []
theorem dksX10_times_0 : cX10_times.data.toList.drop 0 = dktX10_times_0 := by decide +kernel
theorem dX10_times_0 : decode cX10_times 0 = .ok (.iload_n 0, 1) := dk_26 (dk_at dksX10_times_0 0 rfl rfl)
theorem dX10_times_1 : decode cX10_times 1 = .ok (.iload_n 1, 1) := dk_27 (dk_at dksX10_times_0 1 rfl rfl)
theorem dX10_times_2 : decode cX10_times 2 = .ok (.if_icmp .le 7, 3) := dk_164 0 7 (dk_at dksX10_times_0 2 rfl rfl)
theorem dX10_times_5 : decode cX10_times 5 = .ok (.iconst 0, 1) := dk_3 (dk_at dksX10_times_0 5 rfl rfl)
theorem dX10_times_6 : decode cX10_times 6 = .ok (.goto 10, 3) := dk_167 0 10 (dk_at dksX10_times_0 6 rfl rfl)
theorem dX10_times_9 : decode cX10_times 9 = .ok (.iconst 1, 1) := dk_4 (dk_at dksX10_times_0 9 rfl rfl)
theorem dX10_times_10 : decode cX10_times 10 = .ok (.iload_n 1, 1) := dk_27 (dk_at dksX10_times_0 10 rfl rfl)
theorem dX10_times_11 : decode cX10_times 11 = .ok (.iload_n 0, 1) := dk_26 (dk_at dksX10_times_0 11 rfl rfl)
theorem dX10_times_12 : decode cX10_times 12 = .ok (.isub, 1) := dk_100 (dk_at dksX10_times_0 12 rfl rfl)
theorem dX10_times_13 : decode cX10_times 13 = .ok (.iload_n 2, 1) := dk_28 (dk_at dksX10_times_0 13 rfl rfl)
theorem dX10_times_14 : decode cX10_times 14 = .ok (.idiv, 1) := dk_108 (dk_at dksX10_times_0 14 rfl rfl)
theorem dX10_times_15 : decode cX10_times 15 = .ok (.iadd, 1) := dk_96 (dk_at dksX10_times_0 15 rfl rfl)
theorem dX10_times_16 : decode cX10_times 16 = .ok (.ireturn, 1) := dk_172 (dk_at dksX10_times_0 16 rfl rfl)
theorem q115 : (Jvm.Cond.initialized "ChurchyardBook$Single") ∈ lw_all := lw_g (lw_at lw_m1 29 rfl) rfl
theorem q417 : (Jvm.Cond.selects "ChurchyardBook$Single" ({ cls := "java/lang/Object", name := "getClass", desc := "()Ljava/lang/Class;" } : Jvm.MethodName) ({ cls := "java/lang/Object", name := "getClass", desc := "()Ljava/lang/Class;" } : Jvm.MethodName)) ∈ lw_all := lw_g (lw_at lw_m2 91 rfl) rfl
theorem q601 : (Jvm.Cond.castable "ChurchyardBook$Single" "ChurchyardBook$Takes") ∈ lw_tbl := lw_at lw_m3 35 rfl
theorem q602 : (Jvm.Cond.unhidden "ChurchyardBook$Single" "shunsTrees" "()Z") ∈ lw_tbl := lw_at lw_m3 36 rfl
theorem q644 : (Jvm.Cond.instantiable "ChurchyardBook$Single" (16 : Nat)) ∈ lw_all := lw_g (lw_at lw_m3 78 rfl) rfl
theorem q646 : (Jvm.Cond.instanceMethod ({ cls := "ChurchyardBook$Single", name := "<init>", desc := "(IIIIII)V" } : Jvm.MethodName)) ∈ lw_all := lw_g (lw_at lw_m3 80 rfl) rfl
theorem q647 : (Jvm.Cond.code ({ cls := "ChurchyardBook$Single", name := "<init>", desc := "(IIIIII)V" } : Jvm.MethodName) prog_14_method_1_code (7 : Nat) (Option.none : Option Jvm.ClassFile.FieldType)) ∈ lw_all := lw_g (lw_at lw_m3 81 rfl) rfl
theorem q648 : (Jvm.Cond.methodLink "ChurchyardBook$Single" (3 : Nat) ({ cls := "ChurchyardBook$Grave", name := "<init>", desc := "(IIIIII)V" } : Jvm.MethodName)) ∈ lw_all := lw_g (lw_at lw_m3 82 rfl) rfl
theorem q702 : (Jvm.Cond.laysFinal "ChurchyardBook$Single" "ChurchyardBook$Grave" "number" "I") ∈ lw_all := lw_g (lw_at lw_m3 136 rfl) rfl
theorem q704 : (Jvm.Cond.laysFinal "ChurchyardBook$Single" "ChurchyardBook$Grave" "field" "I") ∈ lw_all := lw_g (lw_at lw_m3 138 rfl) rfl
theorem q706 : (Jvm.Cond.laysFinal "ChurchyardBook$Single" "ChurchyardBook$Grave" "row" "I") ∈ lw_all := lw_g (lw_at lw_m3 140 rfl) rfl
theorem q708 : (Jvm.Cond.laysFinal "ChurchyardBook$Single" "ChurchyardBook$Grave" "place" "I") ∈ lw_all := lw_g (lw_at lw_m3 142 rfl) rfl
theorem q710 : (Jvm.Cond.laysFinal "ChurchyardBook$Single" "ChurchyardBook$Grave" "wide" "I") ∈ lw_all := lw_g (lw_at lw_m3 144 rfl) rfl
theorem q712 : (Jvm.Cond.laysFinal "ChurchyardBook$Single" "ChurchyardBook$Grave" "ground" "I") ∈ lw_all := lw_g (lw_at lw_m3 146 rfl) rfl
theorem q714 : (Jvm.Cond.lays "ChurchyardBook$Single" "ChurchyardBook$Grave" "state" "I") ∈ lw_all := lw_g (lw_at lw_m3 148 rfl) rfl
theorem q716 : (Jvm.Cond.lays "ChurchyardBook$Single" "ChurchyardBook$Grave" "holder" "LChurchyardBook$Person;") ∈ lw_all := lw_g (lw_at lw_m3 150 rfl) rfl
theorem q718 : (Jvm.Cond.lays "ChurchyardBook$Single" "ChurchyardBook$Grave" "to" "I") ∈ lw_all := lw_g (lw_at lw_m3 152 rfl) rfl
theorem q720 : (Jvm.Cond.lays "ChurchyardBook$Single" "ChurchyardBook$Grave" "offered" "LChurchyardBook$Person;") ∈ lw_all := lw_g (lw_at lw_m3 154 rfl) rfl
theorem q722 : (Jvm.Cond.lays "ChurchyardBook$Single" "ChurchyardBook$Grave" "date" "I") ∈ lw_all := lw_g (lw_at lw_m3 156 rfl) rfl
theorem q724 : (Jvm.Cond.laysFinal "ChurchyardBook$Single" "ChurchyardBook$Grave" "order" "Ljava/util/ArrayList;") ∈ lw_all := lw_g (lw_at lw_m3 158 rfl) rfl
theorem q726 : (Jvm.Cond.lays "ChurchyardBook$Single" "ChurchyardBook$Grave" "at" "I") ∈ lw_all := lw_g (lw_at lw_m3 160 rfl) rfl
theorem q728 : (Jvm.Cond.lays "ChurchyardBook$Single" "ChurchyardBook$Grave" "told" "[Z") ∈ lw_all := lw_g (lw_at lw_m3 162 rfl) rfl
theorem q730 : (Jvm.Cond.lays "ChurchyardBook$Single" "ChurchyardBook$Grave" "from" "LChurchyardBook$Person;") ∈ lw_all := lw_g (lw_at lw_m3 164 rfl) rfl
theorem q732 : (Jvm.Cond.laysFinal "ChurchyardBook$Single" "ChurchyardBook$Grave" "lying" "Ljava/util/ArrayList;") ∈ lw_all := lw_g (lw_at lw_m3 166 rfl) rfl
theorem q734 : (Jvm.Cond.superclass "ChurchyardBook$Single" "ChurchyardBook$Grave") ∈ lw_all := lw_g (lw_at lw_m3 168 rfl) rfl
theorem q887 : (Jvm.Cond.fieldLink "ChurchyardBook$Single" (19 : Nat) "ChurchyardBook$Person" "end" "I") ∈ lw_all := lw_g (lw_at lw_m4 81 rfl) rfl
theorem q966 : (Jvm.Cond.selects "ChurchyardBook$Single" ({ cls := "ChurchyardBook$Grave", name := "needsHolder", desc := "()Z" } : Jvm.MethodName) ({ cls := "ChurchyardBook$Grave", name := "needsHolder", desc := "()Z" } : Jvm.MethodName)) ∈ lw_all := lw_g (lw_at lw_m4 160 rfl) rfl
theorem q976 : (Jvm.Cond.selects "ChurchyardBook$Single" ({ cls := "ChurchyardBook$Grave", name := "hold", desc := "(LChurchyardBook$Person;)V" } : Jvm.MethodName) ({ cls := "ChurchyardBook$Grave", name := "hold", desc := "(LChurchyardBook$Person;)V" } : Jvm.MethodName)) ∈ lw_all := lw_g (lw_at lw_m4 170 rfl) rfl
theorem q996 : (Jvm.Cond.selects "ChurchyardBook$Single" ({ cls := "ChurchyardBook$Grave", name := "yearly", desc := "()I" } : Jvm.MethodName) ({ cls := "ChurchyardBook$Grave", name := "yearly", desc := "()I" } : Jvm.MethodName)) ∈ lw_all := lw_g (lw_at lw_m4 190 rfl) rfl
theorem q1048 : (Jvm.Cond.selects "ChurchyardBook$Single" ({ cls := "java/lang/Object", name := "equals", desc := "(Ljava/lang/Object;)Z" } : Jvm.MethodName) ({ cls := "java/lang/Object", name := "equals", desc := "(Ljava/lang/Object;)Z" } : Jvm.MethodName)) ∈ lw_all := lw_g (lw_at lw_m5 2 rfl) rfl
theorem q1085 : (Jvm.Cond.selects "ChurchyardBook$Single" ({ cls := "ChurchyardBook$Grave", name := "passOn", desc := "(I)V" } : Jvm.MethodName) ({ cls := "ChurchyardBook$Grave", name := "passOn", desc := "(I)V" } : Jvm.MethodName)) ∈ lw_all := lw_g (lw_at lw_m5 39 rfl) rfl
theorem q1121 : (Jvm.Cond.unhidden "ChurchyardBook$Single" "years" "(I)I") ∈ lw_tbl := lw_at lw_m5 75 rfl
theorem q1145 : (Jvm.Cond.castable "ChurchyardBook$Single" "ChurchyardBook$Rests") ∈ lw_tbl := lw_at lw_m5 99 rfl
theorem q1146 : (Jvm.Cond.selects "ChurchyardBook$Single" ({ cls := "ChurchyardBook$Rests", name := "ground", desc := "()I" } : Jvm.MethodName) ({ cls := "ChurchyardBook$Grave", name := "ground", desc := "()I" } : Jvm.MethodName)) ∈ lw_all := lw_g (lw_at lw_m5 100 rfl) rfl
theorem q1147 : (Jvm.Cond.unhidden "ChurchyardBook$Single" "ground" "()I") ∈ lw_tbl := lw_at lw_m5 101 rfl
theorem q1162 : (Jvm.Cond.selects "ChurchyardBook$Single" ({ cls := "ChurchyardBook$Grave", name := "isColumn", desc := "(I)Z" } : Jvm.MethodName) ({ cls := "ChurchyardBook$Grave", name := "isColumn", desc := "(I)Z" } : Jvm.MethodName)) ∈ lw_all := lw_g (lw_at lw_m5 116 rfl) rfl
theorem q1176 : (Jvm.Cond.selects "ChurchyardBook$Single" ({ cls := "ChurchyardBook$Grave", name := "columns", desc := "()I" } : Jvm.MethodName) ({ cls := "ChurchyardBook$Grave", name := "columns", desc := "()I" } : Jvm.MethodName)) ∈ lw_all := lw_g (lw_at lw_m5 130 rfl) rfl
theorem q1186 : (Jvm.Cond.instanceMethod ({ cls := "ChurchyardBook$Single", name := "takes", desc := "(I)Z" } : Jvm.MethodName)) ∈ lw_all := lw_g (lw_at lw_m5 140 rfl) rfl
theorem q1187 : (Jvm.Cond.code ({ cls := "ChurchyardBook$Single", name := "takes", desc := "(I)Z" } : Jvm.MethodName) prog_14_method_3_code (2 : Nat) (Option.some Jvm.ClassFile.FieldType.boolean)) ∈ lw_all := lw_g (lw_at lw_m5 141 rfl) rfl
theorem q1192 : (Jvm.Cond.selects "ChurchyardBook$Single" ({ cls := "ChurchyardBook$Takes", name := "takes", desc := "(I)Z" } : Jvm.MethodName) ({ cls := "ChurchyardBook$Single", name := "takes", desc := "(I)Z" } : Jvm.MethodName)) ∈ lw_all := lw_g (lw_at lw_m5 146 rfl) rfl
theorem q1198 : (Jvm.Cond.instanceMethod ({ cls := "ChurchyardBook$Single", name := "room", desc := "(II)I" } : Jvm.MethodName)) ∈ lw_all := lw_g (lw_at lw_m5 152 rfl) rfl
theorem q1199 : (Jvm.Cond.code ({ cls := "ChurchyardBook$Single", name := "room", desc := "(II)I" } : Jvm.MethodName) prog_14_method_4_code (3 : Nat) (Option.some Jvm.ClassFile.FieldType.int)) ∈ lw_all := lw_g (lw_at lw_m5 153 rfl) rfl
theorem q1200 : (Jvm.Cond.methodLink "ChurchyardBook$Single" (9 : Nat) ({ cls := "ChurchyardBook$Single", name := "isOpen", desc := "(III)Z" } : Jvm.MethodName)) ∈ lw_all := lw_g (lw_at lw_m5 154 rfl) rfl
theorem q1201 : (Jvm.Cond.sameMethod "ChurchyardBook$Single" "ChurchyardBook$Grave" "isOpen" "(III)Z") ∈ lw_all := lw_g (lw_at lw_m5 155 rfl) rfl
theorem q1207 : (Jvm.Cond.selects "ChurchyardBook$Single" ({ cls := "ChurchyardBook$Single", name := "isOpen", desc := "(III)Z" } : Jvm.MethodName) ({ cls := "ChurchyardBook$Grave", name := "isOpen", desc := "(III)Z" } : Jvm.MethodName)) ∈ lw_all := lw_g (lw_at lw_m5 161 rfl) rfl
theorem q1218 : (Jvm.Cond.selects "ChurchyardBook$Single" ({ cls := "ChurchyardBook$Grave", name := "in", desc := "(II)LChurchyardBook$Person;" } : Jvm.MethodName) ({ cls := "ChurchyardBook$Grave", name := "in", desc := "(II)LChurchyardBook$Person;" } : Jvm.MethodName)) ∈ lw_all := lw_g (lw_at lw_m5 172 rfl) rfl
theorem q1238 : (Jvm.Cond.selects "ChurchyardBook$Single" ({ cls := "ChurchyardBook$Grave", name := "room", desc := "(II)I" } : Jvm.MethodName) ({ cls := "ChurchyardBook$Single", name := "room", desc := "(II)I" } : Jvm.MethodName)) ∈ lw_all := lw_g (lw_at lw_m5 192 rfl) rfl
theorem q1254 : (Jvm.Cond.selects "ChurchyardBook$Single" ({ cls := "ChurchyardBook$Grave", name := "isAgreed", desc := "(LChurchyardBook$Person;)Z" } : Jvm.MethodName) ({ cls := "ChurchyardBook$Grave", name := "isAgreed", desc := "(LChurchyardBook$Person;)Z" } : Jvm.MethodName)) ∈ lw_all := lw_g (lw_at lw_m5 208 rfl) rfl
theorem q1263 : (Jvm.Cond.unhidden "ChurchyardBook$Single" "lacks" "(I)I") ∈ lw_tbl := lw_at lw_m5 217 rfl
theorem q1287 : (Jvm.Cond.castable "ChurchyardBook$Single" "ChurchyardBook$Ends") ∈ lw_tbl := lw_at lw_m6 1 rfl
theorem q1288 : (Jvm.Cond.selects "ChurchyardBook$Single" ({ cls := "ChurchyardBook$Ends", name := "to", desc := "()I" } : Jvm.MethodName) ({ cls := "ChurchyardBook$Grave", name := "to", desc := "()I" } : Jvm.MethodName)) ∈ lw_all := lw_g (lw_at lw_m6 2 rfl) rfl
theorem q1289 : (Jvm.Cond.unhidden "ChurchyardBook$Single" "to" "()I") ∈ lw_tbl := lw_at lw_m6 3 rfl
theorem q1328 : (Jvm.Cond.selects "ChurchyardBook$Single" ({ cls := "ChurchyardBook$Grave", name := "put", desc := "(LChurchyardBook$Person;III)V" } : Jvm.MethodName) ({ cls := "ChurchyardBook$Grave", name := "put", desc := "(LChurchyardBook$Person;III)V" } : Jvm.MethodName)) ∈ lw_all := lw_g (lw_at lw_m6 42 rfl) rfl
theorem q1346 : (Jvm.Cond.selects "ChurchyardBook$Single" ({ cls := "ChurchyardBook$Grave", name := "take", desc := "(LChurchyardBook$Person;)V" } : Jvm.MethodName) ({ cls := "ChurchyardBook$Grave", name := "take", desc := "(LChurchyardBook$Person;)V" } : Jvm.MethodName)) ∈ lw_all := lw_g (lw_at lw_m6 60 rfl) rfl
theorem q1368 : (Jvm.Cond.selects "ChurchyardBook$Single" ({ cls := "ChurchyardBook$Grave", name := "hasRest", desc := "(I)Z" } : Jvm.MethodName) ({ cls := "ChurchyardBook$Grave", name := "hasRest", desc := "(I)Z" } : Jvm.MethodName)) ∈ lw_all := lw_g (lw_at lw_m6 82 rfl) rfl
theorem q1386 : (Jvm.Cond.selects "ChurchyardBook$Single" ({ cls := "ChurchyardBook$Grave", name := "kind", desc := "()I" } : Jvm.MethodName) ({ cls := "ChurchyardBook$Single", name := "kind", desc := "()I" } : Jvm.MethodName)) ∈ lw_all := lw_g (lw_at lw_m6 100 rfl) rfl
theorem q1387 : (Jvm.Cond.instanceMethod ({ cls := "ChurchyardBook$Single", name := "kind", desc := "()I" } : Jvm.MethodName)) ∈ lw_all := lw_g (lw_at lw_m6 101 rfl) rfl
theorem q1388 : (Jvm.Cond.code ({ cls := "ChurchyardBook$Single", name := "kind", desc := "()I" } : Jvm.MethodName) prog_14_method_2_code (1 : Nat) (Option.some Jvm.ClassFile.FieldType.int)) ∈ lw_all := lw_g (lw_at lw_m6 102 rfl) rfl
theorem q1419 : (Jvm.Cond.selects "ChurchyardBook$Single" ({ cls := "ChurchyardBook$Grave", name := "turn", desc := "(I)V" } : Jvm.MethodName) ({ cls := "ChurchyardBook$Grave", name := "turn", desc := "(I)V" } : Jvm.MethodName)) ∈ lw_all := lw_g (lw_at lw_m6 133 rfl) rfl
theorem q1429 : (Jvm.Cond.selects "ChurchyardBook$Single" ({ cls := "ChurchyardBook$Grave", name := "falls", desc := "()V" } : Jvm.MethodName) ({ cls := "ChurchyardBook$Grave", name := "falls", desc := "()V" } : Jvm.MethodName)) ∈ lw_all := lw_g (lw_at lw_m6 143 rfl) rfl
theorem q1535 : (Jvm.Cond.instanceMethod ({ cls := "ChurchyardBook$Single", name := "plan", desc := "(III)I" } : Jvm.MethodName)) ∈ lw_all := lw_g (lw_at lw_m7 9 rfl) rfl
theorem q1536 : (Jvm.Cond.code ({ cls := "ChurchyardBook$Single", name := "plan", desc := "(III)I" } : Jvm.MethodName) prog_14_method_7_code (4 : Nat) (Option.some Jvm.ClassFile.FieldType.int)) ∈ lw_all := lw_g (lw_at lw_m7 10 rfl) rfl
theorem q1537 : (Jvm.Cond.methodLink "ChurchyardBook$Single" (31 : Nat) ({ cls := "ChurchyardBook$Single", name := "opens", desc := "(III)I" } : Jvm.MethodName)) ∈ lw_all := lw_g (lw_at lw_m7 11 rfl) rfl
theorem q1538 : (Jvm.Cond.instanceMethod ({ cls := "ChurchyardBook$Single", name := "opens", desc := "(III)I" } : Jvm.MethodName)) ∈ lw_all := lw_g (lw_at lw_m7 12 rfl) rfl
theorem q1539 : (Jvm.Cond.selects "ChurchyardBook$Single" ({ cls := "ChurchyardBook$Single", name := "opens", desc := "(III)I" } : Jvm.MethodName) ({ cls := "ChurchyardBook$Single", name := "opens", desc := "(III)I" } : Jvm.MethodName)) ∈ lw_all := lw_g (lw_at lw_m7 13 rfl) rfl
theorem q1540 : (Jvm.Cond.sameMethod "ChurchyardBook$Single" "ChurchyardBook$Single" "opens" "(III)I") ∈ lw_all := lw_g (lw_at lw_m7 14 rfl) rfl
theorem q1546 : (Jvm.Cond.code ({ cls := "ChurchyardBook$Single", name := "opens", desc := "(III)I" } : Jvm.MethodName) prog_14_method_6_code (5 : Nat) (Option.some Jvm.ClassFile.FieldType.int)) ∈ lw_all := lw_g (lw_at lw_m7 20 rfl) rfl
theorem q1547 : (Jvm.Cond.methodLink "ChurchyardBook$Single" (15 : Nat) ({ cls := "ChurchyardBook$Single", name := "in", desc := "(II)LChurchyardBook$Person;" } : Jvm.MethodName)) ∈ lw_all := lw_g (lw_at lw_m7 21 rfl) rfl
theorem q1548 : (Jvm.Cond.sameMethod "ChurchyardBook$Single" "ChurchyardBook$Grave" "in" "(II)LChurchyardBook$Person;") ∈ lw_all := lw_g (lw_at lw_m7 22 rfl) rfl
theorem q1553 : (Jvm.Cond.selects "ChurchyardBook$Single" ({ cls := "ChurchyardBook$Single", name := "in", desc := "(II)LChurchyardBook$Person;" } : Jvm.MethodName) ({ cls := "ChurchyardBook$Grave", name := "in", desc := "(II)LChurchyardBook$Person;" } : Jvm.MethodName)) ∈ lw_all := lw_g (lw_at lw_m7 27 rfl) rfl
theorem q1555 : (Jvm.Cond.methodLink "ChurchyardBook$Single" (25 : Nat) ({ cls := "java/lang/Math", name := "max", desc := "(II)I" } : Jvm.MethodName)) ∈ lw_all := lw_g (lw_at lw_m7 29 rfl) rfl
theorem q1556 : (Jvm.Cond.methodLink "ChurchyardBook$Single" (35 : Nat) ({ cls := "ChurchyardBook$Single", name := "times", desc := "(III)I" } : Jvm.MethodName)) ∈ lw_all := lw_g (lw_at lw_m7 30 rfl) rfl
theorem q1557 : (Jvm.Cond.static ({ cls := "ChurchyardBook$Single", name := "times", desc := "(III)I" } : Jvm.MethodName)) ∈ lw_all := lw_g (lw_at lw_m7 31 rfl) rfl
theorem q1558 : (Jvm.Cond.code ({ cls := "ChurchyardBook$Single", name := "times", desc := "(III)I" } : Jvm.MethodName) prog_14_method_5_code (3 : Nat) (Option.some Jvm.ClassFile.FieldType.int)) ∈ lw_all := lw_g (lw_at lw_m7 32 rfl) rfl
theorem q1573 : (Jvm.Cond.declares ({ cls := "ChurchyardBook$Single", name := "opens", desc := "(III)I" } : Jvm.MethodName)) ∈ lw_tbl := lw_at lw_m7 47 rfl
theorem q1583 : (Jvm.Cond.selects "ChurchyardBook$Single" ({ cls := "ChurchyardBook$Grave", name := "plan", desc := "(III)I" } : Jvm.MethodName) ({ cls := "ChurchyardBook$Single", name := "plan", desc := "(III)I" } : Jvm.MethodName)) ∈ lw_all := lw_g (lw_at lw_m7 57 rfl) rfl
theorem q1626 : (Jvm.Cond.selects "ChurchyardBook$Single" ({ cls := "ChurchyardBook$Place", name := "what", desc := "()I" } : Jvm.MethodName) ({ cls := "ChurchyardBook$Grave", name := "what", desc := "()I" } : Jvm.MethodName)) ∈ lw_all := lw_g (lw_at lw_m7 100 rfl) rfl
theorem q1696 : (Jvm.Cond.selects "ChurchyardBook$Single" ({ cls := "ChurchyardBook$Grave", name := "greatestEnd", desc := "()I" } : Jvm.MethodName) ({ cls := "ChurchyardBook$Grave", name := "greatestEnd", desc := "()I" } : Jvm.MethodName)) ∈ lw_all := lw_g (lw_at lw_m7 170 rfl) rfl
theorem q2239 : (Jvm.Cond.sameMethod "ChurchyardBook$Single" "ChurchyardBook$Single" "room" "(II)I") ∈ lw_all := lw_g (lw_at lw_m9 233 rfl) rfl
theorem q2252 : (Jvm.Cond.castable "ChurchyardBook$Single" "ChurchyardBook$Grave") ∈ lw_tbl := lw_at lw_m10 6 rfl
theorem q2273 : (Jvm.Cond.castable "ChurchyardBook$Single" "java/lang/Object") ∈ lw_tbl := lw_at lw_m10 27 rfl
theorem q2284 : (Jvm.Cond.castable "ChurchyardBook$Single" "ChurchyardBook$Place") ∈ lw_tbl := lw_at lw_m10 38 rfl
theorem in_X10 : ∀ w ∈ wsX100, w ∈ lw_all := lw_in wsX100 [702, 704, 706, 708, 710, 712, 714, 716, 718, 720, 722, 724, 726, 728, 730, 732] (by decide +kernel) (by decide +kernel)

/-! ChurchyardBook$Deep -/
set_option maxRecDepth 100000
def RX11 : String := "ChurchyardBook$Deep"
def TX11 : u_T := fun k => match k with
  | 0 => ("ChurchyardBook$Grave", "number", "I", true)
  | 1 => ("ChurchyardBook$Grave", "field", "I", true)
  | 2 => ("ChurchyardBook$Grave", "row", "I", true)
  | 3 => ("ChurchyardBook$Grave", "place", "I", true)
  | 4 => ("ChurchyardBook$Grave", "wide", "I", true)
  | 5 => ("ChurchyardBook$Grave", "ground", "I", true)
  | 6 => ("ChurchyardBook$Grave", "state", "I", false)
  | 7 => ("ChurchyardBook$Grave", "holder", "LChurchyardBook$Person;", false)
  | 8 => ("ChurchyardBook$Grave", "to", "I", false)
  | 9 => ("ChurchyardBook$Grave", "offered", "LChurchyardBook$Person;", false)
  | 10 => ("ChurchyardBook$Grave", "date", "I", false)
  | 11 => ("ChurchyardBook$Grave", "order", "Ljava/util/ArrayList;", true)
  | 12 => ("ChurchyardBook$Grave", "at", "I", false)
  | 13 => ("ChurchyardBook$Grave", "told", "[Z", false)
  | 14 => ("ChurchyardBook$Grave", "from", "LChurchyardBook$Person;", false)
  | _ => ("ChurchyardBook$Grave", "lying", "Ljava/util/ArrayList;", true)
def tyX11 : Nat → FieldType := fun k => match k with
  | 0 => .int
  | 1 => .int
  | 2 => .int
  | 3 => .int
  | 4 => .int
  | 5 => .int
  | 6 => .int
  | 7 => .object "ChurchyardBook$Person"
  | 8 => .int
  | 9 => .object "ChurchyardBook$Person"
  | 10 => .int
  | 11 => .object "java/util/ArrayList"
  | 12 => .int
  | 13 => .array .boolean
  | 14 => .object "ChurchyardBook$Person"
  | _ => .object "java/util/ArrayList"
abbrev wsX110 : List Cond := u_ws RX11 TX11 16
set_option maxRecDepth 100000 in
theorem nmX11 : ∀ a, a < 16 → ∀ b, b < 16 → a ≠ b → (TX11 a).2.1 ≠ (TX11 b).2.1 := by decide +kernel
set_option maxRecDepth 100000 in
theorem tyX11_ok : ∀ k, k < 16 → parseFieldDescriptor (TX11 k).2.2.1 = some (tyX11 k) := by decide +kernel
abbrev cX11_init : ByteArray := prog_4_method_1_code
def yX11_init : MethodName := ⟨RX11, "<init>", "(IIIIII)V"⟩
def dkwX11_init_0 : List UInt8 := [42, 27, 28, 29, 21, 4, 21, 5, 21, 6, 183, 0, 1, 177]
abbrev dktX11_init_0 : List UInt8 := dkwX11_init_0 ++ []
theorem dksX11_init_0 : cX11_init.data.toList.drop 0 = dktX11_init_0 := by decide +kernel
theorem dX11_init_0 : decode cX11_init 0 = .ok (.aload_n 0, 1) := dk_42 (dk_at dksX11_init_0 0 rfl rfl)
theorem dX11_init_1 : decode cX11_init 1 = .ok (.iload_n 1, 1) := dk_27 (dk_at dksX11_init_0 1 rfl rfl)
theorem dX11_init_2 : decode cX11_init 2 = .ok (.iload_n 2, 1) := dk_28 (dk_at dksX11_init_0 2 rfl rfl)
theorem dX11_init_3 : decode cX11_init 3 = .ok (.iload_n 3, 1) := dk_29 (dk_at dksX11_init_0 3 rfl rfl)
theorem dX11_init_4 : decode cX11_init 4 = .ok (.iload 4, 2) := dk_21 4 (dk_at dksX11_init_0 4 rfl rfl)
theorem dX11_init_6 : decode cX11_init 6 = .ok (.iload 5, 2) := dk_21 5 (dk_at dksX11_init_0 6 rfl rfl)
theorem dX11_init_8 : decode cX11_init 8 = .ok (.iload 6, 2) := dk_21 6 (dk_at dksX11_init_0 8 rfl rfl)
theorem dX11_init_10 : decode cX11_init 10 = .ok (.invokespecial 1, 3) := dk_183 0 1 (dk_at dksX11_init_0 10 rfl rfl)
theorem dX11_init_13 : decode cX11_init 13 = .ok (.return_, 1) := dk_177 (dk_at dksX11_init_0 13 rfl rfl)
abbrev cX11_room : ByteArray := prog_4_method_4_code
def yX11_room : MethodName := ⟨RX11, "room", "(II)I"⟩
def dkwX11_room_1 : List UInt8 := [167, 0, 4, 29, 172]
abbrev dktX11_room_1 : List UInt8 := dkwX11_room_1 ++ []
def dkwX11_room_0 : List UInt8 := [42, 27, 28, 183, 0, 7, 62, 29, 154, 0, 17, 42, 27, 4, 28, 182, 0, 11, 153, 0, 7, 4]
abbrev dktX11_room_0 : List UInt8 := dkwX11_room_0 ++ dktX11_room_1
theorem dksX11_room_0 : cX11_room.data.toList.drop 0 = dktX11_room_0 := by decide +kernel
theorem dksX11_room_1 : cX11_room.data.toList.drop 22 = dktX11_room_1 := dk_seg dksX11_room_0 22 rfl rfl
theorem dX11_room_0 : decode cX11_room 0 = .ok (.aload_n 0, 1) := dk_42 (dk_at dksX11_room_0 0 rfl rfl)
theorem dX11_room_1 : decode cX11_room 1 = .ok (.iload_n 1, 1) := dk_27 (dk_at dksX11_room_0 1 rfl rfl)
theorem dX11_room_2 : decode cX11_room 2 = .ok (.iload_n 2, 1) := dk_28 (dk_at dksX11_room_0 2 rfl rfl)
theorem dX11_room_3 : decode cX11_room 3 = .ok (.invokespecial 7, 3) := dk_183 0 7 (dk_at dksX11_room_0 3 rfl rfl)
theorem dX11_room_6 : decode cX11_room 6 = .ok (.istore_n 3, 1) := dk_62 (dk_at dksX11_room_0 6 rfl rfl)
theorem dX11_room_7 : decode cX11_room 7 = .ok (.iload_n 3, 1) := dk_29 (dk_at dksX11_room_0 7 rfl rfl)
theorem dX11_room_8 : decode cX11_room 8 = .ok (.ifCond .ne 17, 3) := dk_154 0 17 (dk_at dksX11_room_0 8 rfl rfl)
theorem dX11_room_11 : decode cX11_room 11 = .ok (.aload_n 0, 1) := dk_42 (dk_at dksX11_room_0 11 rfl rfl)
theorem dX11_room_12 : decode cX11_room 12 = .ok (.iload_n 1, 1) := dk_27 (dk_at dksX11_room_0 12 rfl rfl)
theorem dX11_room_13 : decode cX11_room 13 = .ok (.iconst 1, 1) := dk_4 (dk_at dksX11_room_0 13 rfl rfl)
theorem dX11_room_14 : decode cX11_room 14 = .ok (.iload_n 2, 1) := dk_28 (dk_at dksX11_room_0 14 rfl rfl)
theorem dX11_room_15 : decode cX11_room 15 = .ok (.invokevirtual 11, 3) := dk_182 0 11 (dk_at dksX11_room_0 15 rfl rfl)
theorem dX11_room_18 : decode cX11_room 18 = .ok (.ifCond .eq 7, 3) := dk_153 0 7 (dk_at dksX11_room_0 18 rfl rfl)
theorem dX11_room_21 : decode cX11_room 21 = .ok (.iconst 1, 1) := dk_4 (dk_at dksX11_room_0 21 rfl rfl)
theorem dX11_room_22 : decode cX11_room 22 = .ok (.goto 4, 3) := dk_167 0 4 (dk_at dksX11_room_1 0 rfl rfl)
theorem dX11_room_25 : decode cX11_room 25 = .ok (.iload_n 3, 1) := dk_29 (dk_at dksX11_room_1 3 rfl rfl)
theorem dX11_room_26 : decode cX11_room 26 = .ok (.ireturn, 1) := dk_172 (dk_at dksX11_room_1 4 rfl rfl)
abbrev cX11_kind : ByteArray := prog_4_method_2_code
def yX11_kind : MethodName := ⟨RX11, "kind", "()I"⟩
theorem dX11_kind_0 : decode cX11_kind 0 = .ok (.iconst 2, 1) := by decide +kernel
theorem dX11_kind_1 : decode cX11_kind 1 = .ok (.ireturn, 1) := by decide +kernel
abbrev cX11_plan : ByteArray := prog_4_method_6_code
def yX11_plan : MethodName := ⟨RX11, "plan", "(III)I"⟩
def dkwX11_plan_1 : List UInt8 := [182, 0, 33, 96, 54, 4, 132, 5, 1, 167, 255, 230, 21, 4, 172]
abbrev dktX11_plan_1 : List UInt8 := dkwX11_plan_1 ++ []
def dkwX11_plan_0 : List UInt8 := [3, 54, 4, 3, 54, 5, 21, 5, 42, 182, 0, 29, 162, 0, 23, 21, 4, 42, 21, 5, 27, 28, 29]
abbrev dktX11_plan_0 : List UInt8 := dkwX11_plan_0 ++ dktX11_plan_1
theorem dksX11_plan_0 : cX11_plan.data.toList.drop 0 = dktX11_plan_0 := by decide +kernel
theorem dksX11_plan_1 : cX11_plan.data.toList.drop 23 = dktX11_plan_1 := dk_seg dksX11_plan_0 23 rfl rfl
theorem dX11_plan_0 : decode cX11_plan 0 = .ok (.iconst 0, 1) := dk_3 (dk_at dksX11_plan_0 0 rfl rfl)
theorem dX11_plan_1 : decode cX11_plan 1 = .ok (.istore 4, 2) := dk_54 4 (dk_at dksX11_plan_0 1 rfl rfl)
theorem dX11_plan_3 : decode cX11_plan 3 = .ok (.iconst 0, 1) := dk_3 (dk_at dksX11_plan_0 3 rfl rfl)
theorem dX11_plan_4 : decode cX11_plan 4 = .ok (.istore 5, 2) := dk_54 5 (dk_at dksX11_plan_0 4 rfl rfl)
theorem dX11_plan_6 : decode cX11_plan 6 = .ok (.iload 5, 2) := dk_21 5 (dk_at dksX11_plan_0 6 rfl rfl)
theorem dX11_plan_8 : decode cX11_plan 8 = .ok (.aload_n 0, 1) := dk_42 (dk_at dksX11_plan_0 8 rfl rfl)
theorem dX11_plan_9 : decode cX11_plan 9 = .ok (.invokevirtual 29, 3) := dk_182 0 29 (dk_at dksX11_plan_0 9 rfl rfl)
theorem dX11_plan_12 : decode cX11_plan 12 = .ok (.if_icmp .ge 23, 3) := dk_162 0 23 (dk_at dksX11_plan_0 12 rfl rfl)
theorem dX11_plan_15 : decode cX11_plan 15 = .ok (.iload 4, 2) := dk_21 4 (dk_at dksX11_plan_0 15 rfl rfl)
theorem dX11_plan_17 : decode cX11_plan 17 = .ok (.aload_n 0, 1) := dk_42 (dk_at dksX11_plan_0 17 rfl rfl)
theorem dX11_plan_18 : decode cX11_plan 18 = .ok (.iload 5, 2) := dk_21 5 (dk_at dksX11_plan_0 18 rfl rfl)
theorem dX11_plan_20 : decode cX11_plan 20 = .ok (.iload_n 1, 1) := dk_27 (dk_at dksX11_plan_0 20 rfl rfl)
theorem dX11_plan_21 : decode cX11_plan 21 = .ok (.iload_n 2, 1) := dk_28 (dk_at dksX11_plan_0 21 rfl rfl)
theorem dX11_plan_22 : decode cX11_plan 22 = .ok (.iload_n 3, 1) := dk_29 (dk_at dksX11_plan_0 22 rfl rfl)
theorem dX11_plan_23 : decode cX11_plan 23 = .ok (.invokevirtual 33, 3) := dk_182 0 33 (dk_at dksX11_plan_1 0 rfl rfl)
theorem dX11_plan_26 : decode cX11_plan 26 = .ok (.iadd, 1) := dk_96 (dk_at dksX11_plan_1 3 rfl rfl)
theorem dX11_plan_27 : decode cX11_plan 27 = .ok (.istore 4, 2) := dk_54 4 (dk_at dksX11_plan_1 4 rfl rfl)
theorem dX11_plan_29 : decode cX11_plan 29 = .ok (.iinc 5 1, 3) := dk_132 5 1 (dk_at dksX11_plan_1 6 rfl rfl)
theorem dX11_plan_32 : decode cX11_plan 32 = .ok (.goto (-26), 3) := dk_167 255 230 (dk_at dksX11_plan_1 9 rfl rfl)
theorem dX11_plan_35 : decode cX11_plan 35 = .ok (.iload 4, 2) := dk_21 4 (dk_at dksX11_plan_1 12 rfl rfl)
theorem dX11_plan_37 : decode cX11_plan 37 = .ok (.ireturn, 1) := dk_172 (dk_at dksX11_plan_1 14 rfl rfl)
abbrev cX11_column : ByteArray := prog_4_method_5_code
def yX11_column : MethodName := ⟨RX11, "column", "(IIII)I"⟩
def dkwX11_column_4 : List UInt8 := [21, 7, 172]
abbrev dktX11_column_4 : List UInt8 := dkwX11_column_4 ++ []
def dkwX11_column_3 : List UInt8 := [21, 6, 184, 0, 21, 29, 21, 4, 184, 0, 26, 104, 96, 184, 0, 21, 54, 7, 132, 8, 1, 167, 255, 208]
abbrev dktX11_column_3 : List UInt8 := dkwX11_column_3 ++ dktX11_column_4
def dkwX11_column_2 : List UInt8 := [162, 0, 47, 21, 9, 29, 163, 0, 41, 21, 9, 21, 4, 96, 54, 9, 21, 7, 21, 8, 5, 21, 9]
abbrev dktX11_column_2 : List UInt8 := dkwX11_column_2 ++ dktX11_column_3
def dkwX11_column_1 : List UInt8 := [184, 0, 21, 29, 21, 4, 184, 0, 26, 104, 54, 7, 4, 54, 8, 21, 5, 54, 9, 21, 9, 21, 6]
abbrev dktX11_column_1 : List UInt8 := dkwX11_column_1 ++ dktX11_column_2
def dkwX11_column_0 : List UInt8 := [42, 27, 3, 28, 182, 0, 17, 54, 5, 42, 27, 4, 28, 182, 0, 17, 54, 6, 5, 21, 5, 21, 6]
abbrev dktX11_column_0 : List UInt8 := dkwX11_column_0 ++ dktX11_column_1
theorem dksX11_column_0 : cX11_column.data.toList.drop 0 = dktX11_column_0 := by decide +kernel
theorem dksX11_column_1 : cX11_column.data.toList.drop 23 = dktX11_column_1 := dk_seg dksX11_column_0 23 rfl rfl
theorem dksX11_column_2 : cX11_column.data.toList.drop 46 = dktX11_column_2 := dk_seg dksX11_column_1 23 rfl rfl
theorem dksX11_column_3 : cX11_column.data.toList.drop 69 = dktX11_column_3 := dk_seg dksX11_column_2 23 rfl rfl
theorem dksX11_column_4 : cX11_column.data.toList.drop 93 = dktX11_column_4 := dk_seg dksX11_column_3 24 rfl rfl
theorem dX11_column_0 : decode cX11_column 0 = .ok (.aload_n 0, 1) := dk_42 (dk_at dksX11_column_0 0 rfl rfl)
theorem dX11_column_1 : decode cX11_column 1 = .ok (.iload_n 1, 1) := dk_27 (dk_at dksX11_column_0 1 rfl rfl)
theorem dX11_column_2 : decode cX11_column 2 = .ok (.iconst 0, 1) := dk_3 (dk_at dksX11_column_0 2 rfl rfl)
theorem dX11_column_3 : decode cX11_column 3 = .ok (.iload_n 2, 1) := dk_28 (dk_at dksX11_column_0 3 rfl rfl)
theorem dX11_column_4 : decode cX11_column 4 = .ok (.invokevirtual 17, 3) := dk_182 0 17 (dk_at dksX11_column_0 4 rfl rfl)
theorem dX11_column_7 : decode cX11_column 7 = .ok (.istore 5, 2) := dk_54 5 (dk_at dksX11_column_0 7 rfl rfl)
theorem dX11_column_9 : decode cX11_column 9 = .ok (.aload_n 0, 1) := dk_42 (dk_at dksX11_column_0 9 rfl rfl)
theorem dX11_column_10 : decode cX11_column 10 = .ok (.iload_n 1, 1) := dk_27 (dk_at dksX11_column_0 10 rfl rfl)
theorem dX11_column_11 : decode cX11_column 11 = .ok (.iconst 1, 1) := dk_4 (dk_at dksX11_column_0 11 rfl rfl)
theorem dX11_column_12 : decode cX11_column 12 = .ok (.iload_n 2, 1) := dk_28 (dk_at dksX11_column_0 12 rfl rfl)
theorem dX11_column_13 : decode cX11_column 13 = .ok (.invokevirtual 17, 3) := dk_182 0 17 (dk_at dksX11_column_0 13 rfl rfl)
theorem dX11_column_16 : decode cX11_column 16 = .ok (.istore 6, 2) := dk_54 6 (dk_at dksX11_column_0 16 rfl rfl)
theorem dX11_column_18 : decode cX11_column 18 = .ok (.iconst 2, 1) := dk_5 (dk_at dksX11_column_0 18 rfl rfl)
theorem dX11_column_19 : decode cX11_column 19 = .ok (.iload 5, 2) := dk_21 5 (dk_at dksX11_column_0 19 rfl rfl)
theorem dX11_column_21 : decode cX11_column 21 = .ok (.iload 6, 2) := dk_21 6 (dk_at dksX11_column_0 21 rfl rfl)
theorem dX11_column_23 : decode cX11_column 23 = .ok (.invokestatic 21, 3) := dk_184 0 21 (dk_at dksX11_column_1 0 rfl rfl)
theorem dX11_column_26 : decode cX11_column 26 = .ok (.iload_n 3, 1) := dk_29 (dk_at dksX11_column_1 3 rfl rfl)
theorem dX11_column_27 : decode cX11_column 27 = .ok (.iload 4, 2) := dk_21 4 (dk_at dksX11_column_1 4 rfl rfl)
theorem dX11_column_29 : decode cX11_column 29 = .ok (.invokestatic 26, 3) := dk_184 0 26 (dk_at dksX11_column_1 6 rfl rfl)
theorem dX11_column_32 : decode cX11_column 32 = .ok (.imul, 1) := dk_104 (dk_at dksX11_column_1 9 rfl rfl)
theorem dX11_column_33 : decode cX11_column 33 = .ok (.istore 7, 2) := dk_54 7 (dk_at dksX11_column_1 10 rfl rfl)
theorem dX11_column_35 : decode cX11_column 35 = .ok (.iconst 1, 1) := dk_4 (dk_at dksX11_column_1 12 rfl rfl)
theorem dX11_column_36 : decode cX11_column 36 = .ok (.istore 8, 2) := dk_54 8 (dk_at dksX11_column_1 13 rfl rfl)
theorem dX11_column_38 : decode cX11_column 38 = .ok (.iload 5, 2) := dk_21 5 (dk_at dksX11_column_1 15 rfl rfl)
theorem dX11_column_40 : decode cX11_column 40 = .ok (.istore 9, 2) := dk_54 9 (dk_at dksX11_column_1 17 rfl rfl)
theorem dX11_column_42 : decode cX11_column 42 = .ok (.iload 9, 2) := dk_21 9 (dk_at dksX11_column_1 19 rfl rfl)
theorem dX11_column_44 : decode cX11_column 44 = .ok (.iload 6, 2) := dk_21 6 (dk_at dksX11_column_1 21 rfl rfl)
theorem dX11_column_46 : decode cX11_column 46 = .ok (.if_icmp .ge 47, 3) := dk_162 0 47 (dk_at dksX11_column_2 0 rfl rfl)
theorem dX11_column_49 : decode cX11_column 49 = .ok (.iload 9, 2) := dk_21 9 (dk_at dksX11_column_2 3 rfl rfl)
theorem dX11_column_51 : decode cX11_column 51 = .ok (.iload_n 3, 1) := dk_29 (dk_at dksX11_column_2 5 rfl rfl)
theorem dX11_column_52 : decode cX11_column 52 = .ok (.if_icmp .gt 41, 3) := dk_163 0 41 (dk_at dksX11_column_2 6 rfl rfl)
theorem dX11_column_55 : decode cX11_column 55 = .ok (.iload 9, 2) := dk_21 9 (dk_at dksX11_column_2 9 rfl rfl)
theorem dX11_column_57 : decode cX11_column 57 = .ok (.iload 4, 2) := dk_21 4 (dk_at dksX11_column_2 11 rfl rfl)
theorem dX11_column_59 : decode cX11_column 59 = .ok (.iadd, 1) := dk_96 (dk_at dksX11_column_2 13 rfl rfl)
theorem dX11_column_60 : decode cX11_column 60 = .ok (.istore 9, 2) := dk_54 9 (dk_at dksX11_column_2 14 rfl rfl)
theorem dX11_column_62 : decode cX11_column 62 = .ok (.iload 7, 2) := dk_21 7 (dk_at dksX11_column_2 16 rfl rfl)
theorem dX11_column_64 : decode cX11_column 64 = .ok (.iload 8, 2) := dk_21 8 (dk_at dksX11_column_2 18 rfl rfl)
theorem dX11_column_66 : decode cX11_column 66 = .ok (.iconst 2, 1) := dk_5 (dk_at dksX11_column_2 20 rfl rfl)
theorem dX11_column_67 : decode cX11_column 67 = .ok (.iload 9, 2) := dk_21 9 (dk_at dksX11_column_2 21 rfl rfl)
theorem dX11_column_69 : decode cX11_column 69 = .ok (.iload 6, 2) := dk_21 6 (dk_at dksX11_column_3 0 rfl rfl)
theorem dX11_column_71 : decode cX11_column 71 = .ok (.invokestatic 21, 3) := dk_184 0 21 (dk_at dksX11_column_3 2 rfl rfl)
theorem dX11_column_74 : decode cX11_column 74 = .ok (.iload_n 3, 1) := dk_29 (dk_at dksX11_column_3 5 rfl rfl)
theorem dX11_column_75 : decode cX11_column 75 = .ok (.iload 4, 2) := dk_21 4 (dk_at dksX11_column_3 6 rfl rfl)
theorem dX11_column_77 : decode cX11_column 77 = .ok (.invokestatic 26, 3) := dk_184 0 26 (dk_at dksX11_column_3 8 rfl rfl)
theorem dX11_column_80 : decode cX11_column 80 = .ok (.imul, 1) := dk_104 (dk_at dksX11_column_3 11 rfl rfl)
theorem dX11_column_81 : decode cX11_column 81 = .ok (.iadd, 1) := dk_96 (dk_at dksX11_column_3 12 rfl rfl)
theorem dX11_column_82 : decode cX11_column 82 = .ok (.invokestatic 21, 3) := dk_184 0 21 (dk_at dksX11_column_3 13 rfl rfl)
theorem dX11_column_85 : decode cX11_column 85 = .ok (.istore 7, 2) := dk_54 7 (dk_at dksX11_column_3 16 rfl rfl)
theorem dX11_column_87 : decode cX11_column 87 = .ok (.iinc 8 1, 3) := dk_132 8 1 (dk_at dksX11_column_3 18 rfl rfl)
theorem dX11_column_90 : decode cX11_column 90 = .ok (.goto (-48), 3) := dk_167 255 208 (dk_at dksX11_column_3 21 rfl rfl)
theorem dX11_column_93 : decode cX11_column 93 = .ok (.iload 7, 2) := dk_21 7 (dk_at dksX11_column_4 0 rfl rfl)
theorem dX11_column_95 : decode cX11_column 95 = .ok (.ireturn, 1) := dk_172 (dk_at dksX11_column_4 2 rfl rfl)
theorem q116 : (Jvm.Cond.initialized "ChurchyardBook$Deep") ∈ lw_all := lw_g (lw_at lw_m1 30 rfl) rfl
theorem q411 : (Jvm.Cond.selects "ChurchyardBook$Deep" ({ cls := "java/lang/Object", name := "getClass", desc := "()Ljava/lang/Class;" } : Jvm.MethodName) ({ cls := "java/lang/Object", name := "getClass", desc := "()Ljava/lang/Class;" } : Jvm.MethodName)) ∈ lw_all := lw_g (lw_at lw_m2 85 rfl) rfl
theorem q591 : (Jvm.Cond.castable "ChurchyardBook$Deep" "ChurchyardBook$Takes") ∈ lw_tbl := lw_at lw_m3 25 rfl
theorem q592 : (Jvm.Cond.unhidden "ChurchyardBook$Deep" "shunsTrees" "()Z") ∈ lw_tbl := lw_at lw_m3 26 rfl
theorem q735 : (Jvm.Cond.instantiable "ChurchyardBook$Deep" (16 : Nat)) ∈ lw_all := lw_g (lw_at lw_m3 169 rfl) rfl
theorem q737 : (Jvm.Cond.instanceMethod ({ cls := "ChurchyardBook$Deep", name := "<init>", desc := "(IIIIII)V" } : Jvm.MethodName)) ∈ lw_all := lw_g (lw_at lw_m3 171 rfl) rfl
theorem q738 : (Jvm.Cond.code ({ cls := "ChurchyardBook$Deep", name := "<init>", desc := "(IIIIII)V" } : Jvm.MethodName) prog_4_method_1_code (7 : Nat) (Option.none : Option Jvm.ClassFile.FieldType)) ∈ lw_all := lw_g (lw_at lw_m3 172 rfl) rfl
theorem q739 : (Jvm.Cond.methodLink "ChurchyardBook$Deep" (1 : Nat) ({ cls := "ChurchyardBook$Single", name := "<init>", desc := "(IIIIII)V" } : Jvm.MethodName)) ∈ lw_all := lw_g (lw_at lw_m3 173 rfl) rfl
theorem q740 : (Jvm.Cond.laysFinal "ChurchyardBook$Deep" "ChurchyardBook$Grave" "number" "I") ∈ lw_all := lw_g (lw_at lw_m3 174 rfl) rfl
theorem q741 : (Jvm.Cond.laysFinal "ChurchyardBook$Deep" "ChurchyardBook$Grave" "field" "I") ∈ lw_all := lw_g (lw_at lw_m3 175 rfl) rfl
theorem q742 : (Jvm.Cond.laysFinal "ChurchyardBook$Deep" "ChurchyardBook$Grave" "row" "I") ∈ lw_all := lw_g (lw_at lw_m3 176 rfl) rfl
theorem q743 : (Jvm.Cond.laysFinal "ChurchyardBook$Deep" "ChurchyardBook$Grave" "place" "I") ∈ lw_all := lw_g (lw_at lw_m3 177 rfl) rfl
theorem q744 : (Jvm.Cond.laysFinal "ChurchyardBook$Deep" "ChurchyardBook$Grave" "wide" "I") ∈ lw_all := lw_g (lw_at lw_m3 178 rfl) rfl
theorem q745 : (Jvm.Cond.laysFinal "ChurchyardBook$Deep" "ChurchyardBook$Grave" "ground" "I") ∈ lw_all := lw_g (lw_at lw_m3 179 rfl) rfl
theorem q746 : (Jvm.Cond.lays "ChurchyardBook$Deep" "ChurchyardBook$Grave" "state" "I") ∈ lw_all := lw_g (lw_at lw_m3 180 rfl) rfl
theorem q747 : (Jvm.Cond.lays "ChurchyardBook$Deep" "ChurchyardBook$Grave" "holder" "LChurchyardBook$Person;") ∈ lw_all := lw_g (lw_at lw_m3 181 rfl) rfl
theorem q748 : (Jvm.Cond.lays "ChurchyardBook$Deep" "ChurchyardBook$Grave" "to" "I") ∈ lw_all := lw_g (lw_at lw_m3 182 rfl) rfl
theorem q749 : (Jvm.Cond.lays "ChurchyardBook$Deep" "ChurchyardBook$Grave" "offered" "LChurchyardBook$Person;") ∈ lw_all := lw_g (lw_at lw_m3 183 rfl) rfl
theorem q750 : (Jvm.Cond.lays "ChurchyardBook$Deep" "ChurchyardBook$Grave" "date" "I") ∈ lw_all := lw_g (lw_at lw_m3 184 rfl) rfl
theorem q751 : (Jvm.Cond.laysFinal "ChurchyardBook$Deep" "ChurchyardBook$Grave" "order" "Ljava/util/ArrayList;") ∈ lw_all := lw_g (lw_at lw_m3 185 rfl) rfl
theorem q752 : (Jvm.Cond.lays "ChurchyardBook$Deep" "ChurchyardBook$Grave" "at" "I") ∈ lw_all := lw_g (lw_at lw_m3 186 rfl) rfl
theorem q753 : (Jvm.Cond.lays "ChurchyardBook$Deep" "ChurchyardBook$Grave" "told" "[Z") ∈ lw_all := lw_g (lw_at lw_m3 187 rfl) rfl
theorem q754 : (Jvm.Cond.lays "ChurchyardBook$Deep" "ChurchyardBook$Grave" "from" "LChurchyardBook$Person;") ∈ lw_all := lw_g (lw_at lw_m3 188 rfl) rfl
theorem q755 : (Jvm.Cond.laysFinal "ChurchyardBook$Deep" "ChurchyardBook$Grave" "lying" "Ljava/util/ArrayList;") ∈ lw_all := lw_g (lw_at lw_m3 189 rfl) rfl
theorem q756 : (Jvm.Cond.superclass "ChurchyardBook$Deep" "ChurchyardBook$Single") ∈ lw_all := lw_g (lw_at lw_m3 190 rfl) rfl
theorem q961 : (Jvm.Cond.selects "ChurchyardBook$Deep" ({ cls := "ChurchyardBook$Grave", name := "needsHolder", desc := "()Z" } : Jvm.MethodName) ({ cls := "ChurchyardBook$Grave", name := "needsHolder", desc := "()Z" } : Jvm.MethodName)) ∈ lw_all := lw_g (lw_at lw_m4 155 rfl) rfl
theorem q973 : (Jvm.Cond.selects "ChurchyardBook$Deep" ({ cls := "ChurchyardBook$Grave", name := "hold", desc := "(LChurchyardBook$Person;)V" } : Jvm.MethodName) ({ cls := "ChurchyardBook$Grave", name := "hold", desc := "(LChurchyardBook$Person;)V" } : Jvm.MethodName)) ∈ lw_all := lw_g (lw_at lw_m4 167 rfl) rfl
theorem q987 : (Jvm.Cond.selects "ChurchyardBook$Deep" ({ cls := "ChurchyardBook$Grave", name := "yearly", desc := "()I" } : Jvm.MethodName) ({ cls := "ChurchyardBook$Grave", name := "yearly", desc := "()I" } : Jvm.MethodName)) ∈ lw_all := lw_g (lw_at lw_m4 181 rfl) rfl
theorem q992 : (Jvm.Cond.sameMethod "ChurchyardBook$Deep" "ChurchyardBook$Grave" "yearly" "()I") ∈ lw_all := lw_g (lw_at lw_m4 186 rfl) rfl
theorem q1042 : (Jvm.Cond.selects "ChurchyardBook$Deep" ({ cls := "java/lang/Object", name := "equals", desc := "(Ljava/lang/Object;)Z" } : Jvm.MethodName) ({ cls := "java/lang/Object", name := "equals", desc := "(Ljava/lang/Object;)Z" } : Jvm.MethodName)) ∈ lw_all := lw_g (lw_at lw_m4 236 rfl) rfl
theorem q1082 : (Jvm.Cond.selects "ChurchyardBook$Deep" ({ cls := "ChurchyardBook$Grave", name := "passOn", desc := "(I)V" } : Jvm.MethodName) ({ cls := "ChurchyardBook$Grave", name := "passOn", desc := "(I)V" } : Jvm.MethodName)) ∈ lw_all := lw_g (lw_at lw_m5 36 rfl) rfl
theorem q1118 : (Jvm.Cond.unhidden "ChurchyardBook$Deep" "years" "(I)I") ∈ lw_tbl := lw_at lw_m5 72 rfl
theorem q1136 : (Jvm.Cond.castable "ChurchyardBook$Deep" "ChurchyardBook$Rests") ∈ lw_tbl := lw_at lw_m5 90 rfl
theorem q1137 : (Jvm.Cond.selects "ChurchyardBook$Deep" ({ cls := "ChurchyardBook$Rests", name := "ground", desc := "()I" } : Jvm.MethodName) ({ cls := "ChurchyardBook$Grave", name := "ground", desc := "()I" } : Jvm.MethodName)) ∈ lw_all := lw_g (lw_at lw_m5 91 rfl) rfl
theorem q1138 : (Jvm.Cond.unhidden "ChurchyardBook$Deep" "ground" "()I") ∈ lw_tbl := lw_at lw_m5 92 rfl
theorem q1159 : (Jvm.Cond.selects "ChurchyardBook$Deep" ({ cls := "ChurchyardBook$Grave", name := "isColumn", desc := "(I)Z" } : Jvm.MethodName) ({ cls := "ChurchyardBook$Grave", name := "isColumn", desc := "(I)Z" } : Jvm.MethodName)) ∈ lw_all := lw_g (lw_at lw_m5 113 rfl) rfl
theorem q1169 : (Jvm.Cond.selects "ChurchyardBook$Deep" ({ cls := "ChurchyardBook$Grave", name := "columns", desc := "()I" } : Jvm.MethodName) ({ cls := "ChurchyardBook$Grave", name := "columns", desc := "()I" } : Jvm.MethodName)) ∈ lw_all := lw_g (lw_at lw_m5 123 rfl) rfl
theorem q1185 : (Jvm.Cond.selects "ChurchyardBook$Deep" ({ cls := "ChurchyardBook$Takes", name := "takes", desc := "(I)Z" } : Jvm.MethodName) ({ cls := "ChurchyardBook$Single", name := "takes", desc := "(I)Z" } : Jvm.MethodName)) ∈ lw_all := lw_g (lw_at lw_m5 139 rfl) rfl
theorem q1204 : (Jvm.Cond.selects "ChurchyardBook$Deep" ({ cls := "ChurchyardBook$Single", name := "isOpen", desc := "(III)Z" } : Jvm.MethodName) ({ cls := "ChurchyardBook$Grave", name := "isOpen", desc := "(III)Z" } : Jvm.MethodName)) ∈ lw_all := lw_g (lw_at lw_m5 158 rfl) rfl
theorem q1215 : (Jvm.Cond.selects "ChurchyardBook$Deep" ({ cls := "ChurchyardBook$Grave", name := "in", desc := "(II)LChurchyardBook$Person;" } : Jvm.MethodName) ({ cls := "ChurchyardBook$Grave", name := "in", desc := "(II)LChurchyardBook$Person;" } : Jvm.MethodName)) ∈ lw_all := lw_g (lw_at lw_m5 169 rfl) rfl
theorem q1225 : (Jvm.Cond.selects "ChurchyardBook$Deep" ({ cls := "ChurchyardBook$Grave", name := "room", desc := "(II)I" } : Jvm.MethodName) ({ cls := "ChurchyardBook$Deep", name := "room", desc := "(II)I" } : Jvm.MethodName)) ∈ lw_all := lw_g (lw_at lw_m5 179 rfl) rfl
theorem q1226 : (Jvm.Cond.instanceMethod ({ cls := "ChurchyardBook$Deep", name := "room", desc := "(II)I" } : Jvm.MethodName)) ∈ lw_all := lw_g (lw_at lw_m5 180 rfl) rfl
theorem q1227 : (Jvm.Cond.code ({ cls := "ChurchyardBook$Deep", name := "room", desc := "(II)I" } : Jvm.MethodName) prog_4_method_4_code (4 : Nat) (Option.some Jvm.ClassFile.FieldType.int)) ∈ lw_all := lw_g (lw_at lw_m5 181 rfl) rfl
theorem q1228 : (Jvm.Cond.methodLink "ChurchyardBook$Deep" (7 : Nat) ({ cls := "ChurchyardBook$Single", name := "room", desc := "(II)I" } : Jvm.MethodName)) ∈ lw_all := lw_g (lw_at lw_m5 182 rfl) rfl
theorem q1229 : (Jvm.Cond.methodLink "ChurchyardBook$Deep" (11 : Nat) ({ cls := "ChurchyardBook$Deep", name := "isOpen", desc := "(III)Z" } : Jvm.MethodName)) ∈ lw_all := lw_g (lw_at lw_m5 183 rfl) rfl
theorem q1230 : (Jvm.Cond.sameMethod "ChurchyardBook$Deep" "ChurchyardBook$Grave" "isOpen" "(III)Z") ∈ lw_all := lw_g (lw_at lw_m5 184 rfl) rfl
theorem q1231 : (Jvm.Cond.selects "ChurchyardBook$Deep" ({ cls := "ChurchyardBook$Deep", name := "isOpen", desc := "(III)Z" } : Jvm.MethodName) ({ cls := "ChurchyardBook$Grave", name := "isOpen", desc := "(III)Z" } : Jvm.MethodName)) ∈ lw_all := lw_g (lw_at lw_m5 185 rfl) rfl
theorem q1251 : (Jvm.Cond.selects "ChurchyardBook$Deep" ({ cls := "ChurchyardBook$Grave", name := "isAgreed", desc := "(LChurchyardBook$Person;)Z" } : Jvm.MethodName) ({ cls := "ChurchyardBook$Grave", name := "isAgreed", desc := "(LChurchyardBook$Person;)Z" } : Jvm.MethodName)) ∈ lw_all := lw_g (lw_at lw_m5 205 rfl) rfl
theorem q1260 : (Jvm.Cond.unhidden "ChurchyardBook$Deep" "lacks" "(I)I") ∈ lw_tbl := lw_at lw_m5 214 rfl
theorem q1278 : (Jvm.Cond.castable "ChurchyardBook$Deep" "ChurchyardBook$Ends") ∈ lw_tbl := lw_at lw_m5 232 rfl
theorem q1279 : (Jvm.Cond.selects "ChurchyardBook$Deep" ({ cls := "ChurchyardBook$Ends", name := "to", desc := "()I" } : Jvm.MethodName) ({ cls := "ChurchyardBook$Grave", name := "to", desc := "()I" } : Jvm.MethodName)) ∈ lw_all := lw_g (lw_at lw_m5 233 rfl) rfl
theorem q1280 : (Jvm.Cond.unhidden "ChurchyardBook$Deep" "to" "()I") ∈ lw_tbl := lw_at lw_m5 234 rfl
theorem q1301 : (Jvm.Cond.selects "ChurchyardBook$Deep" ({ cls := "ChurchyardBook$Grave", name := "put", desc := "(LChurchyardBook$Person;III)V" } : Jvm.MethodName) ({ cls := "ChurchyardBook$Grave", name := "put", desc := "(LChurchyardBook$Person;III)V" } : Jvm.MethodName)) ∈ lw_all := lw_g (lw_at lw_m6 15 rfl) rfl
theorem q1343 : (Jvm.Cond.selects "ChurchyardBook$Deep" ({ cls := "ChurchyardBook$Grave", name := "take", desc := "(LChurchyardBook$Person;)V" } : Jvm.MethodName) ({ cls := "ChurchyardBook$Grave", name := "take", desc := "(LChurchyardBook$Person;)V" } : Jvm.MethodName)) ∈ lw_all := lw_g (lw_at lw_m6 57 rfl) rfl
theorem q1365 : (Jvm.Cond.selects "ChurchyardBook$Deep" ({ cls := "ChurchyardBook$Grave", name := "hasRest", desc := "(I)Z" } : Jvm.MethodName) ({ cls := "ChurchyardBook$Grave", name := "hasRest", desc := "(I)Z" } : Jvm.MethodName)) ∈ lw_all := lw_g (lw_at lw_m6 79 rfl) rfl
theorem q1377 : (Jvm.Cond.selects "ChurchyardBook$Deep" ({ cls := "ChurchyardBook$Grave", name := "kind", desc := "()I" } : Jvm.MethodName) ({ cls := "ChurchyardBook$Deep", name := "kind", desc := "()I" } : Jvm.MethodName)) ∈ lw_all := lw_g (lw_at lw_m6 91 rfl) rfl
theorem q1378 : (Jvm.Cond.instanceMethod ({ cls := "ChurchyardBook$Deep", name := "kind", desc := "()I" } : Jvm.MethodName)) ∈ lw_all := lw_g (lw_at lw_m6 92 rfl) rfl
theorem q1379 : (Jvm.Cond.code ({ cls := "ChurchyardBook$Deep", name := "kind", desc := "()I" } : Jvm.MethodName) prog_4_method_2_code (1 : Nat) (Option.some Jvm.ClassFile.FieldType.int)) ∈ lw_all := lw_g (lw_at lw_m6 93 rfl) rfl
theorem q1416 : (Jvm.Cond.selects "ChurchyardBook$Deep" ({ cls := "ChurchyardBook$Grave", name := "turn", desc := "(I)V" } : Jvm.MethodName) ({ cls := "ChurchyardBook$Grave", name := "turn", desc := "(I)V" } : Jvm.MethodName)) ∈ lw_all := lw_g (lw_at lw_m6 130 rfl) rfl
theorem q1426 : (Jvm.Cond.selects "ChurchyardBook$Deep" ({ cls := "ChurchyardBook$Grave", name := "falls", desc := "()V" } : Jvm.MethodName) ({ cls := "ChurchyardBook$Grave", name := "falls", desc := "()V" } : Jvm.MethodName)) ∈ lw_all := lw_g (lw_at lw_m6 140 rfl) rfl
theorem q1542 : (Jvm.Cond.selects "ChurchyardBook$Deep" ({ cls := "ChurchyardBook$Single", name := "opens", desc := "(III)I" } : Jvm.MethodName) ({ cls := "ChurchyardBook$Single", name := "opens", desc := "(III)I" } : Jvm.MethodName)) ∈ lw_all := lw_g (lw_at lw_m7 16 rfl) rfl
theorem q1550 : (Jvm.Cond.selects "ChurchyardBook$Deep" ({ cls := "ChurchyardBook$Single", name := "in", desc := "(II)LChurchyardBook$Person;" } : Jvm.MethodName) ({ cls := "ChurchyardBook$Grave", name := "in", desc := "(II)LChurchyardBook$Person;" } : Jvm.MethodName)) ∈ lw_all := lw_g (lw_at lw_m7 24 rfl) rfl
theorem q1559 : (Jvm.Cond.selects "ChurchyardBook$Deep" ({ cls := "ChurchyardBook$Grave", name := "plan", desc := "(III)I" } : Jvm.MethodName) ({ cls := "ChurchyardBook$Deep", name := "plan", desc := "(III)I" } : Jvm.MethodName)) ∈ lw_all := lw_g (lw_at lw_m7 33 rfl) rfl
theorem q1560 : (Jvm.Cond.instanceMethod ({ cls := "ChurchyardBook$Deep", name := "plan", desc := "(III)I" } : Jvm.MethodName)) ∈ lw_all := lw_g (lw_at lw_m7 34 rfl) rfl
theorem q1561 : (Jvm.Cond.code ({ cls := "ChurchyardBook$Deep", name := "plan", desc := "(III)I" } : Jvm.MethodName) prog_4_method_6_code (6 : Nat) (Option.some Jvm.ClassFile.FieldType.int)) ∈ lw_all := lw_g (lw_at lw_m7 35 rfl) rfl
theorem q1562 : (Jvm.Cond.methodLink "ChurchyardBook$Deep" (29 : Nat) ({ cls := "ChurchyardBook$Deep", name := "columns", desc := "()I" } : Jvm.MethodName)) ∈ lw_all := lw_g (lw_at lw_m7 36 rfl) rfl
theorem q1563 : (Jvm.Cond.sameMethod "ChurchyardBook$Deep" "ChurchyardBook$Grave" "columns" "()I") ∈ lw_all := lw_g (lw_at lw_m7 37 rfl) rfl
theorem q1565 : (Jvm.Cond.selects "ChurchyardBook$Deep" ({ cls := "ChurchyardBook$Deep", name := "columns", desc := "()I" } : Jvm.MethodName) ({ cls := "ChurchyardBook$Grave", name := "columns", desc := "()I" } : Jvm.MethodName)) ∈ lw_all := lw_g (lw_at lw_m7 39 rfl) rfl
theorem q1567 : (Jvm.Cond.methodLink "ChurchyardBook$Deep" (33 : Nat) ({ cls := "ChurchyardBook$Deep", name := "column", desc := "(IIII)I" } : Jvm.MethodName)) ∈ lw_all := lw_g (lw_at lw_m7 41 rfl) rfl
theorem q1568 : (Jvm.Cond.privateMethod ({ cls := "ChurchyardBook$Deep", name := "column", desc := "(IIII)I" } : Jvm.MethodName)) ∈ lw_tbl := lw_at lw_m7 42 rfl
theorem q1569 : (Jvm.Cond.instanceMethod ({ cls := "ChurchyardBook$Deep", name := "column", desc := "(IIII)I" } : Jvm.MethodName)) ∈ lw_all := lw_g (lw_at lw_m7 43 rfl) rfl
theorem q1570 : (Jvm.Cond.code ({ cls := "ChurchyardBook$Deep", name := "column", desc := "(IIII)I" } : Jvm.MethodName) prog_4_method_5_code (10 : Nat) (Option.some Jvm.ClassFile.FieldType.int)) ∈ lw_all := lw_g (lw_at lw_m7 44 rfl) rfl
theorem q1571 : (Jvm.Cond.methodLink "ChurchyardBook$Deep" (17 : Nat) ({ cls := "ChurchyardBook$Deep", name := "opens", desc := "(III)I" } : Jvm.MethodName)) ∈ lw_all := lw_g (lw_at lw_m7 45 rfl) rfl
theorem q1572 : (Jvm.Cond.sameMethod "ChurchyardBook$Deep" "ChurchyardBook$Single" "opens" "(III)I") ∈ lw_all := lw_g (lw_at lw_m7 46 rfl) rfl
theorem q1574 : (Jvm.Cond.selects "ChurchyardBook$Deep" ({ cls := "ChurchyardBook$Deep", name := "opens", desc := "(III)I" } : Jvm.MethodName) ({ cls := "ChurchyardBook$Single", name := "opens", desc := "(III)I" } : Jvm.MethodName)) ∈ lw_all := lw_g (lw_at lw_m7 48 rfl) rfl
theorem q1576 : (Jvm.Cond.methodLink "ChurchyardBook$Deep" (21 : Nat) ({ cls := "java/lang/Math", name := "max", desc := "(II)I" } : Jvm.MethodName)) ∈ lw_all := lw_g (lw_at lw_m7 50 rfl) rfl
theorem q1577 : (Jvm.Cond.methodLink "ChurchyardBook$Deep" (26 : Nat) ({ cls := "ChurchyardBook$Deep", name := "times", desc := "(III)I" } : Jvm.MethodName)) ∈ lw_all := lw_g (lw_at lw_m7 51 rfl) rfl
theorem q1578 : (Jvm.Cond.sameMethod "ChurchyardBook$Deep" "ChurchyardBook$Single" "times" "(III)I") ∈ lw_all := lw_g (lw_at lw_m7 52 rfl) rfl
theorem q1623 : (Jvm.Cond.selects "ChurchyardBook$Deep" ({ cls := "ChurchyardBook$Place", name := "what", desc := "()I" } : Jvm.MethodName) ({ cls := "ChurchyardBook$Grave", name := "what", desc := "()I" } : Jvm.MethodName)) ∈ lw_all := lw_g (lw_at lw_m7 97 rfl) rfl
theorem q1693 : (Jvm.Cond.selects "ChurchyardBook$Deep" ({ cls := "ChurchyardBook$Grave", name := "greatestEnd", desc := "()I" } : Jvm.MethodName) ({ cls := "ChurchyardBook$Grave", name := "greatestEnd", desc := "()I" } : Jvm.MethodName)) ∈ lw_all := lw_g (lw_at lw_m7 167 rfl) rfl
theorem q2240 : (Jvm.Cond.sameMethod "ChurchyardBook$Deep" "ChurchyardBook$Deep" "column" "(IIII)I") ∈ lw_all := lw_g (lw_at lw_m9 234 rfl) rfl
theorem q2249 : (Jvm.Cond.castable "ChurchyardBook$Deep" "ChurchyardBook$Grave") ∈ lw_tbl := lw_at lw_m10 3 rfl
theorem q2259 : (Jvm.Cond.castable "ChurchyardBook$Deep" "java/lang/Object") ∈ lw_tbl := lw_at lw_m10 13 rfl
theorem q2285 : (Jvm.Cond.castable "ChurchyardBook$Deep" "ChurchyardBook$Place") ∈ lw_tbl := lw_at lw_m10 39 rfl
theorem in_X11 : ∀ w ∈ wsX110, w ∈ lw_all := lw_in wsX110 [740, 741, 742, 743, 744, 745, 746, 747, 748, 749, 750, 751, 752, 753, 754, 755] (by decide +kernel) (by decide +kernel)

/-! ChurchyardBook$Family -/
set_option maxRecDepth 100000
def RX12 : String := "ChurchyardBook$Family"
def TX12 : u_T := fun k => match k with
  | 0 => ("ChurchyardBook$Grave", "number", "I", true)
  | 1 => ("ChurchyardBook$Grave", "field", "I", true)
  | 2 => ("ChurchyardBook$Grave", "row", "I", true)
  | 3 => ("ChurchyardBook$Grave", "place", "I", true)
  | 4 => ("ChurchyardBook$Grave", "wide", "I", true)
  | 5 => ("ChurchyardBook$Grave", "ground", "I", true)
  | 6 => ("ChurchyardBook$Grave", "state", "I", false)
  | 7 => ("ChurchyardBook$Grave", "holder", "LChurchyardBook$Person;", false)
  | 8 => ("ChurchyardBook$Grave", "to", "I", false)
  | 9 => ("ChurchyardBook$Grave", "offered", "LChurchyardBook$Person;", false)
  | 10 => ("ChurchyardBook$Grave", "date", "I", false)
  | 11 => ("ChurchyardBook$Grave", "order", "Ljava/util/ArrayList;", true)
  | 12 => ("ChurchyardBook$Grave", "at", "I", false)
  | 13 => ("ChurchyardBook$Grave", "told", "[Z", false)
  | 14 => ("ChurchyardBook$Grave", "from", "LChurchyardBook$Person;", false)
  | _ => ("ChurchyardBook$Grave", "lying", "Ljava/util/ArrayList;", true)
def tyX12 : Nat → FieldType := fun k => match k with
  | 0 => .int
  | 1 => .int
  | 2 => .int
  | 3 => .int
  | 4 => .int
  | 5 => .int
  | 6 => .int
  | 7 => .object "ChurchyardBook$Person"
  | 8 => .int
  | 9 => .object "ChurchyardBook$Person"
  | 10 => .int
  | 11 => .object "java/util/ArrayList"
  | 12 => .int
  | 13 => .array .boolean
  | 14 => .object "ChurchyardBook$Person"
  | _ => .object "java/util/ArrayList"
abbrev wsX120 : List Cond := u_ws RX12 TX12 16
set_option maxRecDepth 100000 in
theorem nmX12 : ∀ a, a < 16 → ∀ b, b < 16 → a ≠ b → (TX12 a).2.1 ≠ (TX12 b).2.1 := by decide +kernel
set_option maxRecDepth 100000 in
theorem tyX12_ok : ∀ k, k < 16 → parseFieldDescriptor (TX12 k).2.2.1 = some (tyX12 k) := by decide +kernel
abbrev cX12_init : ByteArray := prog_6_method_1_code
def yX12_init : MethodName := ⟨RX12, "<init>", "(IIIIII)V"⟩
def dkwX12_init_0 : List UInt8 := [42, 27, 28, 29, 21, 4, 21, 5, 21, 6, 183, 0, 1, 177]
abbrev dktX12_init_0 : List UInt8 := dkwX12_init_0 ++ []
theorem dksX12_init_0 : cX12_init.data.toList.drop 0 = dktX12_init_0 := by decide +kernel
theorem dX12_init_0 : decode cX12_init 0 = .ok (.aload_n 0, 1) := dk_42 (dk_at dksX12_init_0 0 rfl rfl)
theorem dX12_init_1 : decode cX12_init 1 = .ok (.iload_n 1, 1) := dk_27 (dk_at dksX12_init_0 1 rfl rfl)
theorem dX12_init_2 : decode cX12_init 2 = .ok (.iload_n 2, 1) := dk_28 (dk_at dksX12_init_0 2 rfl rfl)
theorem dX12_init_3 : decode cX12_init 3 = .ok (.iload_n 3, 1) := dk_29 (dk_at dksX12_init_0 3 rfl rfl)
theorem dX12_init_4 : decode cX12_init 4 = .ok (.iload 4, 2) := dk_21 4 (dk_at dksX12_init_0 4 rfl rfl)
theorem dX12_init_6 : decode cX12_init 6 = .ok (.iload 5, 2) := dk_21 5 (dk_at dksX12_init_0 6 rfl rfl)
theorem dX12_init_8 : decode cX12_init 8 = .ok (.iload 6, 2) := dk_21 6 (dk_at dksX12_init_0 8 rfl rfl)
theorem dX12_init_10 : decode cX12_init 10 = .ok (.invokespecial 1, 3) := dk_183 0 1 (dk_at dksX12_init_0 10 rfl rfl)
theorem dX12_init_13 : decode cX12_init 13 = .ok (.return_, 1) := dk_177 (dk_at dksX12_init_0 13 rfl rfl)
abbrev cX12_yearly : ByteArray := prog_6_method_4_code
def yX12_yearly : MethodName := ⟨RX12, "yearly", "()I"⟩
def dkwX12_yearly_0 : List UInt8 := [42, 183, 0, 13, 8, 42, 180, 0, 7, 4, 100, 104, 96, 172]
abbrev dktX12_yearly_0 : List UInt8 := dkwX12_yearly_0 ++ []
theorem dksX12_yearly_0 : cX12_yearly.data.toList.drop 0 = dktX12_yearly_0 := by decide +kernel
theorem dX12_yearly_0 : decode cX12_yearly 0 = .ok (.aload_n 0, 1) := dk_42 (dk_at dksX12_yearly_0 0 rfl rfl)
theorem dX12_yearly_1 : decode cX12_yearly 1 = .ok (.invokespecial 13, 3) := dk_183 0 13 (dk_at dksX12_yearly_0 1 rfl rfl)
theorem dX12_yearly_4 : decode cX12_yearly 4 = .ok (.iconst 5, 1) := dk_8 (dk_at dksX12_yearly_0 4 rfl rfl)
theorem dX12_yearly_5 : decode cX12_yearly 5 = .ok (.aload_n 0, 1) := dk_42 (dk_at dksX12_yearly_0 5 rfl rfl)
theorem dX12_yearly_6 : decode cX12_yearly 6 = .ok (.getfield 7, 3) := dk_180 0 7 (dk_at dksX12_yearly_0 6 rfl rfl)
theorem dX12_yearly_9 : decode cX12_yearly 9 = .ok (.iconst 1, 1) := dk_4 (dk_at dksX12_yearly_0 9 rfl rfl)
theorem dX12_yearly_10 : decode cX12_yearly 10 = .ok (.isub, 1) := dk_100 (dk_at dksX12_yearly_0 10 rfl rfl)
theorem dX12_yearly_11 : decode cX12_yearly 11 = .ok (.imul, 1) := dk_104 (dk_at dksX12_yearly_0 11 rfl rfl)
theorem dX12_yearly_12 : decode cX12_yearly 12 = .ok (.iadd, 1) := dk_96 (dk_at dksX12_yearly_0 12 rfl rfl)
theorem dX12_yearly_13 : decode cX12_yearly 13 = .ok (.ireturn, 1) := dk_172 (dk_at dksX12_yearly_0 13 rfl rfl)
abbrev cX12_columns : ByteArray := prog_6_method_3_code
def yX12_columns : MethodName := ⟨RX12, "columns", "()I"⟩
theorem dX12_columns_0 : decode cX12_columns 0 = .ok (.aload_n 0, 1) := by decide +kernel
theorem dX12_columns_1 : decode cX12_columns 1 = .ok (.getfield 7, 3) := by decide +kernel
theorem dX12_columns_4 : decode cX12_columns 4 = .ok (.ireturn, 1) := by decide +kernel
abbrev cX12_kind : ByteArray := prog_6_method_2_code
def yX12_kind : MethodName := ⟨RX12, "kind", "()I"⟩
theorem dX12_kind_0 : decode cX12_kind 0 = .ok (.iconst 3, 1) := by decide +kernel
theorem dX12_kind_1 : decode cX12_kind 1 = .ok (.ireturn, 1) := by decide +kernel
theorem q117 : (Jvm.Cond.initialized "ChurchyardBook$Family") ∈ lw_all := lw_g (lw_at lw_m1 31 rfl) rfl
theorem q412 : (Jvm.Cond.selects "ChurchyardBook$Family" ({ cls := "java/lang/Object", name := "getClass", desc := "()Ljava/lang/Class;" } : Jvm.MethodName) ({ cls := "java/lang/Object", name := "getClass", desc := "()Ljava/lang/Class;" } : Jvm.MethodName)) ∈ lw_all := lw_g (lw_at lw_m2 86 rfl) rfl
theorem q593 : (Jvm.Cond.castable "ChurchyardBook$Family" "ChurchyardBook$Takes") ∈ lw_tbl := lw_at lw_m3 27 rfl
theorem q594 : (Jvm.Cond.unhidden "ChurchyardBook$Family" "shunsTrees" "()Z") ∈ lw_tbl := lw_at lw_m3 28 rfl
theorem q667 : (Jvm.Cond.fieldLink "ChurchyardBook$Family" (7 : Nat) "ChurchyardBook$Family" "wide" "I") ∈ lw_all := lw_g (lw_at lw_m3 101 rfl) rfl
theorem q668 : (Jvm.Cond.sameField "ChurchyardBook$Family" "ChurchyardBook$Grave" "wide" "I") ∈ lw_all := lw_g (lw_at lw_m3 102 rfl) rfl
theorem q758 : (Jvm.Cond.instantiable "ChurchyardBook$Family" (16 : Nat)) ∈ lw_all := lw_g (lw_at lw_m3 192 rfl) rfl
theorem q760 : (Jvm.Cond.instanceMethod ({ cls := "ChurchyardBook$Family", name := "<init>", desc := "(IIIIII)V" } : Jvm.MethodName)) ∈ lw_all := lw_g (lw_at lw_m3 194 rfl) rfl
theorem q761 : (Jvm.Cond.code ({ cls := "ChurchyardBook$Family", name := "<init>", desc := "(IIIIII)V" } : Jvm.MethodName) prog_6_method_1_code (7 : Nat) (Option.none : Option Jvm.ClassFile.FieldType)) ∈ lw_all := lw_g (lw_at lw_m3 195 rfl) rfl
theorem q762 : (Jvm.Cond.methodLink "ChurchyardBook$Family" (1 : Nat) ({ cls := "ChurchyardBook$Deep", name := "<init>", desc := "(IIIIII)V" } : Jvm.MethodName)) ∈ lw_all := lw_g (lw_at lw_m3 196 rfl) rfl
theorem q763 : (Jvm.Cond.laysFinal "ChurchyardBook$Family" "ChurchyardBook$Grave" "number" "I") ∈ lw_all := lw_g (lw_at lw_m3 197 rfl) rfl
theorem q764 : (Jvm.Cond.laysFinal "ChurchyardBook$Family" "ChurchyardBook$Grave" "field" "I") ∈ lw_all := lw_g (lw_at lw_m3 198 rfl) rfl
theorem q765 : (Jvm.Cond.laysFinal "ChurchyardBook$Family" "ChurchyardBook$Grave" "row" "I") ∈ lw_all := lw_g (lw_at lw_m3 199 rfl) rfl
theorem q766 : (Jvm.Cond.laysFinal "ChurchyardBook$Family" "ChurchyardBook$Grave" "place" "I") ∈ lw_all := lw_g (lw_at lw_m3 200 rfl) rfl
theorem q767 : (Jvm.Cond.laysFinal "ChurchyardBook$Family" "ChurchyardBook$Grave" "wide" "I") ∈ lw_all := lw_g (lw_at lw_m3 201 rfl) rfl
theorem q768 : (Jvm.Cond.laysFinal "ChurchyardBook$Family" "ChurchyardBook$Grave" "ground" "I") ∈ lw_all := lw_g (lw_at lw_m3 202 rfl) rfl
theorem q769 : (Jvm.Cond.lays "ChurchyardBook$Family" "ChurchyardBook$Grave" "state" "I") ∈ lw_all := lw_g (lw_at lw_m3 203 rfl) rfl
theorem q770 : (Jvm.Cond.lays "ChurchyardBook$Family" "ChurchyardBook$Grave" "holder" "LChurchyardBook$Person;") ∈ lw_all := lw_g (lw_at lw_m3 204 rfl) rfl
theorem q771 : (Jvm.Cond.lays "ChurchyardBook$Family" "ChurchyardBook$Grave" "to" "I") ∈ lw_all := lw_g (lw_at lw_m3 205 rfl) rfl
theorem q772 : (Jvm.Cond.lays "ChurchyardBook$Family" "ChurchyardBook$Grave" "offered" "LChurchyardBook$Person;") ∈ lw_all := lw_g (lw_at lw_m3 206 rfl) rfl
theorem q773 : (Jvm.Cond.lays "ChurchyardBook$Family" "ChurchyardBook$Grave" "date" "I") ∈ lw_all := lw_g (lw_at lw_m3 207 rfl) rfl
theorem q774 : (Jvm.Cond.laysFinal "ChurchyardBook$Family" "ChurchyardBook$Grave" "order" "Ljava/util/ArrayList;") ∈ lw_all := lw_g (lw_at lw_m3 208 rfl) rfl
theorem q775 : (Jvm.Cond.lays "ChurchyardBook$Family" "ChurchyardBook$Grave" "at" "I") ∈ lw_all := lw_g (lw_at lw_m3 209 rfl) rfl
theorem q776 : (Jvm.Cond.lays "ChurchyardBook$Family" "ChurchyardBook$Grave" "told" "[Z") ∈ lw_all := lw_g (lw_at lw_m3 210 rfl) rfl
theorem q777 : (Jvm.Cond.lays "ChurchyardBook$Family" "ChurchyardBook$Grave" "from" "LChurchyardBook$Person;") ∈ lw_all := lw_g (lw_at lw_m3 211 rfl) rfl
theorem q778 : (Jvm.Cond.laysFinal "ChurchyardBook$Family" "ChurchyardBook$Grave" "lying" "Ljava/util/ArrayList;") ∈ lw_all := lw_g (lw_at lw_m3 212 rfl) rfl
theorem q779 : (Jvm.Cond.superclass "ChurchyardBook$Family" "ChurchyardBook$Deep") ∈ lw_all := lw_g (lw_at lw_m3 213 rfl) rfl
theorem q962 : (Jvm.Cond.selects "ChurchyardBook$Family" ({ cls := "ChurchyardBook$Grave", name := "needsHolder", desc := "()Z" } : Jvm.MethodName) ({ cls := "ChurchyardBook$Grave", name := "needsHolder", desc := "()Z" } : Jvm.MethodName)) ∈ lw_all := lw_g (lw_at lw_m4 156 rfl) rfl
theorem q974 : (Jvm.Cond.selects "ChurchyardBook$Family" ({ cls := "ChurchyardBook$Grave", name := "hold", desc := "(LChurchyardBook$Person;)V" } : Jvm.MethodName) ({ cls := "ChurchyardBook$Grave", name := "hold", desc := "(LChurchyardBook$Person;)V" } : Jvm.MethodName)) ∈ lw_all := lw_g (lw_at lw_m4 168 rfl) rfl
theorem q988 : (Jvm.Cond.selects "ChurchyardBook$Family" ({ cls := "ChurchyardBook$Grave", name := "yearly", desc := "()I" } : Jvm.MethodName) ({ cls := "ChurchyardBook$Family", name := "yearly", desc := "()I" } : Jvm.MethodName)) ∈ lw_all := lw_g (lw_at lw_m4 182 rfl) rfl
theorem q989 : (Jvm.Cond.instanceMethod ({ cls := "ChurchyardBook$Family", name := "yearly", desc := "()I" } : Jvm.MethodName)) ∈ lw_all := lw_g (lw_at lw_m4 183 rfl) rfl
theorem q990 : (Jvm.Cond.code ({ cls := "ChurchyardBook$Family", name := "yearly", desc := "()I" } : Jvm.MethodName) prog_6_method_4_code (1 : Nat) (Option.some Jvm.ClassFile.FieldType.int)) ∈ lw_all := lw_g (lw_at lw_m4 184 rfl) rfl
theorem q991 : (Jvm.Cond.methodLink "ChurchyardBook$Family" (13 : Nat) ({ cls := "ChurchyardBook$Deep", name := "yearly", desc := "()I" } : Jvm.MethodName)) ∈ lw_all := lw_g (lw_at lw_m4 185 rfl) rfl
theorem q1043 : (Jvm.Cond.selects "ChurchyardBook$Family" ({ cls := "java/lang/Object", name := "equals", desc := "(Ljava/lang/Object;)Z" } : Jvm.MethodName) ({ cls := "java/lang/Object", name := "equals", desc := "(Ljava/lang/Object;)Z" } : Jvm.MethodName)) ∈ lw_all := lw_g (lw_at lw_m4 237 rfl) rfl
theorem q1083 : (Jvm.Cond.selects "ChurchyardBook$Family" ({ cls := "ChurchyardBook$Grave", name := "passOn", desc := "(I)V" } : Jvm.MethodName) ({ cls := "ChurchyardBook$Grave", name := "passOn", desc := "(I)V" } : Jvm.MethodName)) ∈ lw_all := lw_g (lw_at lw_m5 37 rfl) rfl
theorem q1119 : (Jvm.Cond.unhidden "ChurchyardBook$Family" "years" "(I)I") ∈ lw_tbl := lw_at lw_m5 73 rfl
theorem q1139 : (Jvm.Cond.castable "ChurchyardBook$Family" "ChurchyardBook$Rests") ∈ lw_tbl := lw_at lw_m5 93 rfl
theorem q1140 : (Jvm.Cond.selects "ChurchyardBook$Family" ({ cls := "ChurchyardBook$Rests", name := "ground", desc := "()I" } : Jvm.MethodName) ({ cls := "ChurchyardBook$Grave", name := "ground", desc := "()I" } : Jvm.MethodName)) ∈ lw_all := lw_g (lw_at lw_m5 94 rfl) rfl
theorem q1141 : (Jvm.Cond.unhidden "ChurchyardBook$Family" "ground" "()I") ∈ lw_tbl := lw_at lw_m5 95 rfl
theorem q1160 : (Jvm.Cond.selects "ChurchyardBook$Family" ({ cls := "ChurchyardBook$Grave", name := "isColumn", desc := "(I)Z" } : Jvm.MethodName) ({ cls := "ChurchyardBook$Grave", name := "isColumn", desc := "(I)Z" } : Jvm.MethodName)) ∈ lw_all := lw_g (lw_at lw_m5 114 rfl) rfl
theorem q1170 : (Jvm.Cond.selects "ChurchyardBook$Family" ({ cls := "ChurchyardBook$Grave", name := "columns", desc := "()I" } : Jvm.MethodName) ({ cls := "ChurchyardBook$Family", name := "columns", desc := "()I" } : Jvm.MethodName)) ∈ lw_all := lw_g (lw_at lw_m5 124 rfl) rfl
theorem q1171 : (Jvm.Cond.instanceMethod ({ cls := "ChurchyardBook$Family", name := "columns", desc := "()I" } : Jvm.MethodName)) ∈ lw_all := lw_g (lw_at lw_m5 125 rfl) rfl
theorem q1172 : (Jvm.Cond.code ({ cls := "ChurchyardBook$Family", name := "columns", desc := "()I" } : Jvm.MethodName) prog_6_method_3_code (1 : Nat) (Option.some Jvm.ClassFile.FieldType.int)) ∈ lw_all := lw_g (lw_at lw_m5 126 rfl) rfl
theorem q1188 : (Jvm.Cond.selects "ChurchyardBook$Family" ({ cls := "ChurchyardBook$Takes", name := "takes", desc := "(I)Z" } : Jvm.MethodName) ({ cls := "ChurchyardBook$Single", name := "takes", desc := "(I)Z" } : Jvm.MethodName)) ∈ lw_all := lw_g (lw_at lw_m5 142 rfl) rfl
theorem q1205 : (Jvm.Cond.selects "ChurchyardBook$Family" ({ cls := "ChurchyardBook$Single", name := "isOpen", desc := "(III)Z" } : Jvm.MethodName) ({ cls := "ChurchyardBook$Grave", name := "isOpen", desc := "(III)Z" } : Jvm.MethodName)) ∈ lw_all := lw_g (lw_at lw_m5 159 rfl) rfl
theorem q1216 : (Jvm.Cond.selects "ChurchyardBook$Family" ({ cls := "ChurchyardBook$Grave", name := "in", desc := "(II)LChurchyardBook$Person;" } : Jvm.MethodName) ({ cls := "ChurchyardBook$Grave", name := "in", desc := "(II)LChurchyardBook$Person;" } : Jvm.MethodName)) ∈ lw_all := lw_g (lw_at lw_m5 170 rfl) rfl
theorem q1232 : (Jvm.Cond.selects "ChurchyardBook$Family" ({ cls := "ChurchyardBook$Deep", name := "isOpen", desc := "(III)Z" } : Jvm.MethodName) ({ cls := "ChurchyardBook$Grave", name := "isOpen", desc := "(III)Z" } : Jvm.MethodName)) ∈ lw_all := lw_g (lw_at lw_m5 186 rfl) rfl
theorem q1233 : (Jvm.Cond.selects "ChurchyardBook$Family" ({ cls := "ChurchyardBook$Grave", name := "room", desc := "(II)I" } : Jvm.MethodName) ({ cls := "ChurchyardBook$Deep", name := "room", desc := "(II)I" } : Jvm.MethodName)) ∈ lw_all := lw_g (lw_at lw_m5 187 rfl) rfl
theorem q1252 : (Jvm.Cond.selects "ChurchyardBook$Family" ({ cls := "ChurchyardBook$Grave", name := "isAgreed", desc := "(LChurchyardBook$Person;)Z" } : Jvm.MethodName) ({ cls := "ChurchyardBook$Grave", name := "isAgreed", desc := "(LChurchyardBook$Person;)Z" } : Jvm.MethodName)) ∈ lw_all := lw_g (lw_at lw_m5 206 rfl) rfl
theorem q1261 : (Jvm.Cond.unhidden "ChurchyardBook$Family" "lacks" "(I)I") ∈ lw_tbl := lw_at lw_m5 215 rfl
theorem q1281 : (Jvm.Cond.castable "ChurchyardBook$Family" "ChurchyardBook$Ends") ∈ lw_tbl := lw_at lw_m5 235 rfl
theorem q1282 : (Jvm.Cond.selects "ChurchyardBook$Family" ({ cls := "ChurchyardBook$Ends", name := "to", desc := "()I" } : Jvm.MethodName) ({ cls := "ChurchyardBook$Grave", name := "to", desc := "()I" } : Jvm.MethodName)) ∈ lw_all := lw_g (lw_at lw_m5 236 rfl) rfl
theorem q1283 : (Jvm.Cond.unhidden "ChurchyardBook$Family" "to" "()I") ∈ lw_tbl := lw_at lw_m5 237 rfl
theorem q1302 : (Jvm.Cond.selects "ChurchyardBook$Family" ({ cls := "ChurchyardBook$Grave", name := "put", desc := "(LChurchyardBook$Person;III)V" } : Jvm.MethodName) ({ cls := "ChurchyardBook$Grave", name := "put", desc := "(LChurchyardBook$Person;III)V" } : Jvm.MethodName)) ∈ lw_all := lw_g (lw_at lw_m6 16 rfl) rfl
theorem q1344 : (Jvm.Cond.selects "ChurchyardBook$Family" ({ cls := "ChurchyardBook$Grave", name := "take", desc := "(LChurchyardBook$Person;)V" } : Jvm.MethodName) ({ cls := "ChurchyardBook$Grave", name := "take", desc := "(LChurchyardBook$Person;)V" } : Jvm.MethodName)) ∈ lw_all := lw_g (lw_at lw_m6 58 rfl) rfl
theorem q1366 : (Jvm.Cond.selects "ChurchyardBook$Family" ({ cls := "ChurchyardBook$Grave", name := "hasRest", desc := "(I)Z" } : Jvm.MethodName) ({ cls := "ChurchyardBook$Grave", name := "hasRest", desc := "(I)Z" } : Jvm.MethodName)) ∈ lw_all := lw_g (lw_at lw_m6 80 rfl) rfl
theorem q1380 : (Jvm.Cond.selects "ChurchyardBook$Family" ({ cls := "ChurchyardBook$Grave", name := "kind", desc := "()I" } : Jvm.MethodName) ({ cls := "ChurchyardBook$Family", name := "kind", desc := "()I" } : Jvm.MethodName)) ∈ lw_all := lw_g (lw_at lw_m6 94 rfl) rfl
theorem q1381 : (Jvm.Cond.instanceMethod ({ cls := "ChurchyardBook$Family", name := "kind", desc := "()I" } : Jvm.MethodName)) ∈ lw_all := lw_g (lw_at lw_m6 95 rfl) rfl
theorem q1382 : (Jvm.Cond.code ({ cls := "ChurchyardBook$Family", name := "kind", desc := "()I" } : Jvm.MethodName) prog_6_method_2_code (1 : Nat) (Option.some Jvm.ClassFile.FieldType.int)) ∈ lw_all := lw_g (lw_at lw_m6 96 rfl) rfl
theorem q1417 : (Jvm.Cond.selects "ChurchyardBook$Family" ({ cls := "ChurchyardBook$Grave", name := "turn", desc := "(I)V" } : Jvm.MethodName) ({ cls := "ChurchyardBook$Grave", name := "turn", desc := "(I)V" } : Jvm.MethodName)) ∈ lw_all := lw_g (lw_at lw_m6 131 rfl) rfl
theorem q1427 : (Jvm.Cond.selects "ChurchyardBook$Family" ({ cls := "ChurchyardBook$Grave", name := "falls", desc := "()V" } : Jvm.MethodName) ({ cls := "ChurchyardBook$Grave", name := "falls", desc := "()V" } : Jvm.MethodName)) ∈ lw_all := lw_g (lw_at lw_m6 141 rfl) rfl
theorem q1543 : (Jvm.Cond.selects "ChurchyardBook$Family" ({ cls := "ChurchyardBook$Single", name := "opens", desc := "(III)I" } : Jvm.MethodName) ({ cls := "ChurchyardBook$Single", name := "opens", desc := "(III)I" } : Jvm.MethodName)) ∈ lw_all := lw_g (lw_at lw_m7 17 rfl) rfl
theorem q1551 : (Jvm.Cond.selects "ChurchyardBook$Family" ({ cls := "ChurchyardBook$Single", name := "in", desc := "(II)LChurchyardBook$Person;" } : Jvm.MethodName) ({ cls := "ChurchyardBook$Grave", name := "in", desc := "(II)LChurchyardBook$Person;" } : Jvm.MethodName)) ∈ lw_all := lw_g (lw_at lw_m7 25 rfl) rfl
theorem q1566 : (Jvm.Cond.selects "ChurchyardBook$Family" ({ cls := "ChurchyardBook$Deep", name := "columns", desc := "()I" } : Jvm.MethodName) ({ cls := "ChurchyardBook$Family", name := "columns", desc := "()I" } : Jvm.MethodName)) ∈ lw_all := lw_g (lw_at lw_m7 40 rfl) rfl
theorem q1575 : (Jvm.Cond.selects "ChurchyardBook$Family" ({ cls := "ChurchyardBook$Deep", name := "opens", desc := "(III)I" } : Jvm.MethodName) ({ cls := "ChurchyardBook$Single", name := "opens", desc := "(III)I" } : Jvm.MethodName)) ∈ lw_all := lw_g (lw_at lw_m7 49 rfl) rfl
theorem q1579 : (Jvm.Cond.selects "ChurchyardBook$Family" ({ cls := "ChurchyardBook$Grave", name := "plan", desc := "(III)I" } : Jvm.MethodName) ({ cls := "ChurchyardBook$Deep", name := "plan", desc := "(III)I" } : Jvm.MethodName)) ∈ lw_all := lw_g (lw_at lw_m7 53 rfl) rfl
theorem q1624 : (Jvm.Cond.selects "ChurchyardBook$Family" ({ cls := "ChurchyardBook$Place", name := "what", desc := "()I" } : Jvm.MethodName) ({ cls := "ChurchyardBook$Grave", name := "what", desc := "()I" } : Jvm.MethodName)) ∈ lw_all := lw_g (lw_at lw_m7 98 rfl) rfl
theorem q1694 : (Jvm.Cond.selects "ChurchyardBook$Family" ({ cls := "ChurchyardBook$Grave", name := "greatestEnd", desc := "()I" } : Jvm.MethodName) ({ cls := "ChurchyardBook$Grave", name := "greatestEnd", desc := "()I" } : Jvm.MethodName)) ∈ lw_all := lw_g (lw_at lw_m7 168 rfl) rfl
theorem q2250 : (Jvm.Cond.castable "ChurchyardBook$Family" "ChurchyardBook$Grave") ∈ lw_tbl := lw_at lw_m10 4 rfl
theorem q2255 : (Jvm.Cond.castable "ChurchyardBook$Family" "ChurchyardBook$Deep") ∈ lw_tbl := lw_at lw_m10 9 rfl
theorem q2274 : (Jvm.Cond.castable "ChurchyardBook$Family" "java/lang/Object") ∈ lw_tbl := lw_at lw_m10 28 rfl
theorem q2286 : (Jvm.Cond.castable "ChurchyardBook$Family" "ChurchyardBook$Place") ∈ lw_tbl := lw_at lw_m10 40 rfl
theorem in_X12 : ∀ w ∈ wsX120, w ∈ lw_all := lw_in wsX120 [763, 764, 765, 766, 767, 768, 769, 770, 771, 772, 773, 774, 775, 776, 777, 778] (by decide +kernel) (by decide +kernel)

/-! ChurchyardBook$Wall -/
set_option maxRecDepth 100000
def RX13 : String := "ChurchyardBook$Wall"
def TX13 : u_T := fun k => match k with
  | 0 => ("ChurchyardBook$Grave", "number", "I", true)
  | 1 => ("ChurchyardBook$Grave", "field", "I", true)
  | 2 => ("ChurchyardBook$Grave", "row", "I", true)
  | 3 => ("ChurchyardBook$Grave", "place", "I", true)
  | 4 => ("ChurchyardBook$Grave", "wide", "I", true)
  | 5 => ("ChurchyardBook$Grave", "ground", "I", true)
  | 6 => ("ChurchyardBook$Grave", "state", "I", false)
  | 7 => ("ChurchyardBook$Grave", "holder", "LChurchyardBook$Person;", false)
  | 8 => ("ChurchyardBook$Grave", "to", "I", false)
  | 9 => ("ChurchyardBook$Grave", "offered", "LChurchyardBook$Person;", false)
  | 10 => ("ChurchyardBook$Grave", "date", "I", false)
  | 11 => ("ChurchyardBook$Grave", "order", "Ljava/util/ArrayList;", true)
  | 12 => ("ChurchyardBook$Grave", "at", "I", false)
  | 13 => ("ChurchyardBook$Grave", "told", "[Z", false)
  | 14 => ("ChurchyardBook$Grave", "from", "LChurchyardBook$Person;", false)
  | _ => ("ChurchyardBook$Grave", "lying", "Ljava/util/ArrayList;", true)
def tyX13 : Nat → FieldType := fun k => match k with
  | 0 => .int
  | 1 => .int
  | 2 => .int
  | 3 => .int
  | 4 => .int
  | 5 => .int
  | 6 => .int
  | 7 => .object "ChurchyardBook$Person"
  | 8 => .int
  | 9 => .object "ChurchyardBook$Person"
  | 10 => .int
  | 11 => .object "java/util/ArrayList"
  | 12 => .int
  | 13 => .array .boolean
  | 14 => .object "ChurchyardBook$Person"
  | _ => .object "java/util/ArrayList"
abbrev wsX130 : List Cond := u_ws RX13 TX13 16
set_option maxRecDepth 100000 in
theorem nmX13 : ∀ a, a < 16 → ∀ b, b < 16 → a ≠ b → (TX13 a).2.1 ≠ (TX13 b).2.1 := by decide +kernel
set_option maxRecDepth 100000 in
theorem tyX13_ok : ∀ k, k < 16 → parseFieldDescriptor (TX13 k).2.2.1 = some (tyX13 k) := by decide +kernel
abbrev cX13_shunsTrees : ByteArray := prog_18_method_5_code
def yX13_shunsTrees : MethodName := ⟨RX13, "shunsTrees", "()Z"⟩
theorem dX13_shunsTrees_0 : decode cX13_shunsTrees 0 = .ok (.iconst 0, 1) := by decide +kernel
theorem dX13_shunsTrees_1 : decode cX13_shunsTrees 1 = .ok (.ireturn, 1) := by decide +kernel
abbrev cX13_init : ByteArray := prog_18_method_1_code
def yX13_init : MethodName := ⟨RX13, "<init>", "(IIIIII)V"⟩
def dkwX13_init_0 : List UInt8 := [42, 27, 28, 29, 21, 4, 21, 5, 21, 6, 183, 0, 3, 177]
abbrev dktX13_init_0 : List UInt8 := dkwX13_init_0 ++ []
theorem dksX13_init_0 : cX13_init.data.toList.drop 0 = dktX13_init_0 := by decide +kernel
theorem dX13_init_0 : decode cX13_init 0 = .ok (.aload_n 0, 1) := dk_42 (dk_at dksX13_init_0 0 rfl rfl)
theorem dX13_init_1 : decode cX13_init 1 = .ok (.iload_n 1, 1) := dk_27 (dk_at dksX13_init_0 1 rfl rfl)
theorem dX13_init_2 : decode cX13_init 2 = .ok (.iload_n 2, 1) := dk_28 (dk_at dksX13_init_0 2 rfl rfl)
theorem dX13_init_3 : decode cX13_init 3 = .ok (.iload_n 3, 1) := dk_29 (dk_at dksX13_init_0 3 rfl rfl)
theorem dX13_init_4 : decode cX13_init 4 = .ok (.iload 4, 2) := dk_21 4 (dk_at dksX13_init_0 4 rfl rfl)
theorem dX13_init_6 : decode cX13_init 6 = .ok (.iload 5, 2) := dk_21 5 (dk_at dksX13_init_0 6 rfl rfl)
theorem dX13_init_8 : decode cX13_init 8 = .ok (.iload 6, 2) := dk_21 6 (dk_at dksX13_init_0 8 rfl rfl)
theorem dX13_init_10 : decode cX13_init 10 = .ok (.invokespecial 3, 3) := dk_183 0 3 (dk_at dksX13_init_0 10 rfl rfl)
theorem dX13_init_13 : decode cX13_init 13 = .ok (.return_, 1) := dk_177 (dk_at dksX13_init_0 13 rfl rfl)
abbrev cX13_columns : ByteArray := prog_18_method_3_code
def yX13_columns : MethodName := ⟨RX13, "columns", "()I"⟩
theorem dX13_columns_0 : decode cX13_columns 0 = .ok (.iconst 4, 1) := by decide +kernel
theorem dX13_columns_1 : decode cX13_columns 1 = .ok (.ireturn, 1) := by decide +kernel
abbrev cX13_takes : ByteArray := prog_18_method_4_code
def yX13_takes : MethodName := ⟨RX13, "takes", "(I)Z"⟩
def dkwX13_takes_0 : List UInt8 := [27, 4, 160, 0, 7, 4, 167, 0, 4, 3, 172]
abbrev dktX13_takes_0 : List UInt8 := dkwX13_takes_0 ++ []
theorem dksX13_takes_0 : cX13_takes.data.toList.drop 0 = dktX13_takes_0 := by decide +kernel
theorem dX13_takes_0 : decode cX13_takes 0 = .ok (.iload_n 1, 1) := dk_27 (dk_at dksX13_takes_0 0 rfl rfl)
theorem dX13_takes_1 : decode cX13_takes 1 = .ok (.iconst 1, 1) := dk_4 (dk_at dksX13_takes_0 1 rfl rfl)
theorem dX13_takes_2 : decode cX13_takes 2 = .ok (.if_icmp .ne 7, 3) := dk_160 0 7 (dk_at dksX13_takes_0 2 rfl rfl)
theorem dX13_takes_5 : decode cX13_takes 5 = .ok (.iconst 1, 1) := dk_4 (dk_at dksX13_takes_0 5 rfl rfl)
theorem dX13_takes_6 : decode cX13_takes 6 = .ok (.goto 4, 3) := dk_167 0 4 (dk_at dksX13_takes_0 6 rfl rfl)
theorem dX13_takes_9 : decode cX13_takes 9 = .ok (.iconst 0, 1) := dk_3 (dk_at dksX13_takes_0 9 rfl rfl)
theorem dX13_takes_10 : decode cX13_takes 10 = .ok (.ireturn, 1) := dk_172 (dk_at dksX13_takes_0 10 rfl rfl)
abbrev cX13_room : ByteArray := prog_18_method_6_code
def yX13_room : MethodName := ⟨RX13, "room", "(II)I"⟩
def dkwX13_room_0 : List UInt8 := [42, 27, 3, 182, 0, 9, 199, 0, 7, 3, 167, 0, 4, 2, 172]
abbrev dktX13_room_0 : List UInt8 := dkwX13_room_0 ++ []
theorem dksX13_room_0 : cX13_room.data.toList.drop 0 = dktX13_room_0 := by decide +kernel
theorem dX13_room_0 : decode cX13_room 0 = .ok (.aload_n 0, 1) := dk_42 (dk_at dksX13_room_0 0 rfl rfl)
theorem dX13_room_1 : decode cX13_room 1 = .ok (.iload_n 1, 1) := dk_27 (dk_at dksX13_room_0 1 rfl rfl)
theorem dX13_room_2 : decode cX13_room 2 = .ok (.iconst 0, 1) := dk_3 (dk_at dksX13_room_0 2 rfl rfl)
theorem dX13_room_3 : decode cX13_room 3 = .ok (.invokevirtual 9, 3) := dk_182 0 9 (dk_at dksX13_room_0 3 rfl rfl)
theorem dX13_room_6 : decode cX13_room 6 = .ok (.ifnonnull 7, 3) := dk_199 0 7 (dk_at dksX13_room_0 6 rfl rfl)
theorem dX13_room_9 : decode cX13_room 9 = .ok (.iconst 0, 1) := dk_3 (dk_at dksX13_room_0 9 rfl rfl)
theorem dX13_room_10 : decode cX13_room 10 = .ok (.goto 4, 3) := dk_167 0 4 (dk_at dksX13_room_0 10 rfl rfl)
theorem dX13_room_13 : decode cX13_room 13 = .ok (.iconst (-1), 1) := dk_2 (dk_at dksX13_room_0 13 rfl rfl)
theorem dX13_room_14 : decode cX13_room 14 = .ok (.ireturn, 1) := dk_172 (dk_at dksX13_room_0 14 rfl rfl)
abbrev cX13_kind : ByteArray := prog_18_method_2_code
def yX13_kind : MethodName := ⟨RX13, "kind", "()I"⟩
theorem dX13_kind_0 : decode cX13_kind 0 = .ok (.iconst 4, 1) := by decide +kernel
theorem dX13_kind_1 : decode cX13_kind 1 = .ok (.ireturn, 1) := by decide +kernel
abbrev cX13_plan : ByteArray := prog_18_method_7_code
def yX13_plan : MethodName := ⟨RX13, "plan", "(III)I"⟩
def dkwX13_plan_0 : List UInt8 := [42, 182, 0, 15, 42, 180, 0, 19, 182, 0, 23, 100, 172]
abbrev dktX13_plan_0 : List UInt8 := dkwX13_plan_0 ++ []
theorem dksX13_plan_0 : cX13_plan.data.toList.drop 0 = dktX13_plan_0 := by decide +kernel
theorem dX13_plan_0 : decode cX13_plan 0 = .ok (.aload_n 0, 1) := dk_42 (dk_at dksX13_plan_0 0 rfl rfl)
theorem dX13_plan_1 : decode cX13_plan 1 = .ok (.invokevirtual 15, 3) := dk_182 0 15 (dk_at dksX13_plan_0 1 rfl rfl)
theorem dX13_plan_4 : decode cX13_plan 4 = .ok (.aload_n 0, 1) := dk_42 (dk_at dksX13_plan_0 4 rfl rfl)
theorem dX13_plan_5 : decode cX13_plan 5 = .ok (.getfield 19, 3) := dk_180 0 19 (dk_at dksX13_plan_0 5 rfl rfl)
theorem dX13_plan_8 : decode cX13_plan 8 = .ok (.invokevirtual 23, 3) := dk_182 0 23 (dk_at dksX13_plan_0 8 rfl rfl)
theorem dX13_plan_11 : decode cX13_plan 11 = .ok (.isub, 1) := dk_100 (dk_at dksX13_plan_0 11 rfl rfl)
theorem dX13_plan_12 : decode cX13_plan 12 = .ok (.ireturn, 1) := dk_172 (dk_at dksX13_plan_0 12 rfl rfl)
theorem q118 : (Jvm.Cond.initialized "ChurchyardBook$Wall") ∈ lw_all := lw_g (lw_at lw_m1 32 rfl) rfl
theorem q420 : (Jvm.Cond.selects "ChurchyardBook$Wall" ({ cls := "java/lang/Object", name := "getClass", desc := "()Ljava/lang/Class;" } : Jvm.MethodName) ({ cls := "java/lang/Object", name := "getClass", desc := "()Ljava/lang/Class;" } : Jvm.MethodName)) ∈ lw_all := lw_g (lw_at lw_m2 94 rfl) rfl
theorem q598 : (Jvm.Cond.instanceMethod ({ cls := "ChurchyardBook$Wall", name := "shunsTrees", desc := "()Z" } : Jvm.MethodName)) ∈ lw_all := lw_g (lw_at lw_m3 32 rfl) rfl
theorem q599 : (Jvm.Cond.publicMethod ({ cls := "ChurchyardBook$Wall", name := "shunsTrees", desc := "()Z" } : Jvm.MethodName)) ∈ lw_tbl := lw_at lw_m3 33 rfl
theorem q600 : (Jvm.Cond.code ({ cls := "ChurchyardBook$Wall", name := "shunsTrees", desc := "()Z" } : Jvm.MethodName) prog_18_method_5_code (1 : Nat) (Option.some Jvm.ClassFile.FieldType.boolean)) ∈ lw_all := lw_g (lw_at lw_m3 34 rfl) rfl
theorem q603 : (Jvm.Cond.castable "ChurchyardBook$Wall" "ChurchyardBook$Takes") ∈ lw_tbl := lw_at lw_m3 37 rfl
theorem q604 : (Jvm.Cond.selects "ChurchyardBook$Wall" ({ cls := "ChurchyardBook$Takes", name := "shunsTrees", desc := "()Z" } : Jvm.MethodName) ({ cls := "ChurchyardBook$Wall", name := "shunsTrees", desc := "()Z" } : Jvm.MethodName)) ∈ lw_all := lw_g (lw_at lw_m3 38 rfl) rfl
theorem q605 : (Jvm.Cond.unhidden "ChurchyardBook$Wall" "shunsTrees" "()Z") ∈ lw_tbl := lw_at lw_m3 39 rfl
theorem q698 : (Jvm.Cond.fieldLink "ChurchyardBook$Wall" (19 : Nat) "ChurchyardBook$Wall" "lying" "Ljava/util/ArrayList;") ∈ lw_all := lw_g (lw_at lw_m3 132 rfl) rfl
theorem q699 : (Jvm.Cond.sameField "ChurchyardBook$Wall" "ChurchyardBook$Grave" "lying" "Ljava/util/ArrayList;") ∈ lw_all := lw_g (lw_at lw_m3 133 rfl) rfl
theorem q780 : (Jvm.Cond.instantiable "ChurchyardBook$Wall" (16 : Nat)) ∈ lw_all := lw_g (lw_at lw_m3 214 rfl) rfl
theorem q782 : (Jvm.Cond.instanceMethod ({ cls := "ChurchyardBook$Wall", name := "<init>", desc := "(IIIIII)V" } : Jvm.MethodName)) ∈ lw_all := lw_g (lw_at lw_m3 216 rfl) rfl
theorem q783 : (Jvm.Cond.code ({ cls := "ChurchyardBook$Wall", name := "<init>", desc := "(IIIIII)V" } : Jvm.MethodName) prog_18_method_1_code (7 : Nat) (Option.none : Option Jvm.ClassFile.FieldType)) ∈ lw_all := lw_g (lw_at lw_m3 217 rfl) rfl
theorem q784 : (Jvm.Cond.methodLink "ChurchyardBook$Wall" (3 : Nat) ({ cls := "ChurchyardBook$Single", name := "<init>", desc := "(IIIIII)V" } : Jvm.MethodName)) ∈ lw_all := lw_g (lw_at lw_m3 218 rfl) rfl
theorem q785 : (Jvm.Cond.laysFinal "ChurchyardBook$Wall" "ChurchyardBook$Grave" "number" "I") ∈ lw_all := lw_g (lw_at lw_m3 219 rfl) rfl
theorem q786 : (Jvm.Cond.laysFinal "ChurchyardBook$Wall" "ChurchyardBook$Grave" "field" "I") ∈ lw_all := lw_g (lw_at lw_m3 220 rfl) rfl
theorem q787 : (Jvm.Cond.laysFinal "ChurchyardBook$Wall" "ChurchyardBook$Grave" "row" "I") ∈ lw_all := lw_g (lw_at lw_m3 221 rfl) rfl
theorem q788 : (Jvm.Cond.laysFinal "ChurchyardBook$Wall" "ChurchyardBook$Grave" "place" "I") ∈ lw_all := lw_g (lw_at lw_m3 222 rfl) rfl
theorem q789 : (Jvm.Cond.laysFinal "ChurchyardBook$Wall" "ChurchyardBook$Grave" "wide" "I") ∈ lw_all := lw_g (lw_at lw_m3 223 rfl) rfl
theorem q790 : (Jvm.Cond.laysFinal "ChurchyardBook$Wall" "ChurchyardBook$Grave" "ground" "I") ∈ lw_all := lw_g (lw_at lw_m3 224 rfl) rfl
theorem q791 : (Jvm.Cond.lays "ChurchyardBook$Wall" "ChurchyardBook$Grave" "state" "I") ∈ lw_all := lw_g (lw_at lw_m3 225 rfl) rfl
theorem q792 : (Jvm.Cond.lays "ChurchyardBook$Wall" "ChurchyardBook$Grave" "holder" "LChurchyardBook$Person;") ∈ lw_all := lw_g (lw_at lw_m3 226 rfl) rfl
theorem q793 : (Jvm.Cond.lays "ChurchyardBook$Wall" "ChurchyardBook$Grave" "to" "I") ∈ lw_all := lw_g (lw_at lw_m3 227 rfl) rfl
theorem q794 : (Jvm.Cond.lays "ChurchyardBook$Wall" "ChurchyardBook$Grave" "offered" "LChurchyardBook$Person;") ∈ lw_all := lw_g (lw_at lw_m3 228 rfl) rfl
theorem q795 : (Jvm.Cond.lays "ChurchyardBook$Wall" "ChurchyardBook$Grave" "date" "I") ∈ lw_all := lw_g (lw_at lw_m3 229 rfl) rfl
theorem q796 : (Jvm.Cond.laysFinal "ChurchyardBook$Wall" "ChurchyardBook$Grave" "order" "Ljava/util/ArrayList;") ∈ lw_all := lw_g (lw_at lw_m3 230 rfl) rfl
theorem q797 : (Jvm.Cond.lays "ChurchyardBook$Wall" "ChurchyardBook$Grave" "at" "I") ∈ lw_all := lw_g (lw_at lw_m3 231 rfl) rfl
theorem q798 : (Jvm.Cond.lays "ChurchyardBook$Wall" "ChurchyardBook$Grave" "told" "[Z") ∈ lw_all := lw_g (lw_at lw_m3 232 rfl) rfl
theorem q799 : (Jvm.Cond.lays "ChurchyardBook$Wall" "ChurchyardBook$Grave" "from" "LChurchyardBook$Person;") ∈ lw_all := lw_g (lw_at lw_m3 233 rfl) rfl
theorem q800 : (Jvm.Cond.laysFinal "ChurchyardBook$Wall" "ChurchyardBook$Grave" "lying" "Ljava/util/ArrayList;") ∈ lw_all := lw_g (lw_at lw_m3 234 rfl) rfl
theorem q801 : (Jvm.Cond.superclass "ChurchyardBook$Wall" "ChurchyardBook$Single") ∈ lw_all := lw_g (lw_at lw_m3 235 rfl) rfl
theorem q967 : (Jvm.Cond.selects "ChurchyardBook$Wall" ({ cls := "ChurchyardBook$Grave", name := "needsHolder", desc := "()Z" } : Jvm.MethodName) ({ cls := "ChurchyardBook$Grave", name := "needsHolder", desc := "()Z" } : Jvm.MethodName)) ∈ lw_all := lw_g (lw_at lw_m4 161 rfl) rfl
theorem q977 : (Jvm.Cond.selects "ChurchyardBook$Wall" ({ cls := "ChurchyardBook$Grave", name := "hold", desc := "(LChurchyardBook$Person;)V" } : Jvm.MethodName) ({ cls := "ChurchyardBook$Grave", name := "hold", desc := "(LChurchyardBook$Person;)V" } : Jvm.MethodName)) ∈ lw_all := lw_g (lw_at lw_m4 171 rfl) rfl
theorem q997 : (Jvm.Cond.selects "ChurchyardBook$Wall" ({ cls := "ChurchyardBook$Grave", name := "yearly", desc := "()I" } : Jvm.MethodName) ({ cls := "ChurchyardBook$Grave", name := "yearly", desc := "()I" } : Jvm.MethodName)) ∈ lw_all := lw_g (lw_at lw_m4 191 rfl) rfl
theorem q1051 : (Jvm.Cond.selects "ChurchyardBook$Wall" ({ cls := "java/lang/Object", name := "equals", desc := "(Ljava/lang/Object;)Z" } : Jvm.MethodName) ({ cls := "java/lang/Object", name := "equals", desc := "(Ljava/lang/Object;)Z" } : Jvm.MethodName)) ∈ lw_all := lw_g (lw_at lw_m5 5 rfl) rfl
theorem q1086 : (Jvm.Cond.selects "ChurchyardBook$Wall" ({ cls := "ChurchyardBook$Grave", name := "passOn", desc := "(I)V" } : Jvm.MethodName) ({ cls := "ChurchyardBook$Grave", name := "passOn", desc := "(I)V" } : Jvm.MethodName)) ∈ lw_all := lw_g (lw_at lw_m5 40 rfl) rfl
theorem q1122 : (Jvm.Cond.unhidden "ChurchyardBook$Wall" "years" "(I)I") ∈ lw_tbl := lw_at lw_m5 76 rfl
theorem q1148 : (Jvm.Cond.castable "ChurchyardBook$Wall" "ChurchyardBook$Rests") ∈ lw_tbl := lw_at lw_m5 102 rfl
theorem q1149 : (Jvm.Cond.selects "ChurchyardBook$Wall" ({ cls := "ChurchyardBook$Rests", name := "ground", desc := "()I" } : Jvm.MethodName) ({ cls := "ChurchyardBook$Grave", name := "ground", desc := "()I" } : Jvm.MethodName)) ∈ lw_all := lw_g (lw_at lw_m5 103 rfl) rfl
theorem q1150 : (Jvm.Cond.unhidden "ChurchyardBook$Wall" "ground" "()I") ∈ lw_tbl := lw_at lw_m5 104 rfl
theorem q1163 : (Jvm.Cond.selects "ChurchyardBook$Wall" ({ cls := "ChurchyardBook$Grave", name := "isColumn", desc := "(I)Z" } : Jvm.MethodName) ({ cls := "ChurchyardBook$Grave", name := "isColumn", desc := "(I)Z" } : Jvm.MethodName)) ∈ lw_all := lw_g (lw_at lw_m5 117 rfl) rfl
theorem q1177 : (Jvm.Cond.selects "ChurchyardBook$Wall" ({ cls := "ChurchyardBook$Grave", name := "columns", desc := "()I" } : Jvm.MethodName) ({ cls := "ChurchyardBook$Wall", name := "columns", desc := "()I" } : Jvm.MethodName)) ∈ lw_all := lw_g (lw_at lw_m5 131 rfl) rfl
theorem q1178 : (Jvm.Cond.instanceMethod ({ cls := "ChurchyardBook$Wall", name := "columns", desc := "()I" } : Jvm.MethodName)) ∈ lw_all := lw_g (lw_at lw_m5 132 rfl) rfl
theorem q1179 : (Jvm.Cond.code ({ cls := "ChurchyardBook$Wall", name := "columns", desc := "()I" } : Jvm.MethodName) prog_18_method_3_code (1 : Nat) (Option.some Jvm.ClassFile.FieldType.int)) ∈ lw_all := lw_g (lw_at lw_m5 133 rfl) rfl
theorem q1190 : (Jvm.Cond.instanceMethod ({ cls := "ChurchyardBook$Wall", name := "takes", desc := "(I)Z" } : Jvm.MethodName)) ∈ lw_all := lw_g (lw_at lw_m5 144 rfl) rfl
theorem q1191 : (Jvm.Cond.code ({ cls := "ChurchyardBook$Wall", name := "takes", desc := "(I)Z" } : Jvm.MethodName) prog_18_method_4_code (2 : Nat) (Option.some Jvm.ClassFile.FieldType.boolean)) ∈ lw_all := lw_g (lw_at lw_m5 145 rfl) rfl
theorem q1193 : (Jvm.Cond.selects "ChurchyardBook$Wall" ({ cls := "ChurchyardBook$Takes", name := "takes", desc := "(I)Z" } : Jvm.MethodName) ({ cls := "ChurchyardBook$Wall", name := "takes", desc := "(I)Z" } : Jvm.MethodName)) ∈ lw_all := lw_g (lw_at lw_m5 147 rfl) rfl
theorem q1208 : (Jvm.Cond.selects "ChurchyardBook$Wall" ({ cls := "ChurchyardBook$Single", name := "isOpen", desc := "(III)Z" } : Jvm.MethodName) ({ cls := "ChurchyardBook$Grave", name := "isOpen", desc := "(III)Z" } : Jvm.MethodName)) ∈ lw_all := lw_g (lw_at lw_m5 162 rfl) rfl
theorem q1219 : (Jvm.Cond.selects "ChurchyardBook$Wall" ({ cls := "ChurchyardBook$Grave", name := "in", desc := "(II)LChurchyardBook$Person;" } : Jvm.MethodName) ({ cls := "ChurchyardBook$Grave", name := "in", desc := "(II)LChurchyardBook$Person;" } : Jvm.MethodName)) ∈ lw_all := lw_g (lw_at lw_m5 173 rfl) rfl
theorem q1239 : (Jvm.Cond.selects "ChurchyardBook$Wall" ({ cls := "ChurchyardBook$Grave", name := "room", desc := "(II)I" } : Jvm.MethodName) ({ cls := "ChurchyardBook$Wall", name := "room", desc := "(II)I" } : Jvm.MethodName)) ∈ lw_all := lw_g (lw_at lw_m5 193 rfl) rfl
theorem q1240 : (Jvm.Cond.instanceMethod ({ cls := "ChurchyardBook$Wall", name := "room", desc := "(II)I" } : Jvm.MethodName)) ∈ lw_all := lw_g (lw_at lw_m5 194 rfl) rfl
theorem q1241 : (Jvm.Cond.code ({ cls := "ChurchyardBook$Wall", name := "room", desc := "(II)I" } : Jvm.MethodName) prog_18_method_6_code (3 : Nat) (Option.some Jvm.ClassFile.FieldType.int)) ∈ lw_all := lw_g (lw_at lw_m5 195 rfl) rfl
theorem q1242 : (Jvm.Cond.methodLink "ChurchyardBook$Wall" (9 : Nat) ({ cls := "ChurchyardBook$Wall", name := "in", desc := "(II)LChurchyardBook$Person;" } : Jvm.MethodName)) ∈ lw_all := lw_g (lw_at lw_m5 196 rfl) rfl
theorem q1243 : (Jvm.Cond.sameMethod "ChurchyardBook$Wall" "ChurchyardBook$Grave" "in" "(II)LChurchyardBook$Person;") ∈ lw_all := lw_g (lw_at lw_m5 197 rfl) rfl
theorem q1246 : (Jvm.Cond.selects "ChurchyardBook$Wall" ({ cls := "ChurchyardBook$Wall", name := "in", desc := "(II)LChurchyardBook$Person;" } : Jvm.MethodName) ({ cls := "ChurchyardBook$Grave", name := "in", desc := "(II)LChurchyardBook$Person;" } : Jvm.MethodName)) ∈ lw_all := lw_g (lw_at lw_m5 200 rfl) rfl
theorem q1255 : (Jvm.Cond.selects "ChurchyardBook$Wall" ({ cls := "ChurchyardBook$Grave", name := "isAgreed", desc := "(LChurchyardBook$Person;)Z" } : Jvm.MethodName) ({ cls := "ChurchyardBook$Grave", name := "isAgreed", desc := "(LChurchyardBook$Person;)Z" } : Jvm.MethodName)) ∈ lw_all := lw_g (lw_at lw_m5 209 rfl) rfl
theorem q1264 : (Jvm.Cond.unhidden "ChurchyardBook$Wall" "lacks" "(I)I") ∈ lw_tbl := lw_at lw_m5 218 rfl
theorem q1290 : (Jvm.Cond.castable "ChurchyardBook$Wall" "ChurchyardBook$Ends") ∈ lw_tbl := lw_at lw_m6 4 rfl
theorem q1291 : (Jvm.Cond.selects "ChurchyardBook$Wall" ({ cls := "ChurchyardBook$Ends", name := "to", desc := "()I" } : Jvm.MethodName) ({ cls := "ChurchyardBook$Grave", name := "to", desc := "()I" } : Jvm.MethodName)) ∈ lw_all := lw_g (lw_at lw_m6 5 rfl) rfl
theorem q1292 : (Jvm.Cond.unhidden "ChurchyardBook$Wall" "to" "()I") ∈ lw_tbl := lw_at lw_m6 6 rfl
theorem q1329 : (Jvm.Cond.selects "ChurchyardBook$Wall" ({ cls := "ChurchyardBook$Grave", name := "put", desc := "(LChurchyardBook$Person;III)V" } : Jvm.MethodName) ({ cls := "ChurchyardBook$Grave", name := "put", desc := "(LChurchyardBook$Person;III)V" } : Jvm.MethodName)) ∈ lw_all := lw_g (lw_at lw_m6 43 rfl) rfl
theorem q1347 : (Jvm.Cond.selects "ChurchyardBook$Wall" ({ cls := "ChurchyardBook$Grave", name := "take", desc := "(LChurchyardBook$Person;)V" } : Jvm.MethodName) ({ cls := "ChurchyardBook$Grave", name := "take", desc := "(LChurchyardBook$Person;)V" } : Jvm.MethodName)) ∈ lw_all := lw_g (lw_at lw_m6 61 rfl) rfl
theorem q1369 : (Jvm.Cond.selects "ChurchyardBook$Wall" ({ cls := "ChurchyardBook$Grave", name := "hasRest", desc := "(I)Z" } : Jvm.MethodName) ({ cls := "ChurchyardBook$Grave", name := "hasRest", desc := "(I)Z" } : Jvm.MethodName)) ∈ lw_all := lw_g (lw_at lw_m6 83 rfl) rfl
theorem q1389 : (Jvm.Cond.selects "ChurchyardBook$Wall" ({ cls := "ChurchyardBook$Grave", name := "kind", desc := "()I" } : Jvm.MethodName) ({ cls := "ChurchyardBook$Wall", name := "kind", desc := "()I" } : Jvm.MethodName)) ∈ lw_all := lw_g (lw_at lw_m6 103 rfl) rfl
theorem q1390 : (Jvm.Cond.instanceMethod ({ cls := "ChurchyardBook$Wall", name := "kind", desc := "()I" } : Jvm.MethodName)) ∈ lw_all := lw_g (lw_at lw_m6 104 rfl) rfl
theorem q1391 : (Jvm.Cond.code ({ cls := "ChurchyardBook$Wall", name := "kind", desc := "()I" } : Jvm.MethodName) prog_18_method_2_code (1 : Nat) (Option.some Jvm.ClassFile.FieldType.int)) ∈ lw_all := lw_g (lw_at lw_m6 105 rfl) rfl
theorem q1420 : (Jvm.Cond.selects "ChurchyardBook$Wall" ({ cls := "ChurchyardBook$Grave", name := "turn", desc := "(I)V" } : Jvm.MethodName) ({ cls := "ChurchyardBook$Grave", name := "turn", desc := "(I)V" } : Jvm.MethodName)) ∈ lw_all := lw_g (lw_at lw_m6 134 rfl) rfl
theorem q1430 : (Jvm.Cond.selects "ChurchyardBook$Wall" ({ cls := "ChurchyardBook$Grave", name := "falls", desc := "()V" } : Jvm.MethodName) ({ cls := "ChurchyardBook$Grave", name := "falls", desc := "()V" } : Jvm.MethodName)) ∈ lw_all := lw_g (lw_at lw_m6 144 rfl) rfl
theorem q1545 : (Jvm.Cond.selects "ChurchyardBook$Wall" ({ cls := "ChurchyardBook$Single", name := "opens", desc := "(III)I" } : Jvm.MethodName) ({ cls := "ChurchyardBook$Single", name := "opens", desc := "(III)I" } : Jvm.MethodName)) ∈ lw_all := lw_g (lw_at lw_m7 19 rfl) rfl
theorem q1554 : (Jvm.Cond.selects "ChurchyardBook$Wall" ({ cls := "ChurchyardBook$Single", name := "in", desc := "(II)LChurchyardBook$Person;" } : Jvm.MethodName) ({ cls := "ChurchyardBook$Grave", name := "in", desc := "(II)LChurchyardBook$Person;" } : Jvm.MethodName)) ∈ lw_all := lw_g (lw_at lw_m7 28 rfl) rfl
theorem q1584 : (Jvm.Cond.selects "ChurchyardBook$Wall" ({ cls := "ChurchyardBook$Grave", name := "plan", desc := "(III)I" } : Jvm.MethodName) ({ cls := "ChurchyardBook$Wall", name := "plan", desc := "(III)I" } : Jvm.MethodName)) ∈ lw_all := lw_g (lw_at lw_m7 58 rfl) rfl
theorem q1585 : (Jvm.Cond.instanceMethod ({ cls := "ChurchyardBook$Wall", name := "plan", desc := "(III)I" } : Jvm.MethodName)) ∈ lw_all := lw_g (lw_at lw_m7 59 rfl) rfl
theorem q1586 : (Jvm.Cond.code ({ cls := "ChurchyardBook$Wall", name := "plan", desc := "(III)I" } : Jvm.MethodName) prog_18_method_7_code (4 : Nat) (Option.some Jvm.ClassFile.FieldType.int)) ∈ lw_all := lw_g (lw_at lw_m7 60 rfl) rfl
theorem q1587 : (Jvm.Cond.methodLink "ChurchyardBook$Wall" (15 : Nat) ({ cls := "ChurchyardBook$Wall", name := "columns", desc := "()I" } : Jvm.MethodName)) ∈ lw_all := lw_g (lw_at lw_m7 61 rfl) rfl
theorem q1588 : (Jvm.Cond.methodLink "ChurchyardBook$Wall" (23 : Nat) ({ cls := "java/util/ArrayList", name := "size", desc := "()I" } : Jvm.MethodName)) ∈ lw_all := lw_g (lw_at lw_m7 62 rfl) rfl
theorem q1630 : (Jvm.Cond.selects "ChurchyardBook$Wall" ({ cls := "ChurchyardBook$Place", name := "what", desc := "()I" } : Jvm.MethodName) ({ cls := "ChurchyardBook$Grave", name := "what", desc := "()I" } : Jvm.MethodName)) ∈ lw_all := lw_g (lw_at lw_m7 104 rfl) rfl
theorem q1697 : (Jvm.Cond.selects "ChurchyardBook$Wall" ({ cls := "ChurchyardBook$Grave", name := "greatestEnd", desc := "()I" } : Jvm.MethodName) ({ cls := "ChurchyardBook$Grave", name := "greatestEnd", desc := "()I" } : Jvm.MethodName)) ∈ lw_all := lw_g (lw_at lw_m7 171 rfl) rfl
theorem q2241 : (Jvm.Cond.sameMethod "ChurchyardBook$Wall" "ChurchyardBook$Wall" "columns" "()I") ∈ lw_all := lw_g (lw_at lw_m9 235 rfl) rfl
theorem q2243 : (Jvm.Cond.selects "ChurchyardBook$Wall" ({ cls := "ChurchyardBook$Wall", name := "columns", desc := "()I" } : Jvm.MethodName) ({ cls := "ChurchyardBook$Wall", name := "columns", desc := "()I" } : Jvm.MethodName)) ∈ lw_all := lw_g (lw_at lw_m9 237 rfl) rfl
theorem q2253 : (Jvm.Cond.castable "ChurchyardBook$Wall" "ChurchyardBook$Grave") ∈ lw_tbl := lw_at lw_m10 7 rfl
theorem q2258 : (Jvm.Cond.castable "ChurchyardBook$Wall" "java/lang/Object") ∈ lw_tbl := lw_at lw_m10 12 rfl
theorem q2287 : (Jvm.Cond.castable "ChurchyardBook$Wall" "ChurchyardBook$Place") ∈ lw_tbl := lw_at lw_m10 41 rfl
theorem in_X13 : ∀ w ∈ wsX130, w ∈ lw_all := lw_in wsX130 [785, 786, 787, 788, 789, 790, 791, 792, 793, 794, 795, 796, 797, 798, 799, 800] (by decide +kernel) (by decide +kernel)

/-! ChurchyardBook$Meadow -/
set_option maxRecDepth 100000
def RX14 : String := "ChurchyardBook$Meadow"
def TX14 : u_T := fun k => match k with
  | 0 => ("ChurchyardBook$Grave", "number", "I", true)
  | 1 => ("ChurchyardBook$Grave", "field", "I", true)
  | 2 => ("ChurchyardBook$Grave", "row", "I", true)
  | 3 => ("ChurchyardBook$Grave", "place", "I", true)
  | 4 => ("ChurchyardBook$Grave", "wide", "I", true)
  | 5 => ("ChurchyardBook$Grave", "ground", "I", true)
  | 6 => ("ChurchyardBook$Grave", "state", "I", false)
  | 7 => ("ChurchyardBook$Grave", "holder", "LChurchyardBook$Person;", false)
  | 8 => ("ChurchyardBook$Grave", "to", "I", false)
  | 9 => ("ChurchyardBook$Grave", "offered", "LChurchyardBook$Person;", false)
  | 10 => ("ChurchyardBook$Grave", "date", "I", false)
  | 11 => ("ChurchyardBook$Grave", "order", "Ljava/util/ArrayList;", true)
  | 12 => ("ChurchyardBook$Grave", "at", "I", false)
  | 13 => ("ChurchyardBook$Grave", "told", "[Z", false)
  | 14 => ("ChurchyardBook$Grave", "from", "LChurchyardBook$Person;", false)
  | _ => ("ChurchyardBook$Grave", "lying", "Ljava/util/ArrayList;", true)
def tyX14 : Nat → FieldType := fun k => match k with
  | 0 => .int
  | 1 => .int
  | 2 => .int
  | 3 => .int
  | 4 => .int
  | 5 => .int
  | 6 => .int
  | 7 => .object "ChurchyardBook$Person"
  | 8 => .int
  | 9 => .object "ChurchyardBook$Person"
  | 10 => .int
  | 11 => .object "java/util/ArrayList"
  | 12 => .int
  | 13 => .array .boolean
  | 14 => .object "ChurchyardBook$Person"
  | _ => .object "java/util/ArrayList"
abbrev wsX140 : List Cond := u_ws RX14 TX14 16
set_option maxRecDepth 100000 in
theorem nmX14 : ∀ a, a < 16 → ∀ b, b < 16 → a ≠ b → (TX14 a).2.1 ≠ (TX14 b).2.1 := by decide +kernel
set_option maxRecDepth 100000 in
theorem tyX14_ok : ∀ k, k < 16 → parseFieldDescriptor (TX14 k).2.2.1 = some (tyX14 k) := by decide +kernel
abbrev cX14_init : ByteArray := prog_9_method_1_code
def yX14_init : MethodName := ⟨RX14, "<init>", "(IIIIII)V"⟩
def dkwX14_init_0 : List UInt8 := [42, 27, 28, 29, 21, 4, 21, 5, 21, 6, 183, 0, 3, 177]
abbrev dktX14_init_0 : List UInt8 := dkwX14_init_0 ++ []
theorem dksX14_init_0 : cX14_init.data.toList.drop 0 = dktX14_init_0 := by decide +kernel
theorem dX14_init_0 : decode cX14_init 0 = .ok (.aload_n 0, 1) := dk_42 (dk_at dksX14_init_0 0 rfl rfl)
theorem dX14_init_1 : decode cX14_init 1 = .ok (.iload_n 1, 1) := dk_27 (dk_at dksX14_init_0 1 rfl rfl)
theorem dX14_init_2 : decode cX14_init 2 = .ok (.iload_n 2, 1) := dk_28 (dk_at dksX14_init_0 2 rfl rfl)
theorem dX14_init_3 : decode cX14_init 3 = .ok (.iload_n 3, 1) := dk_29 (dk_at dksX14_init_0 3 rfl rfl)
theorem dX14_init_4 : decode cX14_init 4 = .ok (.iload 4, 2) := dk_21 4 (dk_at dksX14_init_0 4 rfl rfl)
theorem dX14_init_6 : decode cX14_init 6 = .ok (.iload 5, 2) := dk_21 5 (dk_at dksX14_init_0 6 rfl rfl)
theorem dX14_init_8 : decode cX14_init 8 = .ok (.iload 6, 2) := dk_21 6 (dk_at dksX14_init_0 8 rfl rfl)
theorem dX14_init_10 : decode cX14_init 10 = .ok (.invokespecial 3, 3) := dk_183 0 3 (dk_at dksX14_init_0 10 rfl rfl)
theorem dX14_init_13 : decode cX14_init 13 = .ok (.return_, 1) := dk_177 (dk_at dksX14_init_0 13 rfl rfl)
abbrev cX14_needsHolder : ByteArray := prog_9_method_4_code
def yX14_needsHolder : MethodName := ⟨RX14, "needsHolder", "()Z"⟩
theorem dX14_needsHolder_0 : decode cX14_needsHolder 0 = .ok (.iconst 0, 1) := by decide +kernel
theorem dX14_needsHolder_1 : decode cX14_needsHolder 1 = .ok (.ireturn, 1) := by decide +kernel
abbrev cX14_columns : ByteArray := prog_9_method_3_code
def yX14_columns : MethodName := ⟨RX14, "columns", "()I"⟩
theorem dX14_columns_0 : decode cX14_columns 0 = .ok (.iconst 1, 1) := by decide +kernel
theorem dX14_columns_1 : decode cX14_columns 1 = .ok (.ireturn, 1) := by decide +kernel
abbrev cX14_room : ByteArray := prog_9_method_5_code
def yX14_room : MethodName := ⟨RX14, "room", "(II)I"⟩
def dkwX14_room_0 : List UInt8 := [42, 180, 0, 9, 182, 0, 15, 16, 40, 162, 0, 7, 3, 167, 0, 4, 2, 172]
abbrev dktX14_room_0 : List UInt8 := dkwX14_room_0 ++ []
theorem dksX14_room_0 : cX14_room.data.toList.drop 0 = dktX14_room_0 := by decide +kernel
theorem dX14_room_0 : decode cX14_room 0 = .ok (.aload_n 0, 1) := dk_42 (dk_at dksX14_room_0 0 rfl rfl)
theorem dX14_room_1 : decode cX14_room 1 = .ok (.getfield 9, 3) := dk_180 0 9 (dk_at dksX14_room_0 1 rfl rfl)
theorem dX14_room_4 : decode cX14_room 4 = .ok (.invokevirtual 15, 3) := dk_182 0 15 (dk_at dksX14_room_0 4 rfl rfl)
theorem dX14_room_7 : decode cX14_room 7 = .ok (.bipush 40, 2) := dk_16 40 (dk_at dksX14_room_0 7 rfl rfl)
theorem dX14_room_9 : decode cX14_room 9 = .ok (.if_icmp .ge 7, 3) := dk_162 0 7 (dk_at dksX14_room_0 9 rfl rfl)
theorem dX14_room_12 : decode cX14_room 12 = .ok (.iconst 0, 1) := dk_3 (dk_at dksX14_room_0 12 rfl rfl)
theorem dX14_room_13 : decode cX14_room 13 = .ok (.goto 4, 3) := dk_167 0 4 (dk_at dksX14_room_0 13 rfl rfl)
theorem dX14_room_16 : decode cX14_room 16 = .ok (.iconst (-1), 1) := dk_2 (dk_at dksX14_room_0 16 rfl rfl)
theorem dX14_room_17 : decode cX14_room 17 = .ok (.ireturn, 1) := dk_172 (dk_at dksX14_room_0 17 rfl rfl)
abbrev cX14_put : ByteArray := prog_9_method_7_code
def yX14_put : MethodName := ⟨RX14, "put", "(LChurchyardBook$Person;III)V"⟩
def dkwX14_put_0 : List UInt8 := [42, 180, 0, 9, 43, 182, 0, 21, 87, 43, 21, 4, 42, 3, 3, 182, 0, 25, 177]
abbrev dktX14_put_0 : List UInt8 := dkwX14_put_0 ++ []
theorem dksX14_put_0 : cX14_put.data.toList.drop 0 = dktX14_put_0 := by decide +kernel
theorem dX14_put_0 : decode cX14_put 0 = .ok (.aload_n 0, 1) := dk_42 (dk_at dksX14_put_0 0 rfl rfl)
theorem dX14_put_1 : decode cX14_put 1 = .ok (.getfield 9, 3) := dk_180 0 9 (dk_at dksX14_put_0 1 rfl rfl)
theorem dX14_put_4 : decode cX14_put 4 = .ok (.aload_n 1, 1) := dk_43 (dk_at dksX14_put_0 4 rfl rfl)
theorem dX14_put_5 : decode cX14_put 5 = .ok (.invokevirtual 21, 3) := dk_182 0 21 (dk_at dksX14_put_0 5 rfl rfl)
theorem dX14_put_8 : decode cX14_put 8 = .ok (.pop, 1) := dk_87 (dk_at dksX14_put_0 8 rfl rfl)
theorem dX14_put_9 : decode cX14_put 9 = .ok (.aload_n 1, 1) := dk_43 (dk_at dksX14_put_0 9 rfl rfl)
theorem dX14_put_10 : decode cX14_put 10 = .ok (.iload 4, 2) := dk_21 4 (dk_at dksX14_put_0 10 rfl rfl)
theorem dX14_put_12 : decode cX14_put 12 = .ok (.aload_n 0, 1) := dk_42 (dk_at dksX14_put_0 12 rfl rfl)
theorem dX14_put_13 : decode cX14_put 13 = .ok (.iconst 0, 1) := dk_3 (dk_at dksX14_put_0 13 rfl rfl)
theorem dX14_put_14 : decode cX14_put 14 = .ok (.iconst 0, 1) := dk_3 (dk_at dksX14_put_0 14 rfl rfl)
theorem dX14_put_15 : decode cX14_put 15 = .ok (.invokevirtual 25, 3) := dk_182 0 25 (dk_at dksX14_put_0 15 rfl rfl)
theorem dX14_put_18 : decode cX14_put 18 = .ok (.return_, 1) := dk_177 (dk_at dksX14_put_0 18 rfl rfl)
abbrev cX14_kind : ByteArray := prog_9_method_2_code
def yX14_kind : MethodName := ⟨RX14, "kind", "()I"⟩
theorem dX14_kind_0 : decode cX14_kind 0 = .ok (.iconst 5, 1) := by decide +kernel
theorem dX14_kind_1 : decode cX14_kind 1 = .ok (.ireturn, 1) := by decide +kernel
abbrev cX14_plan : ByteArray := prog_9_method_6_code
def yX14_plan : MethodName := ⟨RX14, "plan", "(III)I"⟩
def dkwX14_plan_0 : List UInt8 := [16, 40, 42, 180, 0, 9, 182, 0, 15, 100, 172]
abbrev dktX14_plan_0 : List UInt8 := dkwX14_plan_0 ++ []
theorem dksX14_plan_0 : cX14_plan.data.toList.drop 0 = dktX14_plan_0 := by decide +kernel
theorem dX14_plan_0 : decode cX14_plan 0 = .ok (.bipush 40, 2) := dk_16 40 (dk_at dksX14_plan_0 0 rfl rfl)
theorem dX14_plan_2 : decode cX14_plan 2 = .ok (.aload_n 0, 1) := dk_42 (dk_at dksX14_plan_0 2 rfl rfl)
theorem dX14_plan_3 : decode cX14_plan 3 = .ok (.getfield 9, 3) := dk_180 0 9 (dk_at dksX14_plan_0 3 rfl rfl)
theorem dX14_plan_6 : decode cX14_plan 6 = .ok (.invokevirtual 15, 3) := dk_182 0 15 (dk_at dksX14_plan_0 6 rfl rfl)
theorem dX14_plan_9 : decode cX14_plan 9 = .ok (.isub, 1) := dk_100 (dk_at dksX14_plan_0 9 rfl rfl)
theorem dX14_plan_10 : decode cX14_plan 10 = .ok (.ireturn, 1) := dk_172 (dk_at dksX14_plan_0 10 rfl rfl)
theorem q119 : (Jvm.Cond.initialized "ChurchyardBook$Meadow") ∈ lw_all := lw_g (lw_at lw_m1 33 rfl) rfl
theorem q414 : (Jvm.Cond.selects "ChurchyardBook$Meadow" ({ cls := "java/lang/Object", name := "getClass", desc := "()Ljava/lang/Class;" } : Jvm.MethodName) ({ cls := "java/lang/Object", name := "getClass", desc := "()Ljava/lang/Class;" } : Jvm.MethodName)) ∈ lw_all := lw_g (lw_at lw_m2 88 rfl) rfl
theorem q595 : (Jvm.Cond.castable "ChurchyardBook$Meadow" "ChurchyardBook$Takes") ∈ lw_tbl := lw_at lw_m3 29 rfl
theorem q596 : (Jvm.Cond.selects "ChurchyardBook$Meadow" ({ cls := "ChurchyardBook$Takes", name := "shunsTrees", desc := "()Z" } : Jvm.MethodName) ({ cls := "ChurchyardBook$Wall", name := "shunsTrees", desc := "()Z" } : Jvm.MethodName)) ∈ lw_all := lw_g (lw_at lw_m3 30 rfl) rfl
theorem q597 : (Jvm.Cond.unhidden "ChurchyardBook$Meadow" "shunsTrees" "()Z") ∈ lw_tbl := lw_at lw_m3 31 rfl
theorem q696 : (Jvm.Cond.fieldLink "ChurchyardBook$Meadow" (9 : Nat) "ChurchyardBook$Meadow" "lying" "Ljava/util/ArrayList;") ∈ lw_all := lw_g (lw_at lw_m3 130 rfl) rfl
theorem q697 : (Jvm.Cond.sameField "ChurchyardBook$Meadow" "ChurchyardBook$Grave" "lying" "Ljava/util/ArrayList;") ∈ lw_all := lw_g (lw_at lw_m3 131 rfl) rfl
theorem q803 : (Jvm.Cond.instantiable "ChurchyardBook$Meadow" (16 : Nat)) ∈ lw_all := lw_g (lw_at lw_m3 237 rfl) rfl
theorem q805 : (Jvm.Cond.instanceMethod ({ cls := "ChurchyardBook$Meadow", name := "<init>", desc := "(IIIIII)V" } : Jvm.MethodName)) ∈ lw_all := lw_g (lw_at lw_m3 239 rfl) rfl
theorem q806 : (Jvm.Cond.code ({ cls := "ChurchyardBook$Meadow", name := "<init>", desc := "(IIIIII)V" } : Jvm.MethodName) prog_9_method_1_code (7 : Nat) (Option.none : Option Jvm.ClassFile.FieldType)) ∈ lw_all := lw_g (lw_at lw_m4 0 rfl) rfl
theorem q807 : (Jvm.Cond.methodLink "ChurchyardBook$Meadow" (3 : Nat) ({ cls := "ChurchyardBook$Wall", name := "<init>", desc := "(IIIIII)V" } : Jvm.MethodName)) ∈ lw_all := lw_g (lw_at lw_m4 1 rfl) rfl
theorem q808 : (Jvm.Cond.laysFinal "ChurchyardBook$Meadow" "ChurchyardBook$Grave" "number" "I") ∈ lw_all := lw_g (lw_at lw_m4 2 rfl) rfl
theorem q809 : (Jvm.Cond.laysFinal "ChurchyardBook$Meadow" "ChurchyardBook$Grave" "field" "I") ∈ lw_all := lw_g (lw_at lw_m4 3 rfl) rfl
theorem q810 : (Jvm.Cond.laysFinal "ChurchyardBook$Meadow" "ChurchyardBook$Grave" "row" "I") ∈ lw_all := lw_g (lw_at lw_m4 4 rfl) rfl
theorem q811 : (Jvm.Cond.laysFinal "ChurchyardBook$Meadow" "ChurchyardBook$Grave" "place" "I") ∈ lw_all := lw_g (lw_at lw_m4 5 rfl) rfl
theorem q812 : (Jvm.Cond.laysFinal "ChurchyardBook$Meadow" "ChurchyardBook$Grave" "wide" "I") ∈ lw_all := lw_g (lw_at lw_m4 6 rfl) rfl
theorem q813 : (Jvm.Cond.laysFinal "ChurchyardBook$Meadow" "ChurchyardBook$Grave" "ground" "I") ∈ lw_all := lw_g (lw_at lw_m4 7 rfl) rfl
theorem q814 : (Jvm.Cond.lays "ChurchyardBook$Meadow" "ChurchyardBook$Grave" "state" "I") ∈ lw_all := lw_g (lw_at lw_m4 8 rfl) rfl
theorem q815 : (Jvm.Cond.lays "ChurchyardBook$Meadow" "ChurchyardBook$Grave" "holder" "LChurchyardBook$Person;") ∈ lw_all := lw_g (lw_at lw_m4 9 rfl) rfl
theorem q816 : (Jvm.Cond.lays "ChurchyardBook$Meadow" "ChurchyardBook$Grave" "to" "I") ∈ lw_all := lw_g (lw_at lw_m4 10 rfl) rfl
theorem q817 : (Jvm.Cond.lays "ChurchyardBook$Meadow" "ChurchyardBook$Grave" "offered" "LChurchyardBook$Person;") ∈ lw_all := lw_g (lw_at lw_m4 11 rfl) rfl
theorem q818 : (Jvm.Cond.lays "ChurchyardBook$Meadow" "ChurchyardBook$Grave" "date" "I") ∈ lw_all := lw_g (lw_at lw_m4 12 rfl) rfl
theorem q819 : (Jvm.Cond.laysFinal "ChurchyardBook$Meadow" "ChurchyardBook$Grave" "order" "Ljava/util/ArrayList;") ∈ lw_all := lw_g (lw_at lw_m4 13 rfl) rfl
theorem q820 : (Jvm.Cond.lays "ChurchyardBook$Meadow" "ChurchyardBook$Grave" "at" "I") ∈ lw_all := lw_g (lw_at lw_m4 14 rfl) rfl
theorem q821 : (Jvm.Cond.lays "ChurchyardBook$Meadow" "ChurchyardBook$Grave" "told" "[Z") ∈ lw_all := lw_g (lw_at lw_m4 15 rfl) rfl
theorem q822 : (Jvm.Cond.lays "ChurchyardBook$Meadow" "ChurchyardBook$Grave" "from" "LChurchyardBook$Person;") ∈ lw_all := lw_g (lw_at lw_m4 16 rfl) rfl
theorem q823 : (Jvm.Cond.laysFinal "ChurchyardBook$Meadow" "ChurchyardBook$Grave" "lying" "Ljava/util/ArrayList;") ∈ lw_all := lw_g (lw_at lw_m4 17 rfl) rfl
theorem q824 : (Jvm.Cond.superclass "ChurchyardBook$Meadow" "ChurchyardBook$Wall") ∈ lw_all := lw_g (lw_at lw_m4 18 rfl) rfl
theorem q963 : (Jvm.Cond.selects "ChurchyardBook$Meadow" ({ cls := "ChurchyardBook$Grave", name := "needsHolder", desc := "()Z" } : Jvm.MethodName) ({ cls := "ChurchyardBook$Meadow", name := "needsHolder", desc := "()Z" } : Jvm.MethodName)) ∈ lw_all := lw_g (lw_at lw_m4 157 rfl) rfl
theorem q964 : (Jvm.Cond.instanceMethod ({ cls := "ChurchyardBook$Meadow", name := "needsHolder", desc := "()Z" } : Jvm.MethodName)) ∈ lw_all := lw_g (lw_at lw_m4 158 rfl) rfl
theorem q965 : (Jvm.Cond.code ({ cls := "ChurchyardBook$Meadow", name := "needsHolder", desc := "()Z" } : Jvm.MethodName) prog_9_method_4_code (1 : Nat) (Option.some Jvm.ClassFile.FieldType.boolean)) ∈ lw_all := lw_g (lw_at lw_m4 159 rfl) rfl
theorem q975 : (Jvm.Cond.selects "ChurchyardBook$Meadow" ({ cls := "ChurchyardBook$Grave", name := "hold", desc := "(LChurchyardBook$Person;)V" } : Jvm.MethodName) ({ cls := "ChurchyardBook$Grave", name := "hold", desc := "(LChurchyardBook$Person;)V" } : Jvm.MethodName)) ∈ lw_all := lw_g (lw_at lw_m4 169 rfl) rfl
theorem q995 : (Jvm.Cond.selects "ChurchyardBook$Meadow" ({ cls := "ChurchyardBook$Grave", name := "yearly", desc := "()I" } : Jvm.MethodName) ({ cls := "ChurchyardBook$Grave", name := "yearly", desc := "()I" } : Jvm.MethodName)) ∈ lw_all := lw_g (lw_at lw_m4 189 rfl) rfl
theorem q1045 : (Jvm.Cond.selects "ChurchyardBook$Meadow" ({ cls := "java/lang/Object", name := "equals", desc := "(Ljava/lang/Object;)Z" } : Jvm.MethodName) ({ cls := "java/lang/Object", name := "equals", desc := "(Ljava/lang/Object;)Z" } : Jvm.MethodName)) ∈ lw_all := lw_g (lw_at lw_m4 239 rfl) rfl
theorem q1084 : (Jvm.Cond.selects "ChurchyardBook$Meadow" ({ cls := "ChurchyardBook$Grave", name := "passOn", desc := "(I)V" } : Jvm.MethodName) ({ cls := "ChurchyardBook$Grave", name := "passOn", desc := "(I)V" } : Jvm.MethodName)) ∈ lw_all := lw_g (lw_at lw_m5 38 rfl) rfl
theorem q1120 : (Jvm.Cond.unhidden "ChurchyardBook$Meadow" "years" "(I)I") ∈ lw_tbl := lw_at lw_m5 74 rfl
theorem q1142 : (Jvm.Cond.castable "ChurchyardBook$Meadow" "ChurchyardBook$Rests") ∈ lw_tbl := lw_at lw_m5 96 rfl
theorem q1143 : (Jvm.Cond.selects "ChurchyardBook$Meadow" ({ cls := "ChurchyardBook$Rests", name := "ground", desc := "()I" } : Jvm.MethodName) ({ cls := "ChurchyardBook$Grave", name := "ground", desc := "()I" } : Jvm.MethodName)) ∈ lw_all := lw_g (lw_at lw_m5 97 rfl) rfl
theorem q1144 : (Jvm.Cond.unhidden "ChurchyardBook$Meadow" "ground" "()I") ∈ lw_tbl := lw_at lw_m5 98 rfl
theorem q1161 : (Jvm.Cond.selects "ChurchyardBook$Meadow" ({ cls := "ChurchyardBook$Grave", name := "isColumn", desc := "(I)Z" } : Jvm.MethodName) ({ cls := "ChurchyardBook$Grave", name := "isColumn", desc := "(I)Z" } : Jvm.MethodName)) ∈ lw_all := lw_g (lw_at lw_m5 115 rfl) rfl
theorem q1173 : (Jvm.Cond.selects "ChurchyardBook$Meadow" ({ cls := "ChurchyardBook$Grave", name := "columns", desc := "()I" } : Jvm.MethodName) ({ cls := "ChurchyardBook$Meadow", name := "columns", desc := "()I" } : Jvm.MethodName)) ∈ lw_all := lw_g (lw_at lw_m5 127 rfl) rfl
theorem q1174 : (Jvm.Cond.instanceMethod ({ cls := "ChurchyardBook$Meadow", name := "columns", desc := "()I" } : Jvm.MethodName)) ∈ lw_all := lw_g (lw_at lw_m5 128 rfl) rfl
theorem q1175 : (Jvm.Cond.code ({ cls := "ChurchyardBook$Meadow", name := "columns", desc := "()I" } : Jvm.MethodName) prog_9_method_3_code (1 : Nat) (Option.some Jvm.ClassFile.FieldType.int)) ∈ lw_all := lw_g (lw_at lw_m5 129 rfl) rfl
theorem q1189 : (Jvm.Cond.selects "ChurchyardBook$Meadow" ({ cls := "ChurchyardBook$Takes", name := "takes", desc := "(I)Z" } : Jvm.MethodName) ({ cls := "ChurchyardBook$Wall", name := "takes", desc := "(I)Z" } : Jvm.MethodName)) ∈ lw_all := lw_g (lw_at lw_m5 143 rfl) rfl
theorem q1206 : (Jvm.Cond.selects "ChurchyardBook$Meadow" ({ cls := "ChurchyardBook$Single", name := "isOpen", desc := "(III)Z" } : Jvm.MethodName) ({ cls := "ChurchyardBook$Grave", name := "isOpen", desc := "(III)Z" } : Jvm.MethodName)) ∈ lw_all := lw_g (lw_at lw_m5 160 rfl) rfl
theorem q1217 : (Jvm.Cond.selects "ChurchyardBook$Meadow" ({ cls := "ChurchyardBook$Grave", name := "in", desc := "(II)LChurchyardBook$Person;" } : Jvm.MethodName) ({ cls := "ChurchyardBook$Grave", name := "in", desc := "(II)LChurchyardBook$Person;" } : Jvm.MethodName)) ∈ lw_all := lw_g (lw_at lw_m5 171 rfl) rfl
theorem q1234 : (Jvm.Cond.selects "ChurchyardBook$Meadow" ({ cls := "ChurchyardBook$Grave", name := "room", desc := "(II)I" } : Jvm.MethodName) ({ cls := "ChurchyardBook$Meadow", name := "room", desc := "(II)I" } : Jvm.MethodName)) ∈ lw_all := lw_g (lw_at lw_m5 188 rfl) rfl
theorem q1235 : (Jvm.Cond.instanceMethod ({ cls := "ChurchyardBook$Meadow", name := "room", desc := "(II)I" } : Jvm.MethodName)) ∈ lw_all := lw_g (lw_at lw_m5 189 rfl) rfl
theorem q1236 : (Jvm.Cond.code ({ cls := "ChurchyardBook$Meadow", name := "room", desc := "(II)I" } : Jvm.MethodName) prog_9_method_5_code (3 : Nat) (Option.some Jvm.ClassFile.FieldType.int)) ∈ lw_all := lw_g (lw_at lw_m5 190 rfl) rfl
theorem q1237 : (Jvm.Cond.methodLink "ChurchyardBook$Meadow" (15 : Nat) ({ cls := "java/util/ArrayList", name := "size", desc := "()I" } : Jvm.MethodName)) ∈ lw_all := lw_g (lw_at lw_m5 191 rfl) rfl
theorem q1245 : (Jvm.Cond.selects "ChurchyardBook$Meadow" ({ cls := "ChurchyardBook$Wall", name := "in", desc := "(II)LChurchyardBook$Person;" } : Jvm.MethodName) ({ cls := "ChurchyardBook$Grave", name := "in", desc := "(II)LChurchyardBook$Person;" } : Jvm.MethodName)) ∈ lw_all := lw_g (lw_at lw_m5 199 rfl) rfl
theorem q1253 : (Jvm.Cond.selects "ChurchyardBook$Meadow" ({ cls := "ChurchyardBook$Grave", name := "isAgreed", desc := "(LChurchyardBook$Person;)Z" } : Jvm.MethodName) ({ cls := "ChurchyardBook$Grave", name := "isAgreed", desc := "(LChurchyardBook$Person;)Z" } : Jvm.MethodName)) ∈ lw_all := lw_g (lw_at lw_m5 207 rfl) rfl
theorem q1262 : (Jvm.Cond.unhidden "ChurchyardBook$Meadow" "lacks" "(I)I") ∈ lw_tbl := lw_at lw_m5 216 rfl
theorem q1284 : (Jvm.Cond.castable "ChurchyardBook$Meadow" "ChurchyardBook$Ends") ∈ lw_tbl := lw_at lw_m5 238 rfl
theorem q1285 : (Jvm.Cond.selects "ChurchyardBook$Meadow" ({ cls := "ChurchyardBook$Ends", name := "to", desc := "()I" } : Jvm.MethodName) ({ cls := "ChurchyardBook$Grave", name := "to", desc := "()I" } : Jvm.MethodName)) ∈ lw_all := lw_g (lw_at lw_m5 239 rfl) rfl
theorem q1286 : (Jvm.Cond.unhidden "ChurchyardBook$Meadow" "to" "()I") ∈ lw_tbl := lw_at lw_m6 0 rfl
theorem q1303 : (Jvm.Cond.selects "ChurchyardBook$Meadow" ({ cls := "ChurchyardBook$Grave", name := "put", desc := "(LChurchyardBook$Person;III)V" } : Jvm.MethodName) ({ cls := "ChurchyardBook$Meadow", name := "put", desc := "(LChurchyardBook$Person;III)V" } : Jvm.MethodName)) ∈ lw_all := lw_g (lw_at lw_m6 17 rfl) rfl
theorem q1304 : (Jvm.Cond.instanceMethod ({ cls := "ChurchyardBook$Meadow", name := "put", desc := "(LChurchyardBook$Person;III)V" } : Jvm.MethodName)) ∈ lw_all := lw_g (lw_at lw_m6 18 rfl) rfl
theorem q1305 : (Jvm.Cond.code ({ cls := "ChurchyardBook$Meadow", name := "put", desc := "(LChurchyardBook$Person;III)V" } : Jvm.MethodName) prog_9_method_7_code (5 : Nat) (Option.none : Option Jvm.ClassFile.FieldType)) ∈ lw_all := lw_g (lw_at lw_m6 19 rfl) rfl
theorem q1306 : (Jvm.Cond.methodLink "ChurchyardBook$Meadow" (21 : Nat) ({ cls := "java/util/ArrayList", name := "add", desc := "(Ljava/lang/Object;)Z" } : Jvm.MethodName)) ∈ lw_all := lw_g (lw_at lw_m6 20 rfl) rfl
theorem q1307 : (Jvm.Cond.methodLink "ChurchyardBook$Meadow" (25 : Nat) ({ cls := "ChurchyardBook$Person", name := "lies", desc := "(ILChurchyardBook$Grave;II)V" } : Jvm.MethodName)) ∈ lw_all := lw_g (lw_at lw_m6 21 rfl) rfl
theorem q1345 : (Jvm.Cond.selects "ChurchyardBook$Meadow" ({ cls := "ChurchyardBook$Grave", name := "take", desc := "(LChurchyardBook$Person;)V" } : Jvm.MethodName) ({ cls := "ChurchyardBook$Grave", name := "take", desc := "(LChurchyardBook$Person;)V" } : Jvm.MethodName)) ∈ lw_all := lw_g (lw_at lw_m6 59 rfl) rfl
theorem q1367 : (Jvm.Cond.selects "ChurchyardBook$Meadow" ({ cls := "ChurchyardBook$Grave", name := "hasRest", desc := "(I)Z" } : Jvm.MethodName) ({ cls := "ChurchyardBook$Grave", name := "hasRest", desc := "(I)Z" } : Jvm.MethodName)) ∈ lw_all := lw_g (lw_at lw_m6 81 rfl) rfl
theorem q1383 : (Jvm.Cond.selects "ChurchyardBook$Meadow" ({ cls := "ChurchyardBook$Grave", name := "kind", desc := "()I" } : Jvm.MethodName) ({ cls := "ChurchyardBook$Meadow", name := "kind", desc := "()I" } : Jvm.MethodName)) ∈ lw_all := lw_g (lw_at lw_m6 97 rfl) rfl
theorem q1384 : (Jvm.Cond.instanceMethod ({ cls := "ChurchyardBook$Meadow", name := "kind", desc := "()I" } : Jvm.MethodName)) ∈ lw_all := lw_g (lw_at lw_m6 98 rfl) rfl
theorem q1385 : (Jvm.Cond.code ({ cls := "ChurchyardBook$Meadow", name := "kind", desc := "()I" } : Jvm.MethodName) prog_9_method_2_code (1 : Nat) (Option.some Jvm.ClassFile.FieldType.int)) ∈ lw_all := lw_g (lw_at lw_m6 99 rfl) rfl
theorem q1418 : (Jvm.Cond.selects "ChurchyardBook$Meadow" ({ cls := "ChurchyardBook$Grave", name := "turn", desc := "(I)V" } : Jvm.MethodName) ({ cls := "ChurchyardBook$Grave", name := "turn", desc := "(I)V" } : Jvm.MethodName)) ∈ lw_all := lw_g (lw_at lw_m6 132 rfl) rfl
theorem q1428 : (Jvm.Cond.selects "ChurchyardBook$Meadow" ({ cls := "ChurchyardBook$Grave", name := "falls", desc := "()V" } : Jvm.MethodName) ({ cls := "ChurchyardBook$Grave", name := "falls", desc := "()V" } : Jvm.MethodName)) ∈ lw_all := lw_g (lw_at lw_m6 142 rfl) rfl
theorem q1544 : (Jvm.Cond.selects "ChurchyardBook$Meadow" ({ cls := "ChurchyardBook$Single", name := "opens", desc := "(III)I" } : Jvm.MethodName) ({ cls := "ChurchyardBook$Single", name := "opens", desc := "(III)I" } : Jvm.MethodName)) ∈ lw_all := lw_g (lw_at lw_m7 18 rfl) rfl
theorem q1552 : (Jvm.Cond.selects "ChurchyardBook$Meadow" ({ cls := "ChurchyardBook$Single", name := "in", desc := "(II)LChurchyardBook$Person;" } : Jvm.MethodName) ({ cls := "ChurchyardBook$Grave", name := "in", desc := "(II)LChurchyardBook$Person;" } : Jvm.MethodName)) ∈ lw_all := lw_g (lw_at lw_m7 26 rfl) rfl
theorem q1580 : (Jvm.Cond.selects "ChurchyardBook$Meadow" ({ cls := "ChurchyardBook$Grave", name := "plan", desc := "(III)I" } : Jvm.MethodName) ({ cls := "ChurchyardBook$Meadow", name := "plan", desc := "(III)I" } : Jvm.MethodName)) ∈ lw_all := lw_g (lw_at lw_m7 54 rfl) rfl
theorem q1581 : (Jvm.Cond.instanceMethod ({ cls := "ChurchyardBook$Meadow", name := "plan", desc := "(III)I" } : Jvm.MethodName)) ∈ lw_all := lw_g (lw_at lw_m7 55 rfl) rfl
theorem q1582 : (Jvm.Cond.code ({ cls := "ChurchyardBook$Meadow", name := "plan", desc := "(III)I" } : Jvm.MethodName) prog_9_method_6_code (4 : Nat) (Option.some Jvm.ClassFile.FieldType.int)) ∈ lw_all := lw_g (lw_at lw_m7 56 rfl) rfl
theorem q1625 : (Jvm.Cond.selects "ChurchyardBook$Meadow" ({ cls := "ChurchyardBook$Place", name := "what", desc := "()I" } : Jvm.MethodName) ({ cls := "ChurchyardBook$Grave", name := "what", desc := "()I" } : Jvm.MethodName)) ∈ lw_all := lw_g (lw_at lw_m7 99 rfl) rfl
theorem q1695 : (Jvm.Cond.selects "ChurchyardBook$Meadow" ({ cls := "ChurchyardBook$Grave", name := "greatestEnd", desc := "()I" } : Jvm.MethodName) ({ cls := "ChurchyardBook$Grave", name := "greatestEnd", desc := "()I" } : Jvm.MethodName)) ∈ lw_all := lw_g (lw_at lw_m7 169 rfl) rfl
theorem q2242 : (Jvm.Cond.selects "ChurchyardBook$Meadow" ({ cls := "ChurchyardBook$Wall", name := "columns", desc := "()I" } : Jvm.MethodName) ({ cls := "ChurchyardBook$Meadow", name := "columns", desc := "()I" } : Jvm.MethodName)) ∈ lw_all := lw_g (lw_at lw_m9 236 rfl) rfl
theorem q2251 : (Jvm.Cond.castable "ChurchyardBook$Meadow" "ChurchyardBook$Grave") ∈ lw_tbl := lw_at lw_m10 5 rfl
theorem q2254 : (Jvm.Cond.castable "ChurchyardBook$Meadow" "ChurchyardBook$Wall") ∈ lw_tbl := lw_at lw_m10 8 rfl
theorem q2275 : (Jvm.Cond.castable "ChurchyardBook$Meadow" "java/lang/Object") ∈ lw_tbl := lw_at lw_m10 29 rfl
theorem q2288 : (Jvm.Cond.castable "ChurchyardBook$Meadow" "ChurchyardBook$Place") ∈ lw_tbl := lw_at lw_m10 42 rfl
theorem in_X14 : ∀ w ∈ wsX140, w ∈ lw_all := lw_in wsX140 [808, 809, 810, 811, 812, 813, 814, 815, 816, 817, 818, 819, 820, 821, 822, 823] (by decide +kernel) (by decide +kernel)

/-! ChurchyardBook$Child -/
set_option maxRecDepth 100000
def RX15 : String := "ChurchyardBook$Child"
def TX15 : u_T := fun k => match k with
  | 0 => ("ChurchyardBook$Grave", "number", "I", true)
  | 1 => ("ChurchyardBook$Grave", "field", "I", true)
  | 2 => ("ChurchyardBook$Grave", "row", "I", true)
  | 3 => ("ChurchyardBook$Grave", "place", "I", true)
  | 4 => ("ChurchyardBook$Grave", "wide", "I", true)
  | 5 => ("ChurchyardBook$Grave", "ground", "I", true)
  | 6 => ("ChurchyardBook$Grave", "state", "I", false)
  | 7 => ("ChurchyardBook$Grave", "holder", "LChurchyardBook$Person;", false)
  | 8 => ("ChurchyardBook$Grave", "to", "I", false)
  | 9 => ("ChurchyardBook$Grave", "offered", "LChurchyardBook$Person;", false)
  | 10 => ("ChurchyardBook$Grave", "date", "I", false)
  | 11 => ("ChurchyardBook$Grave", "order", "Ljava/util/ArrayList;", true)
  | 12 => ("ChurchyardBook$Grave", "at", "I", false)
  | 13 => ("ChurchyardBook$Grave", "told", "[Z", false)
  | 14 => ("ChurchyardBook$Grave", "from", "LChurchyardBook$Person;", false)
  | _ => ("ChurchyardBook$Grave", "lying", "Ljava/util/ArrayList;", true)
def tyX15 : Nat → FieldType := fun k => match k with
  | 0 => .int
  | 1 => .int
  | 2 => .int
  | 3 => .int
  | 4 => .int
  | 5 => .int
  | 6 => .int
  | 7 => .object "ChurchyardBook$Person"
  | 8 => .int
  | 9 => .object "ChurchyardBook$Person"
  | 10 => .int
  | 11 => .object "java/util/ArrayList"
  | 12 => .int
  | 13 => .array .boolean
  | 14 => .object "ChurchyardBook$Person"
  | _ => .object "java/util/ArrayList"
abbrev wsX150 : List Cond := u_ws RX15 TX15 16
set_option maxRecDepth 100000 in
theorem nmX15 : ∀ a, a < 16 → ∀ b, b < 16 → a ≠ b → (TX15 a).2.1 ≠ (TX15 b).2.1 := by decide +kernel
set_option maxRecDepth 100000 in
theorem tyX15_ok : ∀ k, k < 16 → parseFieldDescriptor (TX15 k).2.2.1 = some (tyX15 k) := by decide +kernel
abbrev cX15_init : ByteArray := prog_3_method_1_code
def yX15_init : MethodName := ⟨RX15, "<init>", "(IIIIII)V"⟩
def dkwX15_init_0 : List UInt8 := [42, 27, 28, 29, 21, 4, 21, 5, 21, 6, 183, 0, 3, 177]
abbrev dktX15_init_0 : List UInt8 := dkwX15_init_0 ++ []
theorem dksX15_init_0 : cX15_init.data.toList.drop 0 = dktX15_init_0 := by decide +kernel
theorem dX15_init_0 : decode cX15_init 0 = .ok (.aload_n 0, 1) := dk_42 (dk_at dksX15_init_0 0 rfl rfl)
theorem dX15_init_1 : decode cX15_init 1 = .ok (.iload_n 1, 1) := dk_27 (dk_at dksX15_init_0 1 rfl rfl)
theorem dX15_init_2 : decode cX15_init 2 = .ok (.iload_n 2, 1) := dk_28 (dk_at dksX15_init_0 2 rfl rfl)
theorem dX15_init_3 : decode cX15_init 3 = .ok (.iload_n 3, 1) := dk_29 (dk_at dksX15_init_0 3 rfl rfl)
theorem dX15_init_4 : decode cX15_init 4 = .ok (.iload 4, 2) := dk_21 4 (dk_at dksX15_init_0 4 rfl rfl)
theorem dX15_init_6 : decode cX15_init 6 = .ok (.iload 5, 2) := dk_21 5 (dk_at dksX15_init_0 6 rfl rfl)
theorem dX15_init_8 : decode cX15_init 8 = .ok (.iload 6, 2) := dk_21 6 (dk_at dksX15_init_0 8 rfl rfl)
theorem dX15_init_10 : decode cX15_init 10 = .ok (.invokespecial 3, 3) := dk_183 0 3 (dk_at dksX15_init_0 10 rfl rfl)
theorem dX15_init_13 : decode cX15_init 13 = .ok (.return_, 1) := dk_177 (dk_at dksX15_init_0 13 rfl rfl)
abbrev cX15_takes : ByteArray := prog_3_method_3_code
def yX15_takes : MethodName := ⟨RX15, "takes", "(I)Z"⟩
def dkwX15_takes_0 : List UInt8 := [27, 5, 160, 0, 7, 4, 167, 0, 4, 3, 172]
abbrev dktX15_takes_0 : List UInt8 := dkwX15_takes_0 ++ []
theorem dksX15_takes_0 : cX15_takes.data.toList.drop 0 = dktX15_takes_0 := by decide +kernel
theorem dX15_takes_0 : decode cX15_takes 0 = .ok (.iload_n 1, 1) := dk_27 (dk_at dksX15_takes_0 0 rfl rfl)
theorem dX15_takes_1 : decode cX15_takes 1 = .ok (.iconst 2, 1) := dk_5 (dk_at dksX15_takes_0 1 rfl rfl)
theorem dX15_takes_2 : decode cX15_takes 2 = .ok (.if_icmp .ne 7, 3) := dk_160 0 7 (dk_at dksX15_takes_0 2 rfl rfl)
theorem dX15_takes_5 : decode cX15_takes 5 = .ok (.iconst 1, 1) := dk_4 (dk_at dksX15_takes_0 5 rfl rfl)
theorem dX15_takes_6 : decode cX15_takes 6 = .ok (.goto 4, 3) := dk_167 0 4 (dk_at dksX15_takes_0 6 rfl rfl)
theorem dX15_takes_9 : decode cX15_takes 9 = .ok (.iconst 0, 1) := dk_3 (dk_at dksX15_takes_0 9 rfl rfl)
theorem dX15_takes_10 : decode cX15_takes 10 = .ok (.ireturn, 1) := dk_172 (dk_at dksX15_takes_0 10 rfl rfl)
abbrev cX15_kind : ByteArray := prog_3_method_2_code
def yX15_kind : MethodName := ⟨RX15, "kind", "()I"⟩
theorem dX15_kind_0 : decode cX15_kind 0 = .ok (.bipush 6, 2) := by decide +kernel
theorem dX15_kind_2 : decode cX15_kind 2 = .ok (.ireturn, 1) := by decide +kernel
theorem q120 : (Jvm.Cond.initialized "ChurchyardBook$Child") ∈ lw_all := lw_g (lw_at lw_m1 34 rfl) rfl
theorem q410 : (Jvm.Cond.selects "ChurchyardBook$Child" ({ cls := "java/lang/Object", name := "getClass", desc := "()Ljava/lang/Class;" } : Jvm.MethodName) ({ cls := "java/lang/Object", name := "getClass", desc := "()Ljava/lang/Class;" } : Jvm.MethodName)) ∈ lw_all := lw_g (lw_at lw_m2 84 rfl) rfl
theorem q586 : (Jvm.Cond.castable "ChurchyardBook$Child" "ChurchyardBook$Takes") ∈ lw_tbl := lw_at lw_m3 20 rfl
theorem q587 : (Jvm.Cond.unhidden "ChurchyardBook$Child" "shunsTrees" "()Z") ∈ lw_tbl := lw_at lw_m3 21 rfl
theorem q826 : (Jvm.Cond.instantiable "ChurchyardBook$Child" (16 : Nat)) ∈ lw_all := lw_g (lw_at lw_m4 20 rfl) rfl
theorem q828 : (Jvm.Cond.instanceMethod ({ cls := "ChurchyardBook$Child", name := "<init>", desc := "(IIIIII)V" } : Jvm.MethodName)) ∈ lw_all := lw_g (lw_at lw_m4 22 rfl) rfl
theorem q829 : (Jvm.Cond.code ({ cls := "ChurchyardBook$Child", name := "<init>", desc := "(IIIIII)V" } : Jvm.MethodName) prog_3_method_1_code (7 : Nat) (Option.none : Option Jvm.ClassFile.FieldType)) ∈ lw_all := lw_g (lw_at lw_m4 23 rfl) rfl
theorem q830 : (Jvm.Cond.methodLink "ChurchyardBook$Child" (3 : Nat) ({ cls := "ChurchyardBook$Single", name := "<init>", desc := "(IIIIII)V" } : Jvm.MethodName)) ∈ lw_all := lw_g (lw_at lw_m4 24 rfl) rfl
theorem q831 : (Jvm.Cond.laysFinal "ChurchyardBook$Child" "ChurchyardBook$Grave" "number" "I") ∈ lw_all := lw_g (lw_at lw_m4 25 rfl) rfl
theorem q832 : (Jvm.Cond.laysFinal "ChurchyardBook$Child" "ChurchyardBook$Grave" "field" "I") ∈ lw_all := lw_g (lw_at lw_m4 26 rfl) rfl
theorem q833 : (Jvm.Cond.laysFinal "ChurchyardBook$Child" "ChurchyardBook$Grave" "row" "I") ∈ lw_all := lw_g (lw_at lw_m4 27 rfl) rfl
theorem q834 : (Jvm.Cond.laysFinal "ChurchyardBook$Child" "ChurchyardBook$Grave" "place" "I") ∈ lw_all := lw_g (lw_at lw_m4 28 rfl) rfl
theorem q835 : (Jvm.Cond.laysFinal "ChurchyardBook$Child" "ChurchyardBook$Grave" "wide" "I") ∈ lw_all := lw_g (lw_at lw_m4 29 rfl) rfl
theorem q836 : (Jvm.Cond.laysFinal "ChurchyardBook$Child" "ChurchyardBook$Grave" "ground" "I") ∈ lw_all := lw_g (lw_at lw_m4 30 rfl) rfl
theorem q837 : (Jvm.Cond.lays "ChurchyardBook$Child" "ChurchyardBook$Grave" "state" "I") ∈ lw_all := lw_g (lw_at lw_m4 31 rfl) rfl
theorem q838 : (Jvm.Cond.lays "ChurchyardBook$Child" "ChurchyardBook$Grave" "holder" "LChurchyardBook$Person;") ∈ lw_all := lw_g (lw_at lw_m4 32 rfl) rfl
theorem q839 : (Jvm.Cond.lays "ChurchyardBook$Child" "ChurchyardBook$Grave" "to" "I") ∈ lw_all := lw_g (lw_at lw_m4 33 rfl) rfl
theorem q840 : (Jvm.Cond.lays "ChurchyardBook$Child" "ChurchyardBook$Grave" "offered" "LChurchyardBook$Person;") ∈ lw_all := lw_g (lw_at lw_m4 34 rfl) rfl
theorem q841 : (Jvm.Cond.lays "ChurchyardBook$Child" "ChurchyardBook$Grave" "date" "I") ∈ lw_all := lw_g (lw_at lw_m4 35 rfl) rfl
theorem q842 : (Jvm.Cond.laysFinal "ChurchyardBook$Child" "ChurchyardBook$Grave" "order" "Ljava/util/ArrayList;") ∈ lw_all := lw_g (lw_at lw_m4 36 rfl) rfl
theorem q843 : (Jvm.Cond.lays "ChurchyardBook$Child" "ChurchyardBook$Grave" "at" "I") ∈ lw_all := lw_g (lw_at lw_m4 37 rfl) rfl
theorem q844 : (Jvm.Cond.lays "ChurchyardBook$Child" "ChurchyardBook$Grave" "told" "[Z") ∈ lw_all := lw_g (lw_at lw_m4 38 rfl) rfl
theorem q845 : (Jvm.Cond.lays "ChurchyardBook$Child" "ChurchyardBook$Grave" "from" "LChurchyardBook$Person;") ∈ lw_all := lw_g (lw_at lw_m4 39 rfl) rfl
theorem q846 : (Jvm.Cond.laysFinal "ChurchyardBook$Child" "ChurchyardBook$Grave" "lying" "Ljava/util/ArrayList;") ∈ lw_all := lw_g (lw_at lw_m4 40 rfl) rfl
theorem q847 : (Jvm.Cond.superclass "ChurchyardBook$Child" "ChurchyardBook$Single") ∈ lw_all := lw_g (lw_at lw_m4 41 rfl) rfl
theorem q960 : (Jvm.Cond.selects "ChurchyardBook$Child" ({ cls := "ChurchyardBook$Grave", name := "needsHolder", desc := "()Z" } : Jvm.MethodName) ({ cls := "ChurchyardBook$Grave", name := "needsHolder", desc := "()Z" } : Jvm.MethodName)) ∈ lw_all := lw_g (lw_at lw_m4 154 rfl) rfl
theorem q972 : (Jvm.Cond.selects "ChurchyardBook$Child" ({ cls := "ChurchyardBook$Grave", name := "hold", desc := "(LChurchyardBook$Person;)V" } : Jvm.MethodName) ({ cls := "ChurchyardBook$Grave", name := "hold", desc := "(LChurchyardBook$Person;)V" } : Jvm.MethodName)) ∈ lw_all := lw_g (lw_at lw_m4 166 rfl) rfl
theorem q986 : (Jvm.Cond.selects "ChurchyardBook$Child" ({ cls := "ChurchyardBook$Grave", name := "yearly", desc := "()I" } : Jvm.MethodName) ({ cls := "ChurchyardBook$Grave", name := "yearly", desc := "()I" } : Jvm.MethodName)) ∈ lw_all := lw_g (lw_at lw_m4 180 rfl) rfl
theorem q1041 : (Jvm.Cond.selects "ChurchyardBook$Child" ({ cls := "java/lang/Object", name := "equals", desc := "(Ljava/lang/Object;)Z" } : Jvm.MethodName) ({ cls := "java/lang/Object", name := "equals", desc := "(Ljava/lang/Object;)Z" } : Jvm.MethodName)) ∈ lw_all := lw_g (lw_at lw_m4 235 rfl) rfl
theorem q1081 : (Jvm.Cond.selects "ChurchyardBook$Child" ({ cls := "ChurchyardBook$Grave", name := "passOn", desc := "(I)V" } : Jvm.MethodName) ({ cls := "ChurchyardBook$Grave", name := "passOn", desc := "(I)V" } : Jvm.MethodName)) ∈ lw_all := lw_g (lw_at lw_m5 35 rfl) rfl
theorem q1117 : (Jvm.Cond.unhidden "ChurchyardBook$Child" "years" "(I)I") ∈ lw_tbl := lw_at lw_m5 71 rfl
theorem q1130 : (Jvm.Cond.castable "ChurchyardBook$Child" "ChurchyardBook$Rests") ∈ lw_tbl := lw_at lw_m5 84 rfl
theorem q1131 : (Jvm.Cond.selects "ChurchyardBook$Child" ({ cls := "ChurchyardBook$Rests", name := "ground", desc := "()I" } : Jvm.MethodName) ({ cls := "ChurchyardBook$Grave", name := "ground", desc := "()I" } : Jvm.MethodName)) ∈ lw_all := lw_g (lw_at lw_m5 85 rfl) rfl
theorem q1132 : (Jvm.Cond.unhidden "ChurchyardBook$Child" "ground" "()I") ∈ lw_tbl := lw_at lw_m5 86 rfl
theorem q1158 : (Jvm.Cond.selects "ChurchyardBook$Child" ({ cls := "ChurchyardBook$Grave", name := "isColumn", desc := "(I)Z" } : Jvm.MethodName) ({ cls := "ChurchyardBook$Grave", name := "isColumn", desc := "(I)Z" } : Jvm.MethodName)) ∈ lw_all := lw_g (lw_at lw_m5 112 rfl) rfl
theorem q1168 : (Jvm.Cond.selects "ChurchyardBook$Child" ({ cls := "ChurchyardBook$Grave", name := "columns", desc := "()I" } : Jvm.MethodName) ({ cls := "ChurchyardBook$Grave", name := "columns", desc := "()I" } : Jvm.MethodName)) ∈ lw_all := lw_g (lw_at lw_m5 122 rfl) rfl
theorem q1182 : (Jvm.Cond.selects "ChurchyardBook$Child" ({ cls := "ChurchyardBook$Takes", name := "takes", desc := "(I)Z" } : Jvm.MethodName) ({ cls := "ChurchyardBook$Child", name := "takes", desc := "(I)Z" } : Jvm.MethodName)) ∈ lw_all := lw_g (lw_at lw_m5 136 rfl) rfl
theorem q1183 : (Jvm.Cond.instanceMethod ({ cls := "ChurchyardBook$Child", name := "takes", desc := "(I)Z" } : Jvm.MethodName)) ∈ lw_all := lw_g (lw_at lw_m5 137 rfl) rfl
theorem q1184 : (Jvm.Cond.code ({ cls := "ChurchyardBook$Child", name := "takes", desc := "(I)Z" } : Jvm.MethodName) prog_3_method_3_code (2 : Nat) (Option.some Jvm.ClassFile.FieldType.boolean)) ∈ lw_all := lw_g (lw_at lw_m5 138 rfl) rfl
theorem q1197 : (Jvm.Cond.selects "ChurchyardBook$Child" ({ cls := "ChurchyardBook$Grave", name := "room", desc := "(II)I" } : Jvm.MethodName) ({ cls := "ChurchyardBook$Single", name := "room", desc := "(II)I" } : Jvm.MethodName)) ∈ lw_all := lw_g (lw_at lw_m5 151 rfl) rfl
theorem q1203 : (Jvm.Cond.selects "ChurchyardBook$Child" ({ cls := "ChurchyardBook$Single", name := "isOpen", desc := "(III)Z" } : Jvm.MethodName) ({ cls := "ChurchyardBook$Grave", name := "isOpen", desc := "(III)Z" } : Jvm.MethodName)) ∈ lw_all := lw_g (lw_at lw_m5 157 rfl) rfl
theorem q1214 : (Jvm.Cond.selects "ChurchyardBook$Child" ({ cls := "ChurchyardBook$Grave", name := "in", desc := "(II)LChurchyardBook$Person;" } : Jvm.MethodName) ({ cls := "ChurchyardBook$Grave", name := "in", desc := "(II)LChurchyardBook$Person;" } : Jvm.MethodName)) ∈ lw_all := lw_g (lw_at lw_m5 168 rfl) rfl
theorem q1250 : (Jvm.Cond.selects "ChurchyardBook$Child" ({ cls := "ChurchyardBook$Grave", name := "isAgreed", desc := "(LChurchyardBook$Person;)Z" } : Jvm.MethodName) ({ cls := "ChurchyardBook$Grave", name := "isAgreed", desc := "(LChurchyardBook$Person;)Z" } : Jvm.MethodName)) ∈ lw_all := lw_g (lw_at lw_m5 204 rfl) rfl
theorem q1259 : (Jvm.Cond.unhidden "ChurchyardBook$Child" "lacks" "(I)I") ∈ lw_tbl := lw_at lw_m5 213 rfl
theorem q1272 : (Jvm.Cond.castable "ChurchyardBook$Child" "ChurchyardBook$Ends") ∈ lw_tbl := lw_at lw_m5 226 rfl
theorem q1273 : (Jvm.Cond.selects "ChurchyardBook$Child" ({ cls := "ChurchyardBook$Ends", name := "to", desc := "()I" } : Jvm.MethodName) ({ cls := "ChurchyardBook$Grave", name := "to", desc := "()I" } : Jvm.MethodName)) ∈ lw_all := lw_g (lw_at lw_m5 227 rfl) rfl
theorem q1274 : (Jvm.Cond.unhidden "ChurchyardBook$Child" "to" "()I") ∈ lw_tbl := lw_at lw_m5 228 rfl
theorem q1300 : (Jvm.Cond.selects "ChurchyardBook$Child" ({ cls := "ChurchyardBook$Grave", name := "put", desc := "(LChurchyardBook$Person;III)V" } : Jvm.MethodName) ({ cls := "ChurchyardBook$Grave", name := "put", desc := "(LChurchyardBook$Person;III)V" } : Jvm.MethodName)) ∈ lw_all := lw_g (lw_at lw_m6 14 rfl) rfl
theorem q1342 : (Jvm.Cond.selects "ChurchyardBook$Child" ({ cls := "ChurchyardBook$Grave", name := "take", desc := "(LChurchyardBook$Person;)V" } : Jvm.MethodName) ({ cls := "ChurchyardBook$Grave", name := "take", desc := "(LChurchyardBook$Person;)V" } : Jvm.MethodName)) ∈ lw_all := lw_g (lw_at lw_m6 56 rfl) rfl
theorem q1364 : (Jvm.Cond.selects "ChurchyardBook$Child" ({ cls := "ChurchyardBook$Grave", name := "hasRest", desc := "(I)Z" } : Jvm.MethodName) ({ cls := "ChurchyardBook$Grave", name := "hasRest", desc := "(I)Z" } : Jvm.MethodName)) ∈ lw_all := lw_g (lw_at lw_m6 78 rfl) rfl
theorem q1374 : (Jvm.Cond.selects "ChurchyardBook$Child" ({ cls := "ChurchyardBook$Grave", name := "kind", desc := "()I" } : Jvm.MethodName) ({ cls := "ChurchyardBook$Child", name := "kind", desc := "()I" } : Jvm.MethodName)) ∈ lw_all := lw_g (lw_at lw_m6 88 rfl) rfl
theorem q1375 : (Jvm.Cond.instanceMethod ({ cls := "ChurchyardBook$Child", name := "kind", desc := "()I" } : Jvm.MethodName)) ∈ lw_all := lw_g (lw_at lw_m6 89 rfl) rfl
theorem q1376 : (Jvm.Cond.code ({ cls := "ChurchyardBook$Child", name := "kind", desc := "()I" } : Jvm.MethodName) prog_3_method_2_code (1 : Nat) (Option.some Jvm.ClassFile.FieldType.int)) ∈ lw_all := lw_g (lw_at lw_m6 90 rfl) rfl
theorem q1415 : (Jvm.Cond.selects "ChurchyardBook$Child" ({ cls := "ChurchyardBook$Grave", name := "turn", desc := "(I)V" } : Jvm.MethodName) ({ cls := "ChurchyardBook$Grave", name := "turn", desc := "(I)V" } : Jvm.MethodName)) ∈ lw_all := lw_g (lw_at lw_m6 129 rfl) rfl
theorem q1425 : (Jvm.Cond.selects "ChurchyardBook$Child" ({ cls := "ChurchyardBook$Grave", name := "falls", desc := "()V" } : Jvm.MethodName) ({ cls := "ChurchyardBook$Grave", name := "falls", desc := "()V" } : Jvm.MethodName)) ∈ lw_all := lw_g (lw_at lw_m6 139 rfl) rfl
theorem q1534 : (Jvm.Cond.selects "ChurchyardBook$Child" ({ cls := "ChurchyardBook$Grave", name := "plan", desc := "(III)I" } : Jvm.MethodName) ({ cls := "ChurchyardBook$Single", name := "plan", desc := "(III)I" } : Jvm.MethodName)) ∈ lw_all := lw_g (lw_at lw_m7 8 rfl) rfl
theorem q1541 : (Jvm.Cond.selects "ChurchyardBook$Child" ({ cls := "ChurchyardBook$Single", name := "opens", desc := "(III)I" } : Jvm.MethodName) ({ cls := "ChurchyardBook$Single", name := "opens", desc := "(III)I" } : Jvm.MethodName)) ∈ lw_all := lw_g (lw_at lw_m7 15 rfl) rfl
theorem q1549 : (Jvm.Cond.selects "ChurchyardBook$Child" ({ cls := "ChurchyardBook$Single", name := "in", desc := "(II)LChurchyardBook$Person;" } : Jvm.MethodName) ({ cls := "ChurchyardBook$Grave", name := "in", desc := "(II)LChurchyardBook$Person;" } : Jvm.MethodName)) ∈ lw_all := lw_g (lw_at lw_m7 23 rfl) rfl
theorem q1620 : (Jvm.Cond.selects "ChurchyardBook$Child" ({ cls := "ChurchyardBook$Place", name := "what", desc := "()I" } : Jvm.MethodName) ({ cls := "ChurchyardBook$Grave", name := "what", desc := "()I" } : Jvm.MethodName)) ∈ lw_all := lw_g (lw_at lw_m7 94 rfl) rfl
theorem q1692 : (Jvm.Cond.selects "ChurchyardBook$Child" ({ cls := "ChurchyardBook$Grave", name := "greatestEnd", desc := "()I" } : Jvm.MethodName) ({ cls := "ChurchyardBook$Grave", name := "greatestEnd", desc := "()I" } : Jvm.MethodName)) ∈ lw_all := lw_g (lw_at lw_m7 166 rfl) rfl
theorem q2248 : (Jvm.Cond.castable "ChurchyardBook$Child" "ChurchyardBook$Grave") ∈ lw_tbl := lw_at lw_m10 2 rfl
theorem q2276 : (Jvm.Cond.castable "ChurchyardBook$Child" "java/lang/Object") ∈ lw_tbl := lw_at lw_m10 30 rfl
theorem q2289 : (Jvm.Cond.castable "ChurchyardBook$Child" "ChurchyardBook$Place") ∈ lw_tbl := lw_at lw_m10 43 rfl
theorem in_X15 : ∀ w ∈ wsX150, w ∈ lw_all := lw_in wsX150 [831, 832, 833, 834, 835, 836, 837, 838, 839, 840, 841, 842, 843, 844, 845, 846] (by decide +kernel) (by decide +kernel)

/-! ChurchyardBook$Person -/
set_option maxRecDepth 100000
def RX16 : String := "ChurchyardBook$Person"
def TX16 : u_T := fun k => match k with
  | 0 => ("ChurchyardBook$Person", "number", "I", true)
  | 1 => ("ChurchyardBook$Person", "born", "I", true)
  | 2 => ("ChurchyardBook$Person", "isDead", "Z", false)
  | 3 => ("ChurchyardBook$Person", "isGone", "Z", false)
  | 4 => ("ChurchyardBook$Person", "wed", "LChurchyardBook$Person;", false)
  | 5 => ("ChurchyardBook$Person", "first", "LChurchyardBook$Person;", false)
  | 6 => ("ChurchyardBook$Person", "second", "LChurchyardBook$Person;", false)
  | 7 => ("ChurchyardBook$Person", "heir", "LChurchyardBook$Person;", false)
  | 8 => ("ChurchyardBook$Person", "kind", "I", false)
  | 9 => ("ChurchyardBook$Person", "end", "I", false)
  | 10 => ("ChurchyardBook$Person", "grave", "LChurchyardBook$Grave;", false)
  | 11 => ("ChurchyardBook$Person", "column", "I", false)
  | 12 => ("ChurchyardBook$Person", "depth", "I", false)
  | _ => ("ChurchyardBook$Person", "stays", "Ljava/util/ArrayList;", true)
def tyX16 : Nat → FieldType := fun k => match k with
  | 0 => .int
  | 1 => .int
  | 2 => .boolean
  | 3 => .boolean
  | 4 => .object "ChurchyardBook$Person"
  | 5 => .object "ChurchyardBook$Person"
  | 6 => .object "ChurchyardBook$Person"
  | 7 => .object "ChurchyardBook$Person"
  | 8 => .int
  | 9 => .int
  | 10 => .object "ChurchyardBook$Grave"
  | 11 => .int
  | 12 => .int
  | _ => .object "java/util/ArrayList"
abbrev wsX160 : List Cond := u_ws RX16 TX16 14
set_option maxRecDepth 100000 in
theorem nmX16 : ∀ a, a < 14 → ∀ b, b < 14 → a ≠ b → (TX16 a).2.1 ≠ (TX16 b).2.1 := by decide +kernel
set_option maxRecDepth 100000 in
theorem tyX16_ok : ∀ k, k < 14 → parseFieldDescriptor (TX16 k).2.2.1 = some (tyX16 k) := by decide +kernel
abbrev cX16_init : ByteArray := prog_10_method_1_code
def yX16_init : MethodName := ⟨RX16, "<init>", "(II)V"⟩
def dkwX16_init_1 : List UInt8 := [181, 0, 24, 42, 28, 181, 0, 27, 177]
abbrev dktX16_init_1 : List UInt8 := dkwX16_init_1 ++ []
def dkwX16_init_0 : List UInt8 := [42, 183, 0, 3, 42, 2, 181, 0, 9, 42, 187, 0, 15, 89, 4, 183, 0, 17, 181, 0, 20, 42, 27]
abbrev dktX16_init_0 : List UInt8 := dkwX16_init_0 ++ dktX16_init_1
theorem dksX16_init_0 : cX16_init.data.toList.drop 0 = dktX16_init_0 := by decide +kernel
theorem dksX16_init_1 : cX16_init.data.toList.drop 23 = dktX16_init_1 := dk_seg dksX16_init_0 23 rfl rfl
theorem dX16_init_0 : decode cX16_init 0 = .ok (.aload_n 0, 1) := dk_42 (dk_at dksX16_init_0 0 rfl rfl)
theorem dX16_init_1 : decode cX16_init 1 = .ok (.invokespecial 3, 3) := dk_183 0 3 (dk_at dksX16_init_0 1 rfl rfl)
theorem dX16_init_4 : decode cX16_init 4 = .ok (.aload_n 0, 1) := dk_42 (dk_at dksX16_init_0 4 rfl rfl)
theorem dX16_init_5 : decode cX16_init 5 = .ok (.iconst (-1), 1) := dk_2 (dk_at dksX16_init_0 5 rfl rfl)
theorem dX16_init_6 : decode cX16_init 6 = .ok (.putfield 9, 3) := dk_181 0 9 (dk_at dksX16_init_0 6 rfl rfl)
theorem dX16_init_9 : decode cX16_init 9 = .ok (.aload_n 0, 1) := dk_42 (dk_at dksX16_init_0 9 rfl rfl)
theorem dX16_init_10 : decode cX16_init 10 = .ok (.new 15, 3) := dk_187 0 15 (dk_at dksX16_init_0 10 rfl rfl)
theorem dX16_init_13 : decode cX16_init 13 = .ok (.dup, 1) := dk_89 (dk_at dksX16_init_0 13 rfl rfl)
theorem dX16_init_14 : decode cX16_init 14 = .ok (.iconst 1, 1) := dk_4 (dk_at dksX16_init_0 14 rfl rfl)
theorem dX16_init_15 : decode cX16_init 15 = .ok (.invokespecial 17, 3) := dk_183 0 17 (dk_at dksX16_init_0 15 rfl rfl)
theorem dX16_init_18 : decode cX16_init 18 = .ok (.putfield 20, 3) := dk_181 0 20 (dk_at dksX16_init_0 18 rfl rfl)
theorem dX16_init_21 : decode cX16_init 21 = .ok (.aload_n 0, 1) := dk_42 (dk_at dksX16_init_0 21 rfl rfl)
theorem dX16_init_22 : decode cX16_init 22 = .ok (.iload_n 1, 1) := dk_27 (dk_at dksX16_init_0 22 rfl rfl)
theorem dX16_init_23 : decode cX16_init 23 = .ok (.putfield 24, 3) := dk_181 0 24 (dk_at dksX16_init_1 0 rfl rfl)
theorem dX16_init_26 : decode cX16_init 26 = .ok (.aload_n 0, 1) := dk_42 (dk_at dksX16_init_1 3 rfl rfl)
theorem dX16_init_27 : decode cX16_init 27 = .ok (.iload_n 2, 1) := dk_28 (dk_at dksX16_init_1 4 rfl rfl)
theorem dX16_init_28 : decode cX16_init 28 = .ok (.putfield 27, 3) := dk_181 0 27 (dk_at dksX16_init_1 5 rfl rfl)
theorem dX16_init_31 : decode cX16_init 31 = .ok (.return_, 1) := dk_177 (dk_at dksX16_init_1 8 rfl rfl)
abbrev cX16_isParentOf : ByteArray := prog_10_method_2_code
def yX16_isParentOf : MethodName := ⟨RX16, "isParentOf", "(LChurchyardBook$Person;)Z"⟩
def dkwX16_isParentOf_0 : List UInt8 := [43, 180, 0, 30, 42, 165, 0, 11, 43, 180, 0, 34, 42, 166, 0, 7, 4, 167, 0, 4, 3, 172]
abbrev dktX16_isParentOf_0 : List UInt8 := dkwX16_isParentOf_0 ++ []
theorem dksX16_isParentOf_0 : cX16_isParentOf.data.toList.drop 0 = dktX16_isParentOf_0 := by decide +kernel
theorem dX16_isParentOf_0 : decode cX16_isParentOf 0 = .ok (.aload_n 1, 1) := dk_43 (dk_at dksX16_isParentOf_0 0 rfl rfl)
theorem dX16_isParentOf_1 : decode cX16_isParentOf 1 = .ok (.getfield 30, 3) := dk_180 0 30 (dk_at dksX16_isParentOf_0 1 rfl rfl)
theorem dX16_isParentOf_4 : decode cX16_isParentOf 4 = .ok (.aload_n 0, 1) := dk_42 (dk_at dksX16_isParentOf_0 4 rfl rfl)
theorem dX16_isParentOf_5 : decode cX16_isParentOf 5 = .ok (.if_acmp .eq 11, 3) := dk_165 0 11 (dk_at dksX16_isParentOf_0 5 rfl rfl)
theorem dX16_isParentOf_8 : decode cX16_isParentOf 8 = .ok (.aload_n 1, 1) := dk_43 (dk_at dksX16_isParentOf_0 8 rfl rfl)
theorem dX16_isParentOf_9 : decode cX16_isParentOf 9 = .ok (.getfield 34, 3) := dk_180 0 34 (dk_at dksX16_isParentOf_0 9 rfl rfl)
theorem dX16_isParentOf_12 : decode cX16_isParentOf 12 = .ok (.aload_n 0, 1) := dk_42 (dk_at dksX16_isParentOf_0 12 rfl rfl)
theorem dX16_isParentOf_13 : decode cX16_isParentOf 13 = .ok (.if_acmp .ne 7, 3) := dk_166 0 7 (dk_at dksX16_isParentOf_0 13 rfl rfl)
theorem dX16_isParentOf_16 : decode cX16_isParentOf 16 = .ok (.iconst 1, 1) := dk_4 (dk_at dksX16_isParentOf_0 16 rfl rfl)
theorem dX16_isParentOf_17 : decode cX16_isParentOf 17 = .ok (.goto 4, 3) := dk_167 0 4 (dk_at dksX16_isParentOf_0 17 rfl rfl)
theorem dX16_isParentOf_20 : decode cX16_isParentOf 20 = .ok (.iconst 0, 1) := dk_3 (dk_at dksX16_isParentOf_0 20 rfl rfl)
theorem dX16_isParentOf_21 : decode cX16_isParentOf 21 = .ok (.ireturn, 1) := dk_172 (dk_at dksX16_isParentOf_0 21 rfl rfl)
abbrev cX16_isSiblingOf : ByteArray := prog_10_method_3_code
def yX16_isSiblingOf : MethodName := ⟨RX16, "isSiblingOf", "(LChurchyardBook$Person;)Z"⟩
def dkwX16_isSiblingOf_1 : List UInt8 := [180, 0, 34, 198, 0, 18, 42, 180, 0, 34, 43, 182, 0, 37, 153, 0, 7, 4, 167, 0, 4, 3, 172]
abbrev dktX16_isSiblingOf_1 : List UInt8 := dkwX16_isSiblingOf_1 ++ []
def dkwX16_isSiblingOf_0 : List UInt8 := [43, 42, 165, 0, 43, 42, 180, 0, 30, 198, 0, 14, 42, 180, 0, 30, 43, 182, 0, 37, 154, 0, 21, 42]
abbrev dktX16_isSiblingOf_0 : List UInt8 := dkwX16_isSiblingOf_0 ++ dktX16_isSiblingOf_1
theorem dksX16_isSiblingOf_0 : cX16_isSiblingOf.data.toList.drop 0 = dktX16_isSiblingOf_0 := by decide +kernel
theorem dksX16_isSiblingOf_1 : cX16_isSiblingOf.data.toList.drop 24 = dktX16_isSiblingOf_1 := dk_seg dksX16_isSiblingOf_0 24 rfl rfl
theorem dX16_isSiblingOf_0 : decode cX16_isSiblingOf 0 = .ok (.aload_n 1, 1) := dk_43 (dk_at dksX16_isSiblingOf_0 0 rfl rfl)
theorem dX16_isSiblingOf_1 : decode cX16_isSiblingOf 1 = .ok (.aload_n 0, 1) := dk_42 (dk_at dksX16_isSiblingOf_0 1 rfl rfl)
theorem dX16_isSiblingOf_2 : decode cX16_isSiblingOf 2 = .ok (.if_acmp .eq 43, 3) := dk_165 0 43 (dk_at dksX16_isSiblingOf_0 2 rfl rfl)
theorem dX16_isSiblingOf_5 : decode cX16_isSiblingOf 5 = .ok (.aload_n 0, 1) := dk_42 (dk_at dksX16_isSiblingOf_0 5 rfl rfl)
theorem dX16_isSiblingOf_6 : decode cX16_isSiblingOf 6 = .ok (.getfield 30, 3) := dk_180 0 30 (dk_at dksX16_isSiblingOf_0 6 rfl rfl)
theorem dX16_isSiblingOf_9 : decode cX16_isSiblingOf 9 = .ok (.ifnull 14, 3) := dk_198 0 14 (dk_at dksX16_isSiblingOf_0 9 rfl rfl)
theorem dX16_isSiblingOf_12 : decode cX16_isSiblingOf 12 = .ok (.aload_n 0, 1) := dk_42 (dk_at dksX16_isSiblingOf_0 12 rfl rfl)
theorem dX16_isSiblingOf_13 : decode cX16_isSiblingOf 13 = .ok (.getfield 30, 3) := dk_180 0 30 (dk_at dksX16_isSiblingOf_0 13 rfl rfl)
theorem dX16_isSiblingOf_16 : decode cX16_isSiblingOf 16 = .ok (.aload_n 1, 1) := dk_43 (dk_at dksX16_isSiblingOf_0 16 rfl rfl)
theorem dX16_isSiblingOf_17 : decode cX16_isSiblingOf 17 = .ok (.invokevirtual 37, 3) := dk_182 0 37 (dk_at dksX16_isSiblingOf_0 17 rfl rfl)
theorem dX16_isSiblingOf_20 : decode cX16_isSiblingOf 20 = .ok (.ifCond .ne 21, 3) := dk_154 0 21 (dk_at dksX16_isSiblingOf_0 20 rfl rfl)
theorem dX16_isSiblingOf_23 : decode cX16_isSiblingOf 23 = .ok (.aload_n 0, 1) := dk_42 (dk_at dksX16_isSiblingOf_0 23 rfl rfl)
theorem dX16_isSiblingOf_24 : decode cX16_isSiblingOf 24 = .ok (.getfield 34, 3) := dk_180 0 34 (dk_at dksX16_isSiblingOf_1 0 rfl rfl)
theorem dX16_isSiblingOf_27 : decode cX16_isSiblingOf 27 = .ok (.ifnull 18, 3) := dk_198 0 18 (dk_at dksX16_isSiblingOf_1 3 rfl rfl)
theorem dX16_isSiblingOf_30 : decode cX16_isSiblingOf 30 = .ok (.aload_n 0, 1) := dk_42 (dk_at dksX16_isSiblingOf_1 6 rfl rfl)
theorem dX16_isSiblingOf_31 : decode cX16_isSiblingOf 31 = .ok (.getfield 34, 3) := dk_180 0 34 (dk_at dksX16_isSiblingOf_1 7 rfl rfl)
theorem dX16_isSiblingOf_34 : decode cX16_isSiblingOf 34 = .ok (.aload_n 1, 1) := dk_43 (dk_at dksX16_isSiblingOf_1 10 rfl rfl)
theorem dX16_isSiblingOf_35 : decode cX16_isSiblingOf 35 = .ok (.invokevirtual 37, 3) := dk_182 0 37 (dk_at dksX16_isSiblingOf_1 11 rfl rfl)
theorem dX16_isSiblingOf_38 : decode cX16_isSiblingOf 38 = .ok (.ifCond .eq 7, 3) := dk_153 0 7 (dk_at dksX16_isSiblingOf_1 14 rfl rfl)
theorem dX16_isSiblingOf_41 : decode cX16_isSiblingOf 41 = .ok (.iconst 1, 1) := dk_4 (dk_at dksX16_isSiblingOf_1 17 rfl rfl)
theorem dX16_isSiblingOf_42 : decode cX16_isSiblingOf 42 = .ok (.goto 4, 3) := dk_167 0 4 (dk_at dksX16_isSiblingOf_1 18 rfl rfl)
theorem dX16_isSiblingOf_45 : decode cX16_isSiblingOf 45 = .ok (.iconst 0, 1) := dk_3 (dk_at dksX16_isSiblingOf_1 21 rfl rfl)
theorem dX16_isSiblingOf_46 : decode cX16_isSiblingOf 46 = .ok (.ireturn, 1) := dk_172 (dk_at dksX16_isSiblingOf_1 22 rfl rfl)
abbrev cX16_rests : ByteArray := prog_10_method_4_code
def yX16_rests : MethodName := ⟨RX16, "rests", "(I)Z"⟩
def dkwX16_rests_0 : List UInt8 := [42, 180, 0, 41, 198, 0, 15, 27, 42, 180, 0, 45, 162, 0, 7, 4, 167, 0, 4, 3, 172]
abbrev dktX16_rests_0 : List UInt8 := dkwX16_rests_0 ++ []
theorem dksX16_rests_0 : cX16_rests.data.toList.drop 0 = dktX16_rests_0 := by decide +kernel
theorem dX16_rests_0 : decode cX16_rests 0 = .ok (.aload_n 0, 1) := dk_42 (dk_at dksX16_rests_0 0 rfl rfl)
theorem dX16_rests_1 : decode cX16_rests 1 = .ok (.getfield 41, 3) := dk_180 0 41 (dk_at dksX16_rests_0 1 rfl rfl)
theorem dX16_rests_4 : decode cX16_rests 4 = .ok (.ifnull 15, 3) := dk_198 0 15 (dk_at dksX16_rests_0 4 rfl rfl)
theorem dX16_rests_7 : decode cX16_rests 7 = .ok (.iload_n 1, 1) := dk_27 (dk_at dksX16_rests_0 7 rfl rfl)
theorem dX16_rests_8 : decode cX16_rests 8 = .ok (.aload_n 0, 1) := dk_42 (dk_at dksX16_rests_0 8 rfl rfl)
theorem dX16_rests_9 : decode cX16_rests 9 = .ok (.getfield 45, 3) := dk_180 0 45 (dk_at dksX16_rests_0 9 rfl rfl)
theorem dX16_rests_12 : decode cX16_rests 12 = .ok (.if_icmp .ge 7, 3) := dk_162 0 7 (dk_at dksX16_rests_0 12 rfl rfl)
theorem dX16_rests_15 : decode cX16_rests 15 = .ok (.iconst 1, 1) := dk_4 (dk_at dksX16_rests_0 15 rfl rfl)
theorem dX16_rests_16 : decode cX16_rests 16 = .ok (.goto 4, 3) := dk_167 0 4 (dk_at dksX16_rests_0 16 rfl rfl)
theorem dX16_rests_19 : decode cX16_rests 19 = .ok (.iconst 0, 1) := dk_3 (dk_at dksX16_rests_0 19 rfl rfl)
theorem dX16_rests_20 : decode cX16_rests 20 = .ok (.ireturn, 1) := dk_172 (dk_at dksX16_rests_0 20 rfl rfl)
abbrev cX16_lies : ByteArray := prog_10_method_5_code
def yX16_lies : MethodName := ⟨RX16, "lies", "(ILChurchyardBook$Grave;II)V"⟩
def dkwX16_lies_1 : List UInt8 := [187, 0, 54, 89, 27, 44, 183, 0, 56, 182, 0, 59, 87, 177]
abbrev dktX16_lies_1 : List UInt8 := dkwX16_lies_1 ++ []
def dkwX16_lies_0 : List UInt8 := [42, 44, 181, 0, 41, 44, 198, 0, 14, 42, 29, 181, 0, 48, 42, 21, 4, 181, 0, 51, 42, 180, 0, 20]
abbrev dktX16_lies_0 : List UInt8 := dkwX16_lies_0 ++ dktX16_lies_1
theorem dksX16_lies_0 : cX16_lies.data.toList.drop 0 = dktX16_lies_0 := by decide +kernel
theorem dksX16_lies_1 : cX16_lies.data.toList.drop 24 = dktX16_lies_1 := dk_seg dksX16_lies_0 24 rfl rfl
theorem dX16_lies_0 : decode cX16_lies 0 = .ok (.aload_n 0, 1) := dk_42 (dk_at dksX16_lies_0 0 rfl rfl)
theorem dX16_lies_1 : decode cX16_lies 1 = .ok (.aload_n 2, 1) := dk_44 (dk_at dksX16_lies_0 1 rfl rfl)
theorem dX16_lies_2 : decode cX16_lies 2 = .ok (.putfield 41, 3) := dk_181 0 41 (dk_at dksX16_lies_0 2 rfl rfl)
theorem dX16_lies_5 : decode cX16_lies 5 = .ok (.aload_n 2, 1) := dk_44 (dk_at dksX16_lies_0 5 rfl rfl)
theorem dX16_lies_6 : decode cX16_lies 6 = .ok (.ifnull 14, 3) := dk_198 0 14 (dk_at dksX16_lies_0 6 rfl rfl)
theorem dX16_lies_9 : decode cX16_lies 9 = .ok (.aload_n 0, 1) := dk_42 (dk_at dksX16_lies_0 9 rfl rfl)
theorem dX16_lies_10 : decode cX16_lies 10 = .ok (.iload_n 3, 1) := dk_29 (dk_at dksX16_lies_0 10 rfl rfl)
theorem dX16_lies_11 : decode cX16_lies 11 = .ok (.putfield 48, 3) := dk_181 0 48 (dk_at dksX16_lies_0 11 rfl rfl)
theorem dX16_lies_14 : decode cX16_lies 14 = .ok (.aload_n 0, 1) := dk_42 (dk_at dksX16_lies_0 14 rfl rfl)
theorem dX16_lies_15 : decode cX16_lies 15 = .ok (.iload 4, 2) := dk_21 4 (dk_at dksX16_lies_0 15 rfl rfl)
theorem dX16_lies_17 : decode cX16_lies 17 = .ok (.putfield 51, 3) := dk_181 0 51 (dk_at dksX16_lies_0 17 rfl rfl)
theorem dX16_lies_20 : decode cX16_lies 20 = .ok (.aload_n 0, 1) := dk_42 (dk_at dksX16_lies_0 20 rfl rfl)
theorem dX16_lies_21 : decode cX16_lies 21 = .ok (.getfield 20, 3) := dk_180 0 20 (dk_at dksX16_lies_0 21 rfl rfl)
theorem dX16_lies_24 : decode cX16_lies 24 = .ok (.new 54, 3) := dk_187 0 54 (dk_at dksX16_lies_1 0 rfl rfl)
theorem dX16_lies_27 : decode cX16_lies 27 = .ok (.dup, 1) := dk_89 (dk_at dksX16_lies_1 3 rfl rfl)
theorem dX16_lies_28 : decode cX16_lies 28 = .ok (.iload_n 1, 1) := dk_27 (dk_at dksX16_lies_1 4 rfl rfl)
theorem dX16_lies_29 : decode cX16_lies 29 = .ok (.aload_n 2, 1) := dk_44 (dk_at dksX16_lies_1 5 rfl rfl)
theorem dX16_lies_30 : decode cX16_lies 30 = .ok (.invokespecial 56, 3) := dk_183 0 56 (dk_at dksX16_lies_1 6 rfl rfl)
theorem dX16_lies_33 : decode cX16_lies 33 = .ok (.invokevirtual 59, 3) := dk_182 0 59 (dk_at dksX16_lies_1 9 rfl rfl)
theorem dX16_lies_36 : decode cX16_lies 36 = .ok (.pop, 1) := dk_87 (dk_at dksX16_lies_1 12 rfl rfl)
theorem dX16_lies_37 : decode cX16_lies 37 = .ok (.return_, 1) := dk_177 (dk_at dksX16_lies_1 13 rfl rfl)
theorem q121 : (Jvm.Cond.initialized "ChurchyardBook$Person") ∈ lw_all := lw_g (lw_at lw_m1 35 rfl) rfl
theorem q415 : (Jvm.Cond.selects "ChurchyardBook$Person" ({ cls := "java/lang/Object", name := "getClass", desc := "()Ljava/lang/Class;" } : Jvm.MethodName) ({ cls := "java/lang/Object", name := "getClass", desc := "()Ljava/lang/Class;" } : Jvm.MethodName)) ∈ lw_all := lw_g (lw_at lw_m2 89 rfl) rfl
theorem q854 : (Jvm.Cond.instantiable "ChurchyardBook$Person" (14 : Nat)) ∈ lw_all := lw_g (lw_at lw_m4 48 rfl) rfl
theorem q856 : (Jvm.Cond.instanceMethod ({ cls := "ChurchyardBook$Person", name := "<init>", desc := "(II)V" } : Jvm.MethodName)) ∈ lw_all := lw_g (lw_at lw_m4 50 rfl) rfl
theorem q857 : (Jvm.Cond.code ({ cls := "ChurchyardBook$Person", name := "<init>", desc := "(II)V" } : Jvm.MethodName) prog_10_method_1_code (3 : Nat) (Option.none : Option Jvm.ClassFile.FieldType)) ∈ lw_all := lw_g (lw_at lw_m4 51 rfl) rfl
theorem q858 : (Jvm.Cond.methodLink "ChurchyardBook$Person" (3 : Nat) ({ cls := "java/lang/Object", name := "<init>", desc := "()V" } : Jvm.MethodName)) ∈ lw_all := lw_g (lw_at lw_m4 52 rfl) rfl
theorem q859 : (Jvm.Cond.classLink "ChurchyardBook$Person" (15 : Nat) "java/util/ArrayList") ∈ lw_all := lw_g (lw_at lw_m4 53 rfl) rfl
theorem q860 : (Jvm.Cond.methodLink "ChurchyardBook$Person" (17 : Nat) ({ cls := "java/util/ArrayList", name := "<init>", desc := "(I)V" } : Jvm.MethodName)) ∈ lw_all := lw_g (lw_at lw_m4 54 rfl) rfl
theorem q861 : (Jvm.Cond.fieldLink "ChurchyardBook$Person" (24 : Nat) "ChurchyardBook$Person" "number" "I") ∈ lw_all := lw_g (lw_at lw_m4 55 rfl) rfl
theorem q865 : (Jvm.Cond.fieldLink "ChurchyardBook$Person" (27 : Nat) "ChurchyardBook$Person" "born" "I") ∈ lw_all := lw_g (lw_at lw_m4 59 rfl) rfl
theorem q876 : (Jvm.Cond.fieldLink "ChurchyardBook$Person" (30 : Nat) "ChurchyardBook$Person" "first" "LChurchyardBook$Person;") ∈ lw_all := lw_g (lw_at lw_m4 70 rfl) rfl
theorem q879 : (Jvm.Cond.fieldLink "ChurchyardBook$Person" (34 : Nat) "ChurchyardBook$Person" "second" "LChurchyardBook$Person;") ∈ lw_all := lw_g (lw_at lw_m4 73 rfl) rfl
theorem q883 : (Jvm.Cond.fieldLink "ChurchyardBook$Person" (9 : Nat) "ChurchyardBook$Person" "kind" "I") ∈ lw_all := lw_g (lw_at lw_m4 77 rfl) rfl
theorem q886 : (Jvm.Cond.fieldLink "ChurchyardBook$Person" (45 : Nat) "ChurchyardBook$Person" "end" "I") ∈ lw_all := lw_g (lw_at lw_m4 80 rfl) rfl
theorem q891 : (Jvm.Cond.fieldLink "ChurchyardBook$Person" (41 : Nat) "ChurchyardBook$Person" "grave" "LChurchyardBook$Grave;") ∈ lw_all := lw_g (lw_at lw_m4 85 rfl) rfl
theorem q894 : (Jvm.Cond.fieldLink "ChurchyardBook$Person" (48 : Nat) "ChurchyardBook$Person" "column" "I") ∈ lw_all := lw_g (lw_at lw_m4 88 rfl) rfl
theorem q898 : (Jvm.Cond.fieldLink "ChurchyardBook$Person" (51 : Nat) "ChurchyardBook$Person" "depth" "I") ∈ lw_all := lw_g (lw_at lw_m4 92 rfl) rfl
theorem q902 : (Jvm.Cond.fieldLink "ChurchyardBook$Person" (20 : Nat) "ChurchyardBook$Person" "stays" "Ljava/util/ArrayList;") ∈ lw_all := lw_g (lw_at lw_m4 96 rfl) rfl
theorem q904 : (Jvm.Cond.laysFinal "ChurchyardBook$Person" "ChurchyardBook$Person" "number" "I") ∈ lw_all := lw_g (lw_at lw_m4 98 rfl) rfl
theorem q905 : (Jvm.Cond.soleField "ChurchyardBook$Person" "number") ∈ lw_all := lw_g (lw_at lw_m4 99 rfl) rfl
theorem q906 : (Jvm.Cond.laysFinal "ChurchyardBook$Person" "ChurchyardBook$Person" "born" "I") ∈ lw_all := lw_g (lw_at lw_m4 100 rfl) rfl
theorem q907 : (Jvm.Cond.soleField "ChurchyardBook$Person" "born") ∈ lw_all := lw_g (lw_at lw_m4 101 rfl) rfl
theorem q908 : (Jvm.Cond.lays "ChurchyardBook$Person" "ChurchyardBook$Person" "isDead" "Z") ∈ lw_all := lw_g (lw_at lw_m4 102 rfl) rfl
theorem q909 : (Jvm.Cond.soleField "ChurchyardBook$Person" "isDead") ∈ lw_all := lw_g (lw_at lw_m4 103 rfl) rfl
theorem q910 : (Jvm.Cond.lays "ChurchyardBook$Person" "ChurchyardBook$Person" "isGone" "Z") ∈ lw_all := lw_g (lw_at lw_m4 104 rfl) rfl
theorem q911 : (Jvm.Cond.soleField "ChurchyardBook$Person" "isGone") ∈ lw_all := lw_g (lw_at lw_m4 105 rfl) rfl
theorem q912 : (Jvm.Cond.lays "ChurchyardBook$Person" "ChurchyardBook$Person" "wed" "LChurchyardBook$Person;") ∈ lw_all := lw_g (lw_at lw_m4 106 rfl) rfl
theorem q913 : (Jvm.Cond.soleField "ChurchyardBook$Person" "wed") ∈ lw_all := lw_g (lw_at lw_m4 107 rfl) rfl
theorem q914 : (Jvm.Cond.lays "ChurchyardBook$Person" "ChurchyardBook$Person" "first" "LChurchyardBook$Person;") ∈ lw_all := lw_g (lw_at lw_m4 108 rfl) rfl
theorem q915 : (Jvm.Cond.soleField "ChurchyardBook$Person" "first") ∈ lw_all := lw_g (lw_at lw_m4 109 rfl) rfl
theorem q916 : (Jvm.Cond.lays "ChurchyardBook$Person" "ChurchyardBook$Person" "second" "LChurchyardBook$Person;") ∈ lw_all := lw_g (lw_at lw_m4 110 rfl) rfl
theorem q917 : (Jvm.Cond.soleField "ChurchyardBook$Person" "second") ∈ lw_all := lw_g (lw_at lw_m4 111 rfl) rfl
theorem q918 : (Jvm.Cond.lays "ChurchyardBook$Person" "ChurchyardBook$Person" "heir" "LChurchyardBook$Person;") ∈ lw_all := lw_g (lw_at lw_m4 112 rfl) rfl
theorem q919 : (Jvm.Cond.soleField "ChurchyardBook$Person" "heir") ∈ lw_all := lw_g (lw_at lw_m4 113 rfl) rfl
theorem q920 : (Jvm.Cond.lays "ChurchyardBook$Person" "ChurchyardBook$Person" "kind" "I") ∈ lw_all := lw_g (lw_at lw_m4 114 rfl) rfl
theorem q921 : (Jvm.Cond.soleField "ChurchyardBook$Person" "kind") ∈ lw_all := lw_g (lw_at lw_m4 115 rfl) rfl
theorem q922 : (Jvm.Cond.lays "ChurchyardBook$Person" "ChurchyardBook$Person" "end" "I") ∈ lw_all := lw_g (lw_at lw_m4 116 rfl) rfl
theorem q923 : (Jvm.Cond.soleField "ChurchyardBook$Person" "end") ∈ lw_all := lw_g (lw_at lw_m4 117 rfl) rfl
theorem q924 : (Jvm.Cond.lays "ChurchyardBook$Person" "ChurchyardBook$Person" "grave" "LChurchyardBook$Grave;") ∈ lw_all := lw_g (lw_at lw_m4 118 rfl) rfl
theorem q925 : (Jvm.Cond.soleField "ChurchyardBook$Person" "grave") ∈ lw_all := lw_g (lw_at lw_m4 119 rfl) rfl
theorem q926 : (Jvm.Cond.lays "ChurchyardBook$Person" "ChurchyardBook$Person" "column" "I") ∈ lw_all := lw_g (lw_at lw_m4 120 rfl) rfl
theorem q927 : (Jvm.Cond.soleField "ChurchyardBook$Person" "column") ∈ lw_all := lw_g (lw_at lw_m4 121 rfl) rfl
theorem q928 : (Jvm.Cond.lays "ChurchyardBook$Person" "ChurchyardBook$Person" "depth" "I") ∈ lw_all := lw_g (lw_at lw_m4 122 rfl) rfl
theorem q929 : (Jvm.Cond.soleField "ChurchyardBook$Person" "depth") ∈ lw_all := lw_g (lw_at lw_m4 123 rfl) rfl
theorem q930 : (Jvm.Cond.laysFinal "ChurchyardBook$Person" "ChurchyardBook$Person" "stays" "Ljava/util/ArrayList;") ∈ lw_all := lw_g (lw_at lw_m4 124 rfl) rfl
theorem q931 : (Jvm.Cond.soleField "ChurchyardBook$Person" "stays") ∈ lw_all := lw_g (lw_at lw_m4 125 rfl) rfl
theorem q932 : (Jvm.Cond.superclass "ChurchyardBook$Person" "java/lang/Object") ∈ lw_all := lw_g (lw_at lw_m4 126 rfl) rfl
theorem q942 : (Jvm.Cond.instanceMethod ({ cls := "ChurchyardBook$Person", name := "isParentOf", desc := "(LChurchyardBook$Person;)Z" } : Jvm.MethodName)) ∈ lw_all := lw_g (lw_at lw_m4 136 rfl) rfl
theorem q943 : (Jvm.Cond.selects "ChurchyardBook$Person" ({ cls := "ChurchyardBook$Person", name := "isParentOf", desc := "(LChurchyardBook$Person;)Z" } : Jvm.MethodName) ({ cls := "ChurchyardBook$Person", name := "isParentOf", desc := "(LChurchyardBook$Person;)Z" } : Jvm.MethodName)) ∈ lw_all := lw_g (lw_at lw_m4 137 rfl) rfl
theorem q944 : (Jvm.Cond.code ({ cls := "ChurchyardBook$Person", name := "isParentOf", desc := "(LChurchyardBook$Person;)Z" } : Jvm.MethodName) prog_10_method_2_code (2 : Nat) (Option.some Jvm.ClassFile.FieldType.boolean)) ∈ lw_all := lw_g (lw_at lw_m4 138 rfl) rfl
theorem q1046 : (Jvm.Cond.selects "ChurchyardBook$Person" ({ cls := "java/lang/Object", name := "equals", desc := "(Ljava/lang/Object;)Z" } : Jvm.MethodName) ({ cls := "java/lang/Object", name := "equals", desc := "(Ljava/lang/Object;)Z" } : Jvm.MethodName)) ∈ lw_all := lw_g (lw_at lw_m5 0 rfl) rfl
theorem q1065 : (Jvm.Cond.instanceMethod ({ cls := "ChurchyardBook$Person", name := "isSiblingOf", desc := "(LChurchyardBook$Person;)Z" } : Jvm.MethodName)) ∈ lw_all := lw_g (lw_at lw_m5 19 rfl) rfl
theorem q1066 : (Jvm.Cond.selects "ChurchyardBook$Person" ({ cls := "ChurchyardBook$Person", name := "isSiblingOf", desc := "(LChurchyardBook$Person;)Z" } : Jvm.MethodName) ({ cls := "ChurchyardBook$Person", name := "isSiblingOf", desc := "(LChurchyardBook$Person;)Z" } : Jvm.MethodName)) ∈ lw_all := lw_g (lw_at lw_m5 20 rfl) rfl
theorem q1067 : (Jvm.Cond.code ({ cls := "ChurchyardBook$Person", name := "isSiblingOf", desc := "(LChurchyardBook$Person;)Z" } : Jvm.MethodName) prog_10_method_3_code (2 : Nat) (Option.some Jvm.ClassFile.FieldType.boolean)) ∈ lw_all := lw_g (lw_at lw_m5 21 rfl) rfl
theorem q1068 : (Jvm.Cond.methodLink "ChurchyardBook$Person" (37 : Nat) ({ cls := "ChurchyardBook$Person", name := "isParentOf", desc := "(LChurchyardBook$Person;)Z" } : Jvm.MethodName)) ∈ lw_all := lw_g (lw_at lw_m5 22 rfl) rfl
theorem q1222 : (Jvm.Cond.instanceMethod ({ cls := "ChurchyardBook$Person", name := "rests", desc := "(I)Z" } : Jvm.MethodName)) ∈ lw_all := lw_g (lw_at lw_m5 176 rfl) rfl
theorem q1223 : (Jvm.Cond.selects "ChurchyardBook$Person" ({ cls := "ChurchyardBook$Person", name := "rests", desc := "(I)Z" } : Jvm.MethodName) ({ cls := "ChurchyardBook$Person", name := "rests", desc := "(I)Z" } : Jvm.MethodName)) ∈ lw_all := lw_g (lw_at lw_m5 177 rfl) rfl
theorem q1224 : (Jvm.Cond.code ({ cls := "ChurchyardBook$Person", name := "rests", desc := "(I)Z" } : Jvm.MethodName) prog_10_method_4_code (2 : Nat) (Option.some Jvm.ClassFile.FieldType.boolean)) ∈ lw_all := lw_g (lw_at lw_m5 178 rfl) rfl
theorem q1308 : (Jvm.Cond.instanceMethod ({ cls := "ChurchyardBook$Person", name := "lies", desc := "(ILChurchyardBook$Grave;II)V" } : Jvm.MethodName)) ∈ lw_all := lw_g (lw_at lw_m6 22 rfl) rfl
theorem q1309 : (Jvm.Cond.selects "ChurchyardBook$Person" ({ cls := "ChurchyardBook$Person", name := "lies", desc := "(ILChurchyardBook$Grave;II)V" } : Jvm.MethodName) ({ cls := "ChurchyardBook$Person", name := "lies", desc := "(ILChurchyardBook$Grave;II)V" } : Jvm.MethodName)) ∈ lw_all := lw_g (lw_at lw_m6 23 rfl) rfl
theorem q1310 : (Jvm.Cond.code ({ cls := "ChurchyardBook$Person", name := "lies", desc := "(ILChurchyardBook$Grave;II)V" } : Jvm.MethodName) prog_10_method_5_code (5 : Nat) (Option.none : Option Jvm.ClassFile.FieldType)) ∈ lw_all := lw_g (lw_at lw_m6 24 rfl) rfl
theorem q1311 : (Jvm.Cond.classLink "ChurchyardBook$Person" (54 : Nat) "ChurchyardBook$Stay") ∈ lw_all := lw_g (lw_at lw_m6 25 rfl) rfl
theorem q1313 : (Jvm.Cond.methodLink "ChurchyardBook$Person" (56 : Nat) ({ cls := "ChurchyardBook$Stay", name := "<init>", desc := "(ILChurchyardBook$Grave;)V" } : Jvm.MethodName)) ∈ lw_all := lw_g (lw_at lw_m6 27 rfl) rfl
theorem q1327 : (Jvm.Cond.methodLink "ChurchyardBook$Person" (59 : Nat) ({ cls := "java/util/ArrayList", name := "add", desc := "(Ljava/lang/Object;)Z" } : Jvm.MethodName)) ∈ lw_all := lw_g (lw_at lw_m6 41 rfl) rfl
theorem q2277 : (Jvm.Cond.castable "ChurchyardBook$Person" "java/lang/Object") ∈ lw_tbl := lw_at lw_m10 31 rfl
theorem in_X16 : ∀ w ∈ wsX160, w ∈ lw_all := lw_in wsX160 [904, 906, 908, 910, 912, 914, 916, 918, 920, 922, 924, 926, 928, 930] (by decide +kernel) (by decide +kernel)

/-! ChurchyardBook$Stay -/
set_option maxRecDepth 100000
def RX17 : String := "ChurchyardBook$Stay"
def TX17 : u_T := fun k => match k with
  | 0 => ("ChurchyardBook$Stay", "day", "I", true)
  | _ => ("ChurchyardBook$Stay", "grave", "LChurchyardBook$Grave;", true)
def tyX17 : Nat → FieldType := fun k => match k with
  | 0 => .int
  | _ => .object "ChurchyardBook$Grave"
abbrev wsX170 : List Cond := u_ws RX17 TX17 2
theorem nmX17 : ∀ a, a < 2 → ∀ b, b < 2 → a ≠ b → (TX17 a).2.1 ≠ (TX17 b).2.1 := by decide +kernel
theorem tyX17_ok : ∀ k, k < 2 → parseFieldDescriptor (TX17 k).2.2.1 = some (tyX17 k) := by decide +kernel
abbrev cX17_init : ByteArray := prog_15_method_1_code
def yX17_init : MethodName := ⟨RX17, "<init>", "(ILChurchyardBook$Grave;)V"⟩
def dkwX17_init_0 : List UInt8 := [42, 183, 0, 1, 42, 27, 181, 0, 7, 42, 44, 181, 0, 13, 177]
abbrev dktX17_init_0 : List UInt8 := dkwX17_init_0 ++ []
theorem dksX17_init_0 : cX17_init.data.toList.drop 0 = dktX17_init_0 := by decide +kernel
theorem dX17_init_0 : decode cX17_init 0 = .ok (.aload_n 0, 1) := dk_42 (dk_at dksX17_init_0 0 rfl rfl)
theorem dX17_init_1 : decode cX17_init 1 = .ok (.invokespecial 1, 3) := dk_183 0 1 (dk_at dksX17_init_0 1 rfl rfl)
theorem dX17_init_4 : decode cX17_init 4 = .ok (.aload_n 0, 1) := dk_42 (dk_at dksX17_init_0 4 rfl rfl)
theorem dX17_init_5 : decode cX17_init 5 = .ok (.iload_n 1, 1) := dk_27 (dk_at dksX17_init_0 5 rfl rfl)
theorem dX17_init_6 : decode cX17_init 6 = .ok (.putfield 7, 3) := dk_181 0 7 (dk_at dksX17_init_0 6 rfl rfl)
theorem dX17_init_9 : decode cX17_init 9 = .ok (.aload_n 0, 1) := dk_42 (dk_at dksX17_init_0 9 rfl rfl)
theorem dX17_init_10 : decode cX17_init 10 = .ok (.aload_n 2, 1) := dk_44 (dk_at dksX17_init_0 10 rfl rfl)
theorem dX17_init_11 : decode cX17_init 11 = .ok (.putfield 13, 3) := dk_181 0 13 (dk_at dksX17_init_0 11 rfl rfl)
theorem dX17_init_14 : decode cX17_init 14 = .ok (.return_, 1) := dk_177 (dk_at dksX17_init_0 14 rfl rfl)
theorem q122 : (Jvm.Cond.initialized "ChurchyardBook$Stay") ∈ lw_all := lw_g (lw_at lw_m1 36 rfl) rfl
theorem q418 : (Jvm.Cond.selects "ChurchyardBook$Stay" ({ cls := "java/lang/Object", name := "getClass", desc := "()Ljava/lang/Class;" } : Jvm.MethodName) ({ cls := "java/lang/Object", name := "getClass", desc := "()Ljava/lang/Class;" } : Jvm.MethodName)) ∈ lw_all := lw_g (lw_at lw_m2 92 rfl) rfl
theorem q1049 : (Jvm.Cond.selects "ChurchyardBook$Stay" ({ cls := "java/lang/Object", name := "equals", desc := "(Ljava/lang/Object;)Z" } : Jvm.MethodName) ({ cls := "java/lang/Object", name := "equals", desc := "(Ljava/lang/Object;)Z" } : Jvm.MethodName)) ∈ lw_all := lw_g (lw_at lw_m5 3 rfl) rfl
theorem q1312 : (Jvm.Cond.instantiable "ChurchyardBook$Stay" (2 : Nat)) ∈ lw_all := lw_g (lw_at lw_m6 26 rfl) rfl
theorem q1314 : (Jvm.Cond.instanceMethod ({ cls := "ChurchyardBook$Stay", name := "<init>", desc := "(ILChurchyardBook$Grave;)V" } : Jvm.MethodName)) ∈ lw_all := lw_g (lw_at lw_m6 28 rfl) rfl
theorem q1315 : (Jvm.Cond.code ({ cls := "ChurchyardBook$Stay", name := "<init>", desc := "(ILChurchyardBook$Grave;)V" } : Jvm.MethodName) prog_15_method_1_code (3 : Nat) (Option.none : Option Jvm.ClassFile.FieldType)) ∈ lw_all := lw_g (lw_at lw_m6 29 rfl) rfl
theorem q1316 : (Jvm.Cond.methodLink "ChurchyardBook$Stay" (1 : Nat) ({ cls := "java/lang/Object", name := "<init>", desc := "()V" } : Jvm.MethodName)) ∈ lw_all := lw_g (lw_at lw_m6 30 rfl) rfl
theorem q1317 : (Jvm.Cond.fieldLink "ChurchyardBook$Stay" (7 : Nat) "ChurchyardBook$Stay" "day" "I") ∈ lw_all := lw_g (lw_at lw_m6 31 rfl) rfl
theorem q1319 : (Jvm.Cond.fieldLink "ChurchyardBook$Stay" (13 : Nat) "ChurchyardBook$Stay" "grave" "LChurchyardBook$Grave;") ∈ lw_all := lw_g (lw_at lw_m6 33 rfl) rfl
theorem q1321 : (Jvm.Cond.laysFinal "ChurchyardBook$Stay" "ChurchyardBook$Stay" "day" "I") ∈ lw_all := lw_g (lw_at lw_m6 35 rfl) rfl
theorem q1322 : (Jvm.Cond.soleField "ChurchyardBook$Stay" "day") ∈ lw_all := lw_g (lw_at lw_m6 36 rfl) rfl
theorem q1323 : (Jvm.Cond.laysFinal "ChurchyardBook$Stay" "ChurchyardBook$Stay" "grave" "LChurchyardBook$Grave;") ∈ lw_all := lw_g (lw_at lw_m6 37 rfl) rfl
theorem q1324 : (Jvm.Cond.soleField "ChurchyardBook$Stay" "grave") ∈ lw_all := lw_g (lw_at lw_m6 38 rfl) rfl
theorem q1325 : (Jvm.Cond.superclass "ChurchyardBook$Stay" "java/lang/Object") ∈ lw_all := lw_g (lw_at lw_m6 39 rfl) rfl
theorem q2278 : (Jvm.Cond.castable "ChurchyardBook$Stay" "java/lang/Object") ∈ lw_tbl := lw_at lw_m10 32 rfl
theorem in_X17 : ∀ w ∈ wsX170, w ∈ lw_all := lw_in wsX170 [1321, 1323] (by decide +kernel) (by decide +kernel)

/-! ChurchyardBook$Takes -/
set_option maxRecDepth 100000
def RX18 : String := "ChurchyardBook$Takes"
abbrev cX18_shunsTrees : ByteArray := prog_16_method_2_code
def yX18_shunsTrees : MethodName := ⟨RX18, "shunsTrees", "()Z"⟩
theorem dX18_shunsTrees_0 : decode cX18_shunsTrees 0 = .ok (.iconst 1, 1) := by decide +kernel
theorem dX18_shunsTrees_1 : decode cX18_shunsTrees 1 = .ok (.ireturn, 1) := by decide +kernel
theorem q584 : (Jvm.Cond.interfaceMethod "ChurchyardBook$Takes" "ChurchyardBook$Takes" "shunsTrees" "()Z") ∈ lw_tbl := lw_at lw_m3 18 rfl
theorem q585 : (Jvm.Cond.declares ({ cls := "ChurchyardBook$Takes", name := "shunsTrees", desc := "()Z" } : Jvm.MethodName)) ∈ lw_tbl := lw_at lw_m3 19 rfl
theorem q588 : (Jvm.Cond.instanceMethod ({ cls := "ChurchyardBook$Takes", name := "shunsTrees", desc := "()Z" } : Jvm.MethodName)) ∈ lw_all := lw_g (lw_at lw_m3 22 rfl) rfl
theorem q589 : (Jvm.Cond.publicMethod ({ cls := "ChurchyardBook$Takes", name := "shunsTrees", desc := "()Z" } : Jvm.MethodName)) ∈ lw_tbl := lw_at lw_m3 23 rfl
theorem q590 : (Jvm.Cond.code ({ cls := "ChurchyardBook$Takes", name := "shunsTrees", desc := "()Z" } : Jvm.MethodName) prog_16_method_2_code (1 : Nat) (Option.some Jvm.ClassFile.FieldType.boolean)) ∈ lw_all := lw_g (lw_at lw_m3 24 rfl) rfl
theorem q1181 : (Jvm.Cond.declares ({ cls := "ChurchyardBook$Takes", name := "takes", desc := "(I)Z" } : Jvm.MethodName)) ∈ lw_tbl := lw_at lw_m5 135 rfl
theorem q2245 : (Jvm.Cond.initialized "ChurchyardBook$Takes") ∈ lw_all := lw_g (lw_at lw_m9 239 rfl) rfl

/-! ChurchyardBook$Rests -/
set_option maxRecDepth 100000
def RX19 : String := "ChurchyardBook$Rests"
abbrev cX19_years : ByteArray := prog_13_method_2_code
def yX19_years : MethodName := ⟨RX19, "years", "(I)I"⟩
def dkwX19_years_1 : List UInt8 := [16, 12, 5, 42, 185, 0, 3, 1, 0, 104, 96, 167, 0, 5, 16, 10, 172]
abbrev dktX19_years_1 : List UInt8 := dkwX19_years_1 ++ []
def dkwX19_years_0 : List UInt8 := [27, 154, 0, 17, 16, 20, 7, 42, 185, 0, 3, 1, 0, 104, 96, 167, 0, 24, 27, 5, 160, 0, 17]
abbrev dktX19_years_0 : List UInt8 := dkwX19_years_0 ++ dktX19_years_1
theorem dksX19_years_0 : cX19_years.data.toList.drop 0 = dktX19_years_0 := by decide +kernel
theorem dksX19_years_1 : cX19_years.data.toList.drop 23 = dktX19_years_1 := dk_seg dksX19_years_0 23 rfl rfl
theorem dX19_years_0 : decode cX19_years 0 = .ok (.iload_n 1, 1) := dk_27 (dk_at dksX19_years_0 0 rfl rfl)
theorem dX19_years_1 : decode cX19_years 1 = .ok (.ifCond .ne 17, 3) := dk_154 0 17 (dk_at dksX19_years_0 1 rfl rfl)
theorem dX19_years_4 : decode cX19_years 4 = .ok (.bipush 20, 2) := dk_16 20 (dk_at dksX19_years_0 4 rfl rfl)
theorem dX19_years_6 : decode cX19_years 6 = .ok (.iconst 4, 1) := dk_7 (dk_at dksX19_years_0 6 rfl rfl)
theorem dX19_years_7 : decode cX19_years 7 = .ok (.aload_n 0, 1) := dk_42 (dk_at dksX19_years_0 7 rfl rfl)
theorem dX19_years_8 : decode cX19_years 8 = .ok (.invokeinterface 3 1, 5) := by decide +kernel
theorem dX19_years_13 : decode cX19_years 13 = .ok (.imul, 1) := dk_104 (dk_at dksX19_years_0 13 rfl rfl)
theorem dX19_years_14 : decode cX19_years 14 = .ok (.iadd, 1) := dk_96 (dk_at dksX19_years_0 14 rfl rfl)
theorem dX19_years_15 : decode cX19_years 15 = .ok (.goto 24, 3) := dk_167 0 24 (dk_at dksX19_years_0 15 rfl rfl)
theorem dX19_years_18 : decode cX19_years 18 = .ok (.iload_n 1, 1) := dk_27 (dk_at dksX19_years_0 18 rfl rfl)
theorem dX19_years_19 : decode cX19_years 19 = .ok (.iconst 2, 1) := dk_5 (dk_at dksX19_years_0 19 rfl rfl)
theorem dX19_years_20 : decode cX19_years 20 = .ok (.if_icmp .ne 17, 3) := dk_160 0 17 (dk_at dksX19_years_0 20 rfl rfl)
theorem dX19_years_23 : decode cX19_years 23 = .ok (.bipush 12, 2) := dk_16 12 (dk_at dksX19_years_1 0 rfl rfl)
theorem dX19_years_25 : decode cX19_years 25 = .ok (.iconst 2, 1) := dk_5 (dk_at dksX19_years_1 2 rfl rfl)
theorem dX19_years_26 : decode cX19_years 26 = .ok (.aload_n 0, 1) := dk_42 (dk_at dksX19_years_1 3 rfl rfl)
theorem dX19_years_27 : decode cX19_years 27 = .ok (.invokeinterface 3 1, 5) := by decide +kernel
theorem dX19_years_32 : decode cX19_years 32 = .ok (.imul, 1) := dk_104 (dk_at dksX19_years_1 9 rfl rfl)
theorem dX19_years_33 : decode cX19_years 33 = .ok (.iadd, 1) := dk_96 (dk_at dksX19_years_1 10 rfl rfl)
theorem dX19_years_34 : decode cX19_years 34 = .ok (.goto 5, 3) := dk_167 0 5 (dk_at dksX19_years_1 11 rfl rfl)
theorem dX19_years_37 : decode cX19_years 37 = .ok (.bipush 10, 2) := dk_16 10 (dk_at dksX19_years_1 14 rfl rfl)
theorem dX19_years_39 : decode cX19_years 39 = .ok (.ireturn, 1) := dk_172 (dk_at dksX19_years_1 16 rfl rfl)
theorem q1116 : (Jvm.Cond.declares ({ cls := "ChurchyardBook$Rests", name := "years", desc := "(I)I" } : Jvm.MethodName)) ∈ lw_tbl := lw_at lw_m5 70 rfl
theorem q1123 : (Jvm.Cond.instanceMethod ({ cls := "ChurchyardBook$Rests", name := "years", desc := "(I)I" } : Jvm.MethodName)) ∈ lw_all := lw_g (lw_at lw_m5 77 rfl) rfl
theorem q1124 : (Jvm.Cond.publicMethod ({ cls := "ChurchyardBook$Rests", name := "years", desc := "(I)I" } : Jvm.MethodName)) ∈ lw_tbl := lw_at lw_m5 78 rfl
theorem q1125 : (Jvm.Cond.code ({ cls := "ChurchyardBook$Rests", name := "years", desc := "(I)I" } : Jvm.MethodName) prog_13_method_2_code (2 : Nat) (Option.some Jvm.ClassFile.FieldType.int)) ∈ lw_all := lw_g (lw_at lw_m5 79 rfl) rfl
theorem q1126 : (Jvm.Cond.interfaceEntry "ChurchyardBook$Rests" (3 : Nat)) ∈ lw_tbl := lw_at lw_m5 80 rfl
theorem q1127 : (Jvm.Cond.methodLink "ChurchyardBook$Rests" (3 : Nat) ({ cls := "ChurchyardBook$Rests", name := "ground", desc := "()I" } : Jvm.MethodName)) ∈ lw_all := lw_g (lw_at lw_m5 81 rfl) rfl
theorem q1128 : (Jvm.Cond.interfaceMethod "ChurchyardBook$Rests" "ChurchyardBook$Rests" "ground" "()I") ∈ lw_tbl := lw_at lw_m5 82 rfl
theorem q1129 : (Jvm.Cond.declares ({ cls := "ChurchyardBook$Rests", name := "ground", desc := "()I" } : Jvm.MethodName)) ∈ lw_tbl := lw_at lw_m5 83 rfl
theorem q2246 : (Jvm.Cond.initialized "ChurchyardBook$Rests") ∈ lw_all := lw_g (lw_at lw_m10 0 rfl) rfl

/-! ChurchyardBook$Ends -/
set_option maxRecDepth 100000
def RX20 : String := "ChurchyardBook$Ends"
abbrev cX20_lacks : ByteArray := prog_5_method_2_code
def yX20_lacks : MethodName := ⟨RX20, "lacks", "(I)I"⟩
def dkwX20_lacks_1 : List UInt8 := [17, 1, 109, 96, 4, 100, 17, 1, 109, 108, 172]
abbrev dktX20_lacks_1 : List UInt8 := dkwX20_lacks_1 ++ []
def dkwX20_lacks_0 : List UInt8 := [42, 185, 0, 3, 1, 0, 27, 161, 0, 7, 3, 167, 0, 21, 27, 42, 185, 0, 3, 1, 0, 100]
abbrev dktX20_lacks_0 : List UInt8 := dkwX20_lacks_0 ++ dktX20_lacks_1
theorem dksX20_lacks_0 : cX20_lacks.data.toList.drop 0 = dktX20_lacks_0 := by decide +kernel
theorem dksX20_lacks_1 : cX20_lacks.data.toList.drop 22 = dktX20_lacks_1 := dk_seg dksX20_lacks_0 22 rfl rfl
theorem dX20_lacks_0 : decode cX20_lacks 0 = .ok (.aload_n 0, 1) := dk_42 (dk_at dksX20_lacks_0 0 rfl rfl)
theorem dX20_lacks_1 : decode cX20_lacks 1 = .ok (.invokeinterface 3 1, 5) := by decide +kernel
theorem dX20_lacks_6 : decode cX20_lacks 6 = .ok (.iload_n 1, 1) := dk_27 (dk_at dksX20_lacks_0 6 rfl rfl)
theorem dX20_lacks_7 : decode cX20_lacks 7 = .ok (.if_icmp .lt 7, 3) := dk_161 0 7 (dk_at dksX20_lacks_0 7 rfl rfl)
theorem dX20_lacks_10 : decode cX20_lacks 10 = .ok (.iconst 0, 1) := dk_3 (dk_at dksX20_lacks_0 10 rfl rfl)
theorem dX20_lacks_11 : decode cX20_lacks 11 = .ok (.goto 21, 3) := dk_167 0 21 (dk_at dksX20_lacks_0 11 rfl rfl)
theorem dX20_lacks_14 : decode cX20_lacks 14 = .ok (.iload_n 1, 1) := dk_27 (dk_at dksX20_lacks_0 14 rfl rfl)
theorem dX20_lacks_15 : decode cX20_lacks 15 = .ok (.aload_n 0, 1) := dk_42 (dk_at dksX20_lacks_0 15 rfl rfl)
theorem dX20_lacks_16 : decode cX20_lacks 16 = .ok (.invokeinterface 3 1, 5) := by decide +kernel
theorem dX20_lacks_21 : decode cX20_lacks 21 = .ok (.isub, 1) := dk_100 (dk_at dksX20_lacks_0 21 rfl rfl)
theorem dX20_lacks_22 : decode cX20_lacks 22 = .ok (.sipush 365, 3) := dk_17 1 109 (dk_at dksX20_lacks_1 0 rfl rfl)
theorem dX20_lacks_25 : decode cX20_lacks 25 = .ok (.iadd, 1) := dk_96 (dk_at dksX20_lacks_1 3 rfl rfl)
theorem dX20_lacks_26 : decode cX20_lacks 26 = .ok (.iconst 1, 1) := dk_4 (dk_at dksX20_lacks_1 4 rfl rfl)
theorem dX20_lacks_27 : decode cX20_lacks 27 = .ok (.isub, 1) := dk_100 (dk_at dksX20_lacks_1 5 rfl rfl)
theorem dX20_lacks_28 : decode cX20_lacks 28 = .ok (.sipush 365, 3) := dk_17 1 109 (dk_at dksX20_lacks_1 6 rfl rfl)
theorem dX20_lacks_31 : decode cX20_lacks 31 = .ok (.idiv, 1) := dk_108 (dk_at dksX20_lacks_1 9 rfl rfl)
theorem dX20_lacks_32 : decode cX20_lacks 32 = .ok (.ireturn, 1) := dk_172 (dk_at dksX20_lacks_1 10 rfl rfl)
theorem q1258 : (Jvm.Cond.declares ({ cls := "ChurchyardBook$Ends", name := "lacks", desc := "(I)I" } : Jvm.MethodName)) ∈ lw_tbl := lw_at lw_m5 212 rfl
theorem q1265 : (Jvm.Cond.instanceMethod ({ cls := "ChurchyardBook$Ends", name := "lacks", desc := "(I)I" } : Jvm.MethodName)) ∈ lw_all := lw_g (lw_at lw_m5 219 rfl) rfl
theorem q1266 : (Jvm.Cond.publicMethod ({ cls := "ChurchyardBook$Ends", name := "lacks", desc := "(I)I" } : Jvm.MethodName)) ∈ lw_tbl := lw_at lw_m5 220 rfl
theorem q1267 : (Jvm.Cond.code ({ cls := "ChurchyardBook$Ends", name := "lacks", desc := "(I)I" } : Jvm.MethodName) prog_5_method_2_code (2 : Nat) (Option.some Jvm.ClassFile.FieldType.int)) ∈ lw_all := lw_g (lw_at lw_m5 221 rfl) rfl
theorem q1268 : (Jvm.Cond.interfaceEntry "ChurchyardBook$Ends" (3 : Nat)) ∈ lw_tbl := lw_at lw_m5 222 rfl
theorem q1269 : (Jvm.Cond.methodLink "ChurchyardBook$Ends" (3 : Nat) ({ cls := "ChurchyardBook$Ends", name := "to", desc := "()I" } : Jvm.MethodName)) ∈ lw_all := lw_g (lw_at lw_m5 223 rfl) rfl
theorem q1270 : (Jvm.Cond.interfaceMethod "ChurchyardBook$Ends" "ChurchyardBook$Ends" "to" "()I") ∈ lw_tbl := lw_at lw_m5 224 rfl
theorem q1271 : (Jvm.Cond.declares ({ cls := "ChurchyardBook$Ends", name := "to", desc := "()I" } : Jvm.MethodName)) ∈ lw_tbl := lw_at lw_m5 225 rfl
theorem q2247 : (Jvm.Cond.initialized "ChurchyardBook$Ends") ∈ lw_all := lw_g (lw_at lw_m10 1 rfl) rfl

/-! ChurchyardBook -/
set_option maxRecDepth 100000
def RX1 : String := "ChurchyardBook"
def TX1 : u_T := fun k => match k with
  | 0 => ("ChurchyardBook", "tree", "LChurchyardBook$Tree;", true)
  | 1 => ("ChurchyardBook", "way", "LChurchyardBook$Way;", true)
  | 2 => ("ChurchyardBook", "book", "LChurchyardBook$Book;", false)
  | 3 => ("ChurchyardBook", "acts", "[I", true)
  | 4 => ("ChurchyardBook", "many", "I", false)
  | 5 => ("ChurchyardBook", "tape", "[I", true)
  | 6 => ("ChurchyardBook", "taped", "I", false)
  | _ => ("ChurchyardBook", "tries", "I", false)
def tyX1 : Nat → FieldType := fun k => match k with
  | 0 => .object "ChurchyardBook$Tree"
  | 1 => .object "ChurchyardBook$Way"
  | 2 => .object "ChurchyardBook$Book"
  | 3 => .array .int
  | 4 => .int
  | 5 => .array .int
  | 6 => .int
  | _ => .int
abbrev wsX10 : List Cond := u_ws RX1 TX1 8
theorem nmX1 : ∀ a, a < 8 → ∀ b, b < 8 → a ≠ b → (TX1 a).2.1 ≠ (TX1 b).2.1 := by decide +kernel
theorem tyX1_ok : ∀ k, k < 8 → parseFieldDescriptor (TX1 k).2.2.1 = some (tyX1 k) := by decide +kernel
abbrev cX1_init : ByteArray := prog_1_method_1_code
def yX1_init : MethodName := ⟨RX1, "<init>", "()V"⟩
def dkwX1_init_2 : List UInt8 := [42, 17, 9, 96, 188, 10, 181, 0, 36, 177]
abbrev dktX1_init_2 : List UInt8 := dkwX1_init_2 ++ []
def dkwX1_init_1 : List UInt8 := [181, 0, 19, 42, 187, 0, 23, 89, 42, 183, 0, 25, 181, 0, 28, 42, 17, 9, 96, 188, 10, 181, 0, 32]
abbrev dktX1_init_1 : List UInt8 := dkwX1_init_1 ++ dktX1_init_2
def dkwX1_init_0 : List UInt8 := [42, 183, 0, 1, 42, 187, 0, 7, 89, 183, 0, 9, 181, 0, 10, 42, 187, 0, 16, 89, 183, 0, 18]
abbrev dktX1_init_0 : List UInt8 := dkwX1_init_0 ++ dktX1_init_1
theorem dksX1_init_0 : cX1_init.data.toList.drop 0 = dktX1_init_0 := by decide +kernel
theorem dksX1_init_1 : cX1_init.data.toList.drop 23 = dktX1_init_1 := dk_seg dksX1_init_0 23 rfl rfl
theorem dksX1_init_2 : cX1_init.data.toList.drop 47 = dktX1_init_2 := dk_seg dksX1_init_1 24 rfl rfl
theorem dX1_init_0 : decode cX1_init 0 = .ok (.aload_n 0, 1) := dk_42 (dk_at dksX1_init_0 0 rfl rfl)
theorem dX1_init_1 : decode cX1_init 1 = .ok (.invokespecial 1, 3) := dk_183 0 1 (dk_at dksX1_init_0 1 rfl rfl)
theorem dX1_init_4 : decode cX1_init 4 = .ok (.aload_n 0, 1) := dk_42 (dk_at dksX1_init_0 4 rfl rfl)
theorem dX1_init_5 : decode cX1_init 5 = .ok (.new 7, 3) := dk_187 0 7 (dk_at dksX1_init_0 5 rfl rfl)
theorem dX1_init_8 : decode cX1_init 8 = .ok (.dup, 1) := dk_89 (dk_at dksX1_init_0 8 rfl rfl)
theorem dX1_init_9 : decode cX1_init 9 = .ok (.invokespecial 9, 3) := dk_183 0 9 (dk_at dksX1_init_0 9 rfl rfl)
theorem dX1_init_12 : decode cX1_init 12 = .ok (.putfield 10, 3) := dk_181 0 10 (dk_at dksX1_init_0 12 rfl rfl)
theorem dX1_init_15 : decode cX1_init 15 = .ok (.aload_n 0, 1) := dk_42 (dk_at dksX1_init_0 15 rfl rfl)
theorem dX1_init_16 : decode cX1_init 16 = .ok (.new 16, 3) := dk_187 0 16 (dk_at dksX1_init_0 16 rfl rfl)
theorem dX1_init_19 : decode cX1_init 19 = .ok (.dup, 1) := dk_89 (dk_at dksX1_init_0 19 rfl rfl)
theorem dX1_init_20 : decode cX1_init 20 = .ok (.invokespecial 18, 3) := dk_183 0 18 (dk_at dksX1_init_0 20 rfl rfl)
theorem dX1_init_23 : decode cX1_init 23 = .ok (.putfield 19, 3) := dk_181 0 19 (dk_at dksX1_init_1 0 rfl rfl)
theorem dX1_init_26 : decode cX1_init 26 = .ok (.aload_n 0, 1) := dk_42 (dk_at dksX1_init_1 3 rfl rfl)
theorem dX1_init_27 : decode cX1_init 27 = .ok (.new 23, 3) := dk_187 0 23 (dk_at dksX1_init_1 4 rfl rfl)
theorem dX1_init_30 : decode cX1_init 30 = .ok (.dup, 1) := dk_89 (dk_at dksX1_init_1 7 rfl rfl)
theorem dX1_init_31 : decode cX1_init 31 = .ok (.aload_n 0, 1) := dk_42 (dk_at dksX1_init_1 8 rfl rfl)
theorem dX1_init_32 : decode cX1_init 32 = .ok (.invokespecial 25, 3) := dk_183 0 25 (dk_at dksX1_init_1 9 rfl rfl)
theorem dX1_init_35 : decode cX1_init 35 = .ok (.putfield 28, 3) := dk_181 0 28 (dk_at dksX1_init_1 12 rfl rfl)
theorem dX1_init_38 : decode cX1_init 38 = .ok (.aload_n 0, 1) := dk_42 (dk_at dksX1_init_1 15 rfl rfl)
theorem dX1_init_39 : decode cX1_init 39 = .ok (.sipush 2400, 3) := dk_17 9 96 (dk_at dksX1_init_1 16 rfl rfl)
theorem dX1_init_42 : decode cX1_init 42 = .ok (.newarray .int, 2) := dk_188_10 (dk_at dksX1_init_1 19 rfl rfl)
theorem dX1_init_44 : decode cX1_init 44 = .ok (.putfield 32, 3) := dk_181 0 32 (dk_at dksX1_init_1 21 rfl rfl)
theorem dX1_init_47 : decode cX1_init 47 = .ok (.aload_n 0, 1) := dk_42 (dk_at dksX1_init_2 0 rfl rfl)
theorem dX1_init_48 : decode cX1_init 48 = .ok (.sipush 2400, 3) := dk_17 9 96 (dk_at dksX1_init_2 1 rfl rfl)
theorem dX1_init_51 : decode cX1_init 51 = .ok (.newarray .int, 2) := dk_188_10 (dk_at dksX1_init_2 4 rfl rfl)
theorem dX1_init_53 : decode cX1_init 53 = .ok (.putfield 36, 3) := dk_181 0 36 (dk_at dksX1_init_2 6 rfl rfl)
theorem dX1_init_56 : decode cX1_init 56 = .ok (.return_, 1) := dk_177 (dk_at dksX1_init_2 9 rfl rfl)
abbrev cX1_feed : ByteArray := prog_1_method_9_code
def yX1_feed : MethodName := ⟨RX1, "feed", "(IIIIII)I"⟩
def dkwX1_feed_1 : List UInt8 := [21, 4, 21, 5, 21, 6, 184, 0, 76, 42, 89, 180, 0, 89, 4, 96, 181, 0, 89, 42, 180, 0, 89, 172]
abbrev dktX1_feed_1 : List UInt8 := dkwX1_feed_1 ++ []
def dkwX1_feed_0 : List UInt8 := [42, 180, 0, 89, 17, 1, 144, 160, 0, 5, 2, 172, 42, 180, 0, 36, 42, 180, 0, 89, 27, 28, 29]
abbrev dktX1_feed_0 : List UInt8 := dkwX1_feed_0 ++ dktX1_feed_1
theorem dksX1_feed_0 : cX1_feed.data.toList.drop 0 = dktX1_feed_0 := by decide +kernel
theorem dksX1_feed_1 : cX1_feed.data.toList.drop 23 = dktX1_feed_1 := dk_seg dksX1_feed_0 23 rfl rfl
theorem dX1_feed_0 : decode cX1_feed 0 = .ok (.aload_n 0, 1) := dk_42 (dk_at dksX1_feed_0 0 rfl rfl)
theorem dX1_feed_1 : decode cX1_feed 1 = .ok (.getfield 89, 3) := dk_180 0 89 (dk_at dksX1_feed_0 1 rfl rfl)
theorem dX1_feed_4 : decode cX1_feed 4 = .ok (.sipush 400, 3) := dk_17 1 144 (dk_at dksX1_feed_0 4 rfl rfl)
theorem dX1_feed_7 : decode cX1_feed 7 = .ok (.if_icmp .ne 5, 3) := dk_160 0 5 (dk_at dksX1_feed_0 7 rfl rfl)
theorem dX1_feed_10 : decode cX1_feed 10 = .ok (.iconst (-1), 1) := dk_2 (dk_at dksX1_feed_0 10 rfl rfl)
theorem dX1_feed_11 : decode cX1_feed 11 = .ok (.ireturn, 1) := dk_172 (dk_at dksX1_feed_0 11 rfl rfl)
theorem dX1_feed_12 : decode cX1_feed 12 = .ok (.aload_n 0, 1) := dk_42 (dk_at dksX1_feed_0 12 rfl rfl)
theorem dX1_feed_13 : decode cX1_feed 13 = .ok (.getfield 36, 3) := dk_180 0 36 (dk_at dksX1_feed_0 13 rfl rfl)
theorem dX1_feed_16 : decode cX1_feed 16 = .ok (.aload_n 0, 1) := dk_42 (dk_at dksX1_feed_0 16 rfl rfl)
theorem dX1_feed_17 : decode cX1_feed 17 = .ok (.getfield 89, 3) := dk_180 0 89 (dk_at dksX1_feed_0 17 rfl rfl)
theorem dX1_feed_20 : decode cX1_feed 20 = .ok (.iload_n 1, 1) := dk_27 (dk_at dksX1_feed_0 20 rfl rfl)
theorem dX1_feed_21 : decode cX1_feed 21 = .ok (.iload_n 2, 1) := dk_28 (dk_at dksX1_feed_0 21 rfl rfl)
theorem dX1_feed_22 : decode cX1_feed 22 = .ok (.iload_n 3, 1) := dk_29 (dk_at dksX1_feed_0 22 rfl rfl)
theorem dX1_feed_23 : decode cX1_feed 23 = .ok (.iload 4, 2) := dk_21 4 (dk_at dksX1_feed_1 0 rfl rfl)
theorem dX1_feed_25 : decode cX1_feed 25 = .ok (.iload 5, 2) := dk_21 5 (dk_at dksX1_feed_1 2 rfl rfl)
theorem dX1_feed_27 : decode cX1_feed 27 = .ok (.iload 6, 2) := dk_21 6 (dk_at dksX1_feed_1 4 rfl rfl)
theorem dX1_feed_29 : decode cX1_feed 29 = .ok (.invokestatic 76, 3) := dk_184 0 76 (dk_at dksX1_feed_1 6 rfl rfl)
theorem dX1_feed_32 : decode cX1_feed 32 = .ok (.aload_n 0, 1) := dk_42 (dk_at dksX1_feed_1 9 rfl rfl)
theorem dX1_feed_33 : decode cX1_feed 33 = .ok (.dup, 1) := dk_89 (dk_at dksX1_feed_1 10 rfl rfl)
theorem dX1_feed_34 : decode cX1_feed 34 = .ok (.getfield 89, 3) := dk_180 0 89 (dk_at dksX1_feed_1 11 rfl rfl)
theorem dX1_feed_37 : decode cX1_feed 37 = .ok (.iconst 1, 1) := dk_4 (dk_at dksX1_feed_1 14 rfl rfl)
theorem dX1_feed_38 : decode cX1_feed 38 = .ok (.iadd, 1) := dk_96 (dk_at dksX1_feed_1 15 rfl rfl)
theorem dX1_feed_39 : decode cX1_feed 39 = .ok (.putfield 89, 3) := dk_181 0 89 (dk_at dksX1_feed_1 16 rfl rfl)
theorem dX1_feed_42 : decode cX1_feed 42 = .ok (.aload_n 0, 1) := dk_42 (dk_at dksX1_feed_1 19 rfl rfl)
theorem dX1_feed_43 : decode cX1_feed 43 = .ok (.getfield 89, 3) := dk_180 0 89 (dk_at dksX1_feed_1 20 rfl rfl)
theorem dX1_feed_46 : decode cX1_feed 46 = .ok (.ireturn, 1) := dk_172 (dk_at dksX1_feed_1 23 rfl rfl)
abbrev cX1_write : ByteArray := prog_1_method_7_code
def yX1_write : MethodName := ⟨RX1, "write", "([IIIIIIII)V"⟩
def dkwX1_write_1 : List UInt8 := [21, 6, 79, 89, 8, 21, 7, 79, 58, 8, 25, 8, 3, 42, 16, 6, 27, 104, 16, 6, 184, 0, 83, 177]
abbrev dktX1_write_1 : List UInt8 := dkwX1_write_1 ++ []
def dkwX1_write_0 : List UInt8 := [16, 6, 188, 10, 89, 3, 28, 79, 89, 4, 29, 79, 89, 5, 21, 4, 79, 89, 6, 21, 5, 79, 89, 7]
abbrev dktX1_write_0 : List UInt8 := dkwX1_write_0 ++ dktX1_write_1
theorem dksX1_write_0 : cX1_write.data.toList.drop 0 = dktX1_write_0 := by decide +kernel
theorem dksX1_write_1 : cX1_write.data.toList.drop 24 = dktX1_write_1 := dk_seg dksX1_write_0 24 rfl rfl
theorem dX1_write_0 : decode cX1_write 0 = .ok (.bipush 6, 2) := dk_16 6 (dk_at dksX1_write_0 0 rfl rfl)
theorem dX1_write_2 : decode cX1_write 2 = .ok (.newarray .int, 2) := dk_188_10 (dk_at dksX1_write_0 2 rfl rfl)
theorem dX1_write_4 : decode cX1_write 4 = .ok (.dup, 1) := dk_89 (dk_at dksX1_write_0 4 rfl rfl)
theorem dX1_write_5 : decode cX1_write 5 = .ok (.iconst 0, 1) := dk_3 (dk_at dksX1_write_0 5 rfl rfl)
theorem dX1_write_6 : decode cX1_write 6 = .ok (.iload_n 2, 1) := dk_28 (dk_at dksX1_write_0 6 rfl rfl)
theorem dX1_write_7 : decode cX1_write 7 = .ok (.iastore, 1) := dk_79 (dk_at dksX1_write_0 7 rfl rfl)
theorem dX1_write_8 : decode cX1_write 8 = .ok (.dup, 1) := dk_89 (dk_at dksX1_write_0 8 rfl rfl)
theorem dX1_write_9 : decode cX1_write 9 = .ok (.iconst 1, 1) := dk_4 (dk_at dksX1_write_0 9 rfl rfl)
theorem dX1_write_10 : decode cX1_write 10 = .ok (.iload_n 3, 1) := dk_29 (dk_at dksX1_write_0 10 rfl rfl)
theorem dX1_write_11 : decode cX1_write 11 = .ok (.iastore, 1) := dk_79 (dk_at dksX1_write_0 11 rfl rfl)
theorem dX1_write_12 : decode cX1_write 12 = .ok (.dup, 1) := dk_89 (dk_at dksX1_write_0 12 rfl rfl)
theorem dX1_write_13 : decode cX1_write 13 = .ok (.iconst 2, 1) := dk_5 (dk_at dksX1_write_0 13 rfl rfl)
theorem dX1_write_14 : decode cX1_write 14 = .ok (.iload 4, 2) := dk_21 4 (dk_at dksX1_write_0 14 rfl rfl)
theorem dX1_write_16 : decode cX1_write 16 = .ok (.iastore, 1) := dk_79 (dk_at dksX1_write_0 16 rfl rfl)
theorem dX1_write_17 : decode cX1_write 17 = .ok (.dup, 1) := dk_89 (dk_at dksX1_write_0 17 rfl rfl)
theorem dX1_write_18 : decode cX1_write 18 = .ok (.iconst 3, 1) := dk_6 (dk_at dksX1_write_0 18 rfl rfl)
theorem dX1_write_19 : decode cX1_write 19 = .ok (.iload 5, 2) := dk_21 5 (dk_at dksX1_write_0 19 rfl rfl)
theorem dX1_write_21 : decode cX1_write 21 = .ok (.iastore, 1) := dk_79 (dk_at dksX1_write_0 21 rfl rfl)
theorem dX1_write_22 : decode cX1_write 22 = .ok (.dup, 1) := dk_89 (dk_at dksX1_write_0 22 rfl rfl)
theorem dX1_write_23 : decode cX1_write 23 = .ok (.iconst 4, 1) := dk_7 (dk_at dksX1_write_0 23 rfl rfl)
theorem dX1_write_24 : decode cX1_write 24 = .ok (.iload 6, 2) := dk_21 6 (dk_at dksX1_write_1 0 rfl rfl)
theorem dX1_write_26 : decode cX1_write 26 = .ok (.iastore, 1) := dk_79 (dk_at dksX1_write_1 2 rfl rfl)
theorem dX1_write_27 : decode cX1_write 27 = .ok (.dup, 1) := dk_89 (dk_at dksX1_write_1 3 rfl rfl)
theorem dX1_write_28 : decode cX1_write 28 = .ok (.iconst 5, 1) := dk_8 (dk_at dksX1_write_1 4 rfl rfl)
theorem dX1_write_29 : decode cX1_write 29 = .ok (.iload 7, 2) := dk_21 7 (dk_at dksX1_write_1 5 rfl rfl)
theorem dX1_write_31 : decode cX1_write 31 = .ok (.iastore, 1) := dk_79 (dk_at dksX1_write_1 7 rfl rfl)
theorem dX1_write_32 : decode cX1_write 32 = .ok (.astore 8, 2) := dk_58 8 (dk_at dksX1_write_1 8 rfl rfl)
theorem dX1_write_34 : decode cX1_write 34 = .ok (.aload 8, 2) := dk_25 8 (dk_at dksX1_write_1 10 rfl rfl)
theorem dX1_write_36 : decode cX1_write 36 = .ok (.iconst 0, 1) := dk_3 (dk_at dksX1_write_1 12 rfl rfl)
theorem dX1_write_37 : decode cX1_write 37 = .ok (.aload_n 0, 1) := dk_42 (dk_at dksX1_write_1 13 rfl rfl)
theorem dX1_write_38 : decode cX1_write 38 = .ok (.bipush 6, 2) := dk_16 6 (dk_at dksX1_write_1 14 rfl rfl)
theorem dX1_write_40 : decode cX1_write 40 = .ok (.iload_n 1, 1) := dk_27 (dk_at dksX1_write_1 16 rfl rfl)
theorem dX1_write_41 : decode cX1_write 41 = .ok (.imul, 1) := dk_104 (dk_at dksX1_write_1 17 rfl rfl)
theorem dX1_write_42 : decode cX1_write 42 = .ok (.bipush 6, 2) := dk_16 6 (dk_at dksX1_write_1 18 rfl rfl)
theorem dX1_write_44 : decode cX1_write 44 = .ok (.invokestatic 83, 3) := dk_184 0 83 (dk_at dksX1_write_1 20 rfl rfl)
theorem dX1_write_47 : decode cX1_write 47 = .ok (.return_, 1) := dk_177 (dk_at dksX1_write_1 23 rfl rfl)
abbrev cX1_check : ByteArray := prog_1_method_10_code
def yX1_check : MethodName := ⟨RX1, "check", "()I"⟩
def dkwX1_check_2 : List UInt8 := [182, 0, 95, 172]
abbrev dktX1_check_2 : List UInt8 := dkwX1_check_2 ++ []
def dkwX1_check_1 : List UInt8 := [180, 0, 89, 60, 42, 3, 181, 0, 89, 42, 187, 0, 23, 89, 42, 183, 0, 25, 42, 180, 0, 36, 27]
abbrev dktX1_check_1 : List UInt8 := dkwX1_check_1 ++ dktX1_check_2
def dkwX1_check_0 : List UInt8 := [42, 180, 0, 92, 16, 60, 160, 0, 6, 16, 254, 172, 42, 89, 180, 0, 92, 4, 96, 181, 0, 92, 42]
abbrev dktX1_check_0 : List UInt8 := dkwX1_check_0 ++ dktX1_check_1
theorem dksX1_check_0 : cX1_check.data.toList.drop 0 = dktX1_check_0 := by decide +kernel
theorem dksX1_check_1 : cX1_check.data.toList.drop 23 = dktX1_check_1 := dk_seg dksX1_check_0 23 rfl rfl
theorem dksX1_check_2 : cX1_check.data.toList.drop 46 = dktX1_check_2 := dk_seg dksX1_check_1 23 rfl rfl
theorem dX1_check_0 : decode cX1_check 0 = .ok (.aload_n 0, 1) := dk_42 (dk_at dksX1_check_0 0 rfl rfl)
theorem dX1_check_1 : decode cX1_check 1 = .ok (.getfield 92, 3) := dk_180 0 92 (dk_at dksX1_check_0 1 rfl rfl)
theorem dX1_check_4 : decode cX1_check 4 = .ok (.bipush 60, 2) := dk_16 60 (dk_at dksX1_check_0 4 rfl rfl)
theorem dX1_check_6 : decode cX1_check 6 = .ok (.if_icmp .ne 6, 3) := dk_160 0 6 (dk_at dksX1_check_0 6 rfl rfl)
theorem dX1_check_9 : decode cX1_check 9 = .ok (.bipush (-2), 2) := dk_16 254 (dk_at dksX1_check_0 9 rfl rfl)
theorem dX1_check_11 : decode cX1_check 11 = .ok (.ireturn, 1) := dk_172 (dk_at dksX1_check_0 11 rfl rfl)
theorem dX1_check_12 : decode cX1_check 12 = .ok (.aload_n 0, 1) := dk_42 (dk_at dksX1_check_0 12 rfl rfl)
theorem dX1_check_13 : decode cX1_check 13 = .ok (.dup, 1) := dk_89 (dk_at dksX1_check_0 13 rfl rfl)
theorem dX1_check_14 : decode cX1_check 14 = .ok (.getfield 92, 3) := dk_180 0 92 (dk_at dksX1_check_0 14 rfl rfl)
theorem dX1_check_17 : decode cX1_check 17 = .ok (.iconst 1, 1) := dk_4 (dk_at dksX1_check_0 17 rfl rfl)
theorem dX1_check_18 : decode cX1_check 18 = .ok (.iadd, 1) := dk_96 (dk_at dksX1_check_0 18 rfl rfl)
theorem dX1_check_19 : decode cX1_check 19 = .ok (.putfield 92, 3) := dk_181 0 92 (dk_at dksX1_check_0 19 rfl rfl)
theorem dX1_check_22 : decode cX1_check 22 = .ok (.aload_n 0, 1) := dk_42 (dk_at dksX1_check_0 22 rfl rfl)
theorem dX1_check_23 : decode cX1_check 23 = .ok (.getfield 89, 3) := dk_180 0 89 (dk_at dksX1_check_1 0 rfl rfl)
theorem dX1_check_26 : decode cX1_check 26 = .ok (.istore_n 1, 1) := dk_60 (dk_at dksX1_check_1 3 rfl rfl)
theorem dX1_check_27 : decode cX1_check 27 = .ok (.aload_n 0, 1) := dk_42 (dk_at dksX1_check_1 4 rfl rfl)
theorem dX1_check_28 : decode cX1_check 28 = .ok (.iconst 0, 1) := dk_3 (dk_at dksX1_check_1 5 rfl rfl)
theorem dX1_check_29 : decode cX1_check 29 = .ok (.putfield 89, 3) := dk_181 0 89 (dk_at dksX1_check_1 6 rfl rfl)
theorem dX1_check_32 : decode cX1_check 32 = .ok (.aload_n 0, 1) := dk_42 (dk_at dksX1_check_1 9 rfl rfl)
theorem dX1_check_33 : decode cX1_check 33 = .ok (.new 23, 3) := dk_187 0 23 (dk_at dksX1_check_1 10 rfl rfl)
theorem dX1_check_36 : decode cX1_check 36 = .ok (.dup, 1) := dk_89 (dk_at dksX1_check_1 13 rfl rfl)
theorem dX1_check_37 : decode cX1_check 37 = .ok (.aload_n 0, 1) := dk_42 (dk_at dksX1_check_1 14 rfl rfl)
theorem dX1_check_38 : decode cX1_check 38 = .ok (.invokespecial 25, 3) := dk_183 0 25 (dk_at dksX1_check_1 15 rfl rfl)
theorem dX1_check_41 : decode cX1_check 41 = .ok (.aload_n 0, 1) := dk_42 (dk_at dksX1_check_1 18 rfl rfl)
theorem dX1_check_42 : decode cX1_check 42 = .ok (.getfield 36, 3) := dk_180 0 36 (dk_at dksX1_check_1 19 rfl rfl)
theorem dX1_check_45 : decode cX1_check 45 = .ok (.iload_n 1, 1) := dk_27 (dk_at dksX1_check_1 22 rfl rfl)
theorem dX1_check_46 : decode cX1_check 46 = .ok (.invokevirtual 95, 3) := dk_182 0 95 (dk_at dksX1_check_2 0 rfl rfl)
theorem dX1_check_49 : decode cX1_check 49 = .ok (.ireturn, 1) := dk_172 (dk_at dksX1_check_2 3 rfl rfl)
abbrev cX1_firstRefused : ByteArray := prog_1_method_8_code
def yX1_firstRefused : MethodName := ⟨RX1, "firstRefused", "(LChurchyardBook$Book;[II)I"⟩
def dkwX1_firstRefused_3 : List UInt8 := [58, 5, 21, 4, 172, 132, 4, 1, 167, 255, 181, 2, 172]
abbrev dktX1_firstRefused_3 : List UInt8 := dkwX1_firstRefused_3 ++ []
def dkwX1_firstRefused_2 : List UInt8 := [21, 4, 104, 7, 96, 46, 44, 16, 6, 21, 4, 104, 8, 96, 46, 182, 0, 72, 54, 5, 167, 0, 8]
abbrev dktX1_firstRefused_2 : List UInt8 := dkwX1_firstRefused_2 ++ dktX1_firstRefused_3
def dkwX1_firstRefused_1 : List UInt8 := [96, 46, 44, 16, 6, 21, 4, 104, 5, 96, 46, 44, 16, 6, 21, 4, 104, 6, 96, 46, 44, 16, 6]
abbrev dktX1_firstRefused_1 : List UInt8 := dkwX1_firstRefused_1 ++ dktX1_firstRefused_2
def dkwX1_firstRefused_0 : List UInt8 := [3, 54, 4, 21, 4, 29, 162, 0, 75, 43, 44, 16, 6, 21, 4, 104, 46, 44, 16, 6, 21, 4, 104, 4]
abbrev dktX1_firstRefused_0 : List UInt8 := dkwX1_firstRefused_0 ++ dktX1_firstRefused_1
theorem dksX1_firstRefused_0 : cX1_firstRefused.data.toList.drop 0 = dktX1_firstRefused_0 := by decide +kernel
theorem dksX1_firstRefused_1 : cX1_firstRefused.data.toList.drop 24 = dktX1_firstRefused_1 := dk_seg dksX1_firstRefused_0 24 rfl rfl
theorem dksX1_firstRefused_2 : cX1_firstRefused.data.toList.drop 47 = dktX1_firstRefused_2 := dk_seg dksX1_firstRefused_1 23 rfl rfl
theorem dksX1_firstRefused_3 : cX1_firstRefused.data.toList.drop 70 = dktX1_firstRefused_3 := dk_seg dksX1_firstRefused_2 23 rfl rfl
theorem dX1_firstRefused_0 : decode cX1_firstRefused 0 = .ok (.iconst 0, 1) := dk_3 (dk_at dksX1_firstRefused_0 0 rfl rfl)
theorem dX1_firstRefused_1 : decode cX1_firstRefused 1 = .ok (.istore 4, 2) := dk_54 4 (dk_at dksX1_firstRefused_0 1 rfl rfl)
theorem dX1_firstRefused_3 : decode cX1_firstRefused 3 = .ok (.iload 4, 2) := dk_21 4 (dk_at dksX1_firstRefused_0 3 rfl rfl)
theorem dX1_firstRefused_5 : decode cX1_firstRefused 5 = .ok (.iload_n 3, 1) := dk_29 (dk_at dksX1_firstRefused_0 5 rfl rfl)
theorem dX1_firstRefused_6 : decode cX1_firstRefused 6 = .ok (.if_icmp .ge 75, 3) := dk_162 0 75 (dk_at dksX1_firstRefused_0 6 rfl rfl)
theorem dX1_firstRefused_9 : decode cX1_firstRefused 9 = .ok (.aload_n 1, 1) := dk_43 (dk_at dksX1_firstRefused_0 9 rfl rfl)
theorem dX1_firstRefused_10 : decode cX1_firstRefused 10 = .ok (.aload_n 2, 1) := dk_44 (dk_at dksX1_firstRefused_0 10 rfl rfl)
theorem dX1_firstRefused_11 : decode cX1_firstRefused 11 = .ok (.bipush 6, 2) := dk_16 6 (dk_at dksX1_firstRefused_0 11 rfl rfl)
theorem dX1_firstRefused_13 : decode cX1_firstRefused 13 = .ok (.iload 4, 2) := dk_21 4 (dk_at dksX1_firstRefused_0 13 rfl rfl)
theorem dX1_firstRefused_15 : decode cX1_firstRefused 15 = .ok (.imul, 1) := dk_104 (dk_at dksX1_firstRefused_0 15 rfl rfl)
theorem dX1_firstRefused_16 : decode cX1_firstRefused 16 = .ok (.iaload, 1) := dk_46 (dk_at dksX1_firstRefused_0 16 rfl rfl)
theorem dX1_firstRefused_17 : decode cX1_firstRefused 17 = .ok (.aload_n 2, 1) := dk_44 (dk_at dksX1_firstRefused_0 17 rfl rfl)
theorem dX1_firstRefused_18 : decode cX1_firstRefused 18 = .ok (.bipush 6, 2) := dk_16 6 (dk_at dksX1_firstRefused_0 18 rfl rfl)
theorem dX1_firstRefused_20 : decode cX1_firstRefused 20 = .ok (.iload 4, 2) := dk_21 4 (dk_at dksX1_firstRefused_0 20 rfl rfl)
theorem dX1_firstRefused_22 : decode cX1_firstRefused 22 = .ok (.imul, 1) := dk_104 (dk_at dksX1_firstRefused_0 22 rfl rfl)
theorem dX1_firstRefused_23 : decode cX1_firstRefused 23 = .ok (.iconst 1, 1) := dk_4 (dk_at dksX1_firstRefused_0 23 rfl rfl)
theorem dX1_firstRefused_24 : decode cX1_firstRefused 24 = .ok (.iadd, 1) := dk_96 (dk_at dksX1_firstRefused_1 0 rfl rfl)
theorem dX1_firstRefused_25 : decode cX1_firstRefused 25 = .ok (.iaload, 1) := dk_46 (dk_at dksX1_firstRefused_1 1 rfl rfl)
theorem dX1_firstRefused_26 : decode cX1_firstRefused 26 = .ok (.aload_n 2, 1) := dk_44 (dk_at dksX1_firstRefused_1 2 rfl rfl)
theorem dX1_firstRefused_27 : decode cX1_firstRefused 27 = .ok (.bipush 6, 2) := dk_16 6 (dk_at dksX1_firstRefused_1 3 rfl rfl)
theorem dX1_firstRefused_29 : decode cX1_firstRefused 29 = .ok (.iload 4, 2) := dk_21 4 (dk_at dksX1_firstRefused_1 5 rfl rfl)
theorem dX1_firstRefused_31 : decode cX1_firstRefused 31 = .ok (.imul, 1) := dk_104 (dk_at dksX1_firstRefused_1 7 rfl rfl)
theorem dX1_firstRefused_32 : decode cX1_firstRefused 32 = .ok (.iconst 2, 1) := dk_5 (dk_at dksX1_firstRefused_1 8 rfl rfl)
theorem dX1_firstRefused_33 : decode cX1_firstRefused 33 = .ok (.iadd, 1) := dk_96 (dk_at dksX1_firstRefused_1 9 rfl rfl)
theorem dX1_firstRefused_34 : decode cX1_firstRefused 34 = .ok (.iaload, 1) := dk_46 (dk_at dksX1_firstRefused_1 10 rfl rfl)
theorem dX1_firstRefused_35 : decode cX1_firstRefused 35 = .ok (.aload_n 2, 1) := dk_44 (dk_at dksX1_firstRefused_1 11 rfl rfl)
theorem dX1_firstRefused_36 : decode cX1_firstRefused 36 = .ok (.bipush 6, 2) := dk_16 6 (dk_at dksX1_firstRefused_1 12 rfl rfl)
theorem dX1_firstRefused_38 : decode cX1_firstRefused 38 = .ok (.iload 4, 2) := dk_21 4 (dk_at dksX1_firstRefused_1 14 rfl rfl)
theorem dX1_firstRefused_40 : decode cX1_firstRefused 40 = .ok (.imul, 1) := dk_104 (dk_at dksX1_firstRefused_1 16 rfl rfl)
theorem dX1_firstRefused_41 : decode cX1_firstRefused 41 = .ok (.iconst 3, 1) := dk_6 (dk_at dksX1_firstRefused_1 17 rfl rfl)
theorem dX1_firstRefused_42 : decode cX1_firstRefused 42 = .ok (.iadd, 1) := dk_96 (dk_at dksX1_firstRefused_1 18 rfl rfl)
theorem dX1_firstRefused_43 : decode cX1_firstRefused 43 = .ok (.iaload, 1) := dk_46 (dk_at dksX1_firstRefused_1 19 rfl rfl)
theorem dX1_firstRefused_44 : decode cX1_firstRefused 44 = .ok (.aload_n 2, 1) := dk_44 (dk_at dksX1_firstRefused_1 20 rfl rfl)
theorem dX1_firstRefused_45 : decode cX1_firstRefused 45 = .ok (.bipush 6, 2) := dk_16 6 (dk_at dksX1_firstRefused_1 21 rfl rfl)
theorem dX1_firstRefused_47 : decode cX1_firstRefused 47 = .ok (.iload 4, 2) := dk_21 4 (dk_at dksX1_firstRefused_2 0 rfl rfl)
theorem dX1_firstRefused_49 : decode cX1_firstRefused 49 = .ok (.imul, 1) := dk_104 (dk_at dksX1_firstRefused_2 2 rfl rfl)
theorem dX1_firstRefused_50 : decode cX1_firstRefused 50 = .ok (.iconst 4, 1) := dk_7 (dk_at dksX1_firstRefused_2 3 rfl rfl)
theorem dX1_firstRefused_51 : decode cX1_firstRefused 51 = .ok (.iadd, 1) := dk_96 (dk_at dksX1_firstRefused_2 4 rfl rfl)
theorem dX1_firstRefused_52 : decode cX1_firstRefused 52 = .ok (.iaload, 1) := dk_46 (dk_at dksX1_firstRefused_2 5 rfl rfl)
theorem dX1_firstRefused_53 : decode cX1_firstRefused 53 = .ok (.aload_n 2, 1) := dk_44 (dk_at dksX1_firstRefused_2 6 rfl rfl)
theorem dX1_firstRefused_54 : decode cX1_firstRefused 54 = .ok (.bipush 6, 2) := dk_16 6 (dk_at dksX1_firstRefused_2 7 rfl rfl)
theorem dX1_firstRefused_56 : decode cX1_firstRefused 56 = .ok (.iload 4, 2) := dk_21 4 (dk_at dksX1_firstRefused_2 9 rfl rfl)
theorem dX1_firstRefused_58 : decode cX1_firstRefused 58 = .ok (.imul, 1) := dk_104 (dk_at dksX1_firstRefused_2 11 rfl rfl)
theorem dX1_firstRefused_59 : decode cX1_firstRefused 59 = .ok (.iconst 5, 1) := dk_8 (dk_at dksX1_firstRefused_2 12 rfl rfl)
theorem dX1_firstRefused_60 : decode cX1_firstRefused 60 = .ok (.iadd, 1) := dk_96 (dk_at dksX1_firstRefused_2 13 rfl rfl)
theorem dX1_firstRefused_61 : decode cX1_firstRefused 61 = .ok (.iaload, 1) := dk_46 (dk_at dksX1_firstRefused_2 14 rfl rfl)
theorem dX1_firstRefused_62 : decode cX1_firstRefused 62 = .ok (.invokevirtual 72, 3) := dk_182 0 72 (dk_at dksX1_firstRefused_2 15 rfl rfl)
theorem dX1_firstRefused_65 : decode cX1_firstRefused 65 = .ok (.istore 5, 2) := dk_54 5 (dk_at dksX1_firstRefused_2 18 rfl rfl)
theorem dX1_firstRefused_67 : decode cX1_firstRefused 67 = .ok (.goto 8, 3) := dk_167 0 8 (dk_at dksX1_firstRefused_2 20 rfl rfl)
theorem dX1_firstRefused_70 : decode cX1_firstRefused 70 = .ok (.astore 5, 2) := dk_58 5 (dk_at dksX1_firstRefused_3 0 rfl rfl)
theorem dX1_firstRefused_72 : decode cX1_firstRefused 72 = .ok (.iload 4, 2) := dk_21 4 (dk_at dksX1_firstRefused_3 2 rfl rfl)
theorem dX1_firstRefused_74 : decode cX1_firstRefused 74 = .ok (.ireturn, 1) := dk_172 (dk_at dksX1_firstRefused_3 4 rfl rfl)
theorem dX1_firstRefused_75 : decode cX1_firstRefused 75 = .ok (.iinc 4 1, 3) := dk_132 4 1 (dk_at dksX1_firstRefused_3 5 rfl rfl)
theorem dX1_firstRefused_78 : decode cX1_firstRefused 78 = .ok (.goto (-75), 3) := dk_167 255 181 (dk_at dksX1_firstRefused_3 8 rfl rfl)
theorem dX1_firstRefused_81 : decode cX1_firstRefused 81 = .ok (.iconst (-1), 1) := dk_2 (dk_at dksX1_firstRefused_3 11 rfl rfl)
theorem dX1_firstRefused_82 : decode cX1_firstRefused 82 = .ok (.ireturn, 1) := dk_172 (dk_at dksX1_firstRefused_3 12 rfl rfl)
abbrev cX1_need : ByteArray := prog_1_method_5_code
def yX1_need : MethodName := ⟨RX1, "need", "(ZI)V"⟩
def dkwX1_need_0 : List UInt8 := [26, 154, 0, 12, 187, 0, 63, 89, 27, 183, 0, 65, 191, 177]
abbrev dktX1_need_0 : List UInt8 := dkwX1_need_0 ++ []
theorem dksX1_need_0 : cX1_need.data.toList.drop 0 = dktX1_need_0 := by decide +kernel
theorem dX1_need_0 : decode cX1_need 0 = .ok (.iload_n 0, 1) := dk_26 (dk_at dksX1_need_0 0 rfl rfl)
theorem dX1_need_1 : decode cX1_need 1 = .ok (.ifCond .ne 12, 3) := dk_154 0 12 (dk_at dksX1_need_0 1 rfl rfl)
theorem dX1_need_4 : decode cX1_need 4 = .ok (.new 63, 3) := dk_187 0 63 (dk_at dksX1_need_0 4 rfl rfl)
theorem dX1_need_7 : decode cX1_need 7 = .ok (.dup, 1) := dk_89 (dk_at dksX1_need_0 7 rfl rfl)
theorem dX1_need_8 : decode cX1_need 8 = .ok (.iload_n 1, 1) := dk_27 (dk_at dksX1_need_0 8 rfl rfl)
theorem dX1_need_9 : decode cX1_need 9 = .ok (.invokespecial 65, 3) := dk_183 0 65 (dk_at dksX1_need_0 9 rfl rfl)
theorem dX1_need_12 : decode cX1_need 12 = .ok (.athrow, 1) := dk_191 (dk_at dksX1_need_0 12 rfl rfl)
theorem dX1_need_13 : decode cX1_need 13 = .ok (.return_, 1) := dk_177 (dk_at dksX1_need_0 13 rfl rfl)
abbrev cX1_newRow : ByteArray := prog_1_method_2_code
def yX1_newRow : MethodName := ⟨RX1, "newRow", "(II)[LChurchyardBook$Place;"⟩
def dkwX1_newRow_2 : List UInt8 := [27, 189, 0, 39, 176, 27, 189, 0, 41, 176, 27, 189, 0, 43, 176, 27, 189, 0, 45, 176]
abbrev dktX1_newRow_2 : List UInt8 := dkwX1_newRow_2 ++ []
def dkwX1_newRow_1 : List UInt8 := [170, 0, 0, 0, 0, 0, 42, 0, 0, 0, 0, 0, 0, 0, 2, 0, 0, 0, 27, 0, 0, 0, 32, 0, 0, 0, 37]
abbrev dktX1_newRow_1 : List UInt8 := dkwX1_newRow_1 ++ dktX1_newRow_2
def dkwX1_newRow_0 : List UInt8 := [26]
abbrev dktX1_newRow_0 : List UInt8 := dkwX1_newRow_0 ++ dktX1_newRow_1
theorem dksX1_newRow_0 : cX1_newRow.data.toList.drop 0 = dktX1_newRow_0 := by decide +kernel
theorem dksX1_newRow_1 : cX1_newRow.data.toList.drop 1 = dktX1_newRow_1 := dk_seg dksX1_newRow_0 1 rfl rfl
theorem dksX1_newRow_2 : cX1_newRow.data.toList.drop 28 = dktX1_newRow_2 := dk_seg dksX1_newRow_1 27 rfl rfl
theorem dX1_newRow_0 : decode cX1_newRow 0 = .ok (.iload_n 0, 1) := dk_26 (dk_at dksX1_newRow_0 0 rfl rfl)
theorem dX1_newRow_1 : decode cX1_newRow 1 = .ok (.tableswitch 42 0 2 #[27, 32, 37], 27) := by decide +kernel
theorem dX1_newRow_28 : decode cX1_newRow 28 = .ok (.iload_n 1, 1) := dk_27 (dk_at dksX1_newRow_2 0 rfl rfl)
theorem dX1_newRow_29 : decode cX1_newRow 29 = .ok (.anewarray 39, 3) := dk_189 0 39 (dk_at dksX1_newRow_2 1 rfl rfl)
theorem dX1_newRow_32 : decode cX1_newRow 32 = .ok (.areturn, 1) := dk_176 (dk_at dksX1_newRow_2 4 rfl rfl)
theorem dX1_newRow_33 : decode cX1_newRow 33 = .ok (.iload_n 1, 1) := dk_27 (dk_at dksX1_newRow_2 5 rfl rfl)
theorem dX1_newRow_34 : decode cX1_newRow 34 = .ok (.anewarray 41, 3) := dk_189 0 41 (dk_at dksX1_newRow_2 6 rfl rfl)
theorem dX1_newRow_37 : decode cX1_newRow 37 = .ok (.areturn, 1) := dk_176 (dk_at dksX1_newRow_2 9 rfl rfl)
theorem dX1_newRow_38 : decode cX1_newRow 38 = .ok (.iload_n 1, 1) := dk_27 (dk_at dksX1_newRow_2 10 rfl rfl)
theorem dX1_newRow_39 : decode cX1_newRow 39 = .ok (.anewarray 43, 3) := dk_189 0 43 (dk_at dksX1_newRow_2 11 rfl rfl)
theorem dX1_newRow_42 : decode cX1_newRow 42 = .ok (.areturn, 1) := dk_176 (dk_at dksX1_newRow_2 14 rfl rfl)
theorem dX1_newRow_43 : decode cX1_newRow 43 = .ok (.iload_n 1, 1) := dk_27 (dk_at dksX1_newRow_2 15 rfl rfl)
theorem dX1_newRow_44 : decode cX1_newRow 44 = .ok (.anewarray 45, 3) := dk_189 0 45 (dk_at dksX1_newRow_2 16 rfl rfl)
theorem dX1_newRow_47 : decode cX1_newRow 47 = .ok (.areturn, 1) := dk_176 (dk_at dksX1_newRow_2 19 rfl rfl)
abbrev cX1_isWide : ByteArray := prog_1_method_4_code
def yX1_isWide : MethodName := ⟨RX1, "isWide", "(II)Z"⟩
def dkwX1_isWide_2 : List UInt8 := [167, 0, 4, 3, 172]
abbrev dktX1_isWide_2 : List UInt8 := dkwX1_isWide_2 ++ []
def dkwX1_isWide_1 : List UInt8 := [8, 160, 0, 16, 27, 6, 160, 0, 7, 4, 167, 0, 17, 3, 167, 0, 13, 27, 4, 160, 0, 7, 4]
abbrev dktX1_isWide_1 : List UInt8 := dkwX1_isWide_1 ++ dktX1_isWide_2
def dkwX1_isWide_0 : List UInt8 := [26, 6, 160, 0, 21, 27, 5, 161, 0, 12, 27, 7, 163, 0, 7, 4, 167, 0, 35, 3, 167, 0, 31, 26]
abbrev dktX1_isWide_0 : List UInt8 := dkwX1_isWide_0 ++ dktX1_isWide_1
theorem dksX1_isWide_0 : cX1_isWide.data.toList.drop 0 = dktX1_isWide_0 := by decide +kernel
theorem dksX1_isWide_1 : cX1_isWide.data.toList.drop 24 = dktX1_isWide_1 := dk_seg dksX1_isWide_0 24 rfl rfl
theorem dksX1_isWide_2 : cX1_isWide.data.toList.drop 47 = dktX1_isWide_2 := dk_seg dksX1_isWide_1 23 rfl rfl
theorem dX1_isWide_0 : decode cX1_isWide 0 = .ok (.iload_n 0, 1) := dk_26 (dk_at dksX1_isWide_0 0 rfl rfl)
theorem dX1_isWide_1 : decode cX1_isWide 1 = .ok (.iconst 3, 1) := dk_6 (dk_at dksX1_isWide_0 1 rfl rfl)
theorem dX1_isWide_2 : decode cX1_isWide 2 = .ok (.if_icmp .ne 21, 3) := dk_160 0 21 (dk_at dksX1_isWide_0 2 rfl rfl)
theorem dX1_isWide_5 : decode cX1_isWide 5 = .ok (.iload_n 1, 1) := dk_27 (dk_at dksX1_isWide_0 5 rfl rfl)
theorem dX1_isWide_6 : decode cX1_isWide 6 = .ok (.iconst 2, 1) := dk_5 (dk_at dksX1_isWide_0 6 rfl rfl)
theorem dX1_isWide_7 : decode cX1_isWide 7 = .ok (.if_icmp .lt 12, 3) := dk_161 0 12 (dk_at dksX1_isWide_0 7 rfl rfl)
theorem dX1_isWide_10 : decode cX1_isWide 10 = .ok (.iload_n 1, 1) := dk_27 (dk_at dksX1_isWide_0 10 rfl rfl)
theorem dX1_isWide_11 : decode cX1_isWide 11 = .ok (.iconst 4, 1) := dk_7 (dk_at dksX1_isWide_0 11 rfl rfl)
theorem dX1_isWide_12 : decode cX1_isWide 12 = .ok (.if_icmp .gt 7, 3) := dk_163 0 7 (dk_at dksX1_isWide_0 12 rfl rfl)
theorem dX1_isWide_15 : decode cX1_isWide 15 = .ok (.iconst 1, 1) := dk_4 (dk_at dksX1_isWide_0 15 rfl rfl)
theorem dX1_isWide_16 : decode cX1_isWide 16 = .ok (.goto 35, 3) := dk_167 0 35 (dk_at dksX1_isWide_0 16 rfl rfl)
theorem dX1_isWide_19 : decode cX1_isWide 19 = .ok (.iconst 0, 1) := dk_3 (dk_at dksX1_isWide_0 19 rfl rfl)
theorem dX1_isWide_20 : decode cX1_isWide 20 = .ok (.goto 31, 3) := dk_167 0 31 (dk_at dksX1_isWide_0 20 rfl rfl)
theorem dX1_isWide_23 : decode cX1_isWide 23 = .ok (.iload_n 0, 1) := dk_26 (dk_at dksX1_isWide_0 23 rfl rfl)
theorem dX1_isWide_24 : decode cX1_isWide 24 = .ok (.iconst 5, 1) := dk_8 (dk_at dksX1_isWide_1 0 rfl rfl)
theorem dX1_isWide_25 : decode cX1_isWide 25 = .ok (.if_icmp .ne 16, 3) := dk_160 0 16 (dk_at dksX1_isWide_1 1 rfl rfl)
theorem dX1_isWide_28 : decode cX1_isWide 28 = .ok (.iload_n 1, 1) := dk_27 (dk_at dksX1_isWide_1 4 rfl rfl)
theorem dX1_isWide_29 : decode cX1_isWide 29 = .ok (.iconst 3, 1) := dk_6 (dk_at dksX1_isWide_1 5 rfl rfl)
theorem dX1_isWide_30 : decode cX1_isWide 30 = .ok (.if_icmp .ne 7, 3) := dk_160 0 7 (dk_at dksX1_isWide_1 6 rfl rfl)
theorem dX1_isWide_33 : decode cX1_isWide 33 = .ok (.iconst 1, 1) := dk_4 (dk_at dksX1_isWide_1 9 rfl rfl)
theorem dX1_isWide_34 : decode cX1_isWide 34 = .ok (.goto 17, 3) := dk_167 0 17 (dk_at dksX1_isWide_1 10 rfl rfl)
theorem dX1_isWide_37 : decode cX1_isWide 37 = .ok (.iconst 0, 1) := dk_3 (dk_at dksX1_isWide_1 13 rfl rfl)
theorem dX1_isWide_38 : decode cX1_isWide 38 = .ok (.goto 13, 3) := dk_167 0 13 (dk_at dksX1_isWide_1 14 rfl rfl)
theorem dX1_isWide_41 : decode cX1_isWide 41 = .ok (.iload_n 1, 1) := dk_27 (dk_at dksX1_isWide_1 17 rfl rfl)
theorem dX1_isWide_42 : decode cX1_isWide 42 = .ok (.iconst 1, 1) := dk_4 (dk_at dksX1_isWide_1 18 rfl rfl)
theorem dX1_isWide_43 : decode cX1_isWide 43 = .ok (.if_icmp .ne 7, 3) := dk_160 0 7 (dk_at dksX1_isWide_1 19 rfl rfl)
theorem dX1_isWide_46 : decode cX1_isWide 46 = .ok (.iconst 1, 1) := dk_4 (dk_at dksX1_isWide_1 22 rfl rfl)
theorem dX1_isWide_47 : decode cX1_isWide 47 = .ok (.goto 4, 3) := dk_167 0 4 (dk_at dksX1_isWide_2 0 rfl rfl)
theorem dX1_isWide_50 : decode cX1_isWide 50 = .ok (.iconst 0, 1) := dk_3 (dk_at dksX1_isWide_2 3 rfl rfl)
theorem dX1_isWide_51 : decode cX1_isWide 51 = .ok (.ireturn, 1) := dk_172 (dk_at dksX1_isWide_2 4 rfl rfl)
abbrev cX1_newGrave : ByteArray := prog_1_method_3_code
def yX1_newGrave : MethodName := ⟨RX1, "newGrave", "(IIIIIII)LChurchyardBook$Grave;"⟩
def dkwX1_newGrave_5 : List UInt8 := [21, 5, 21, 6, 183, 0, 59, 176, 187, 0, 60, 89, 26, 27, 28, 29, 21, 5, 21, 6, 183, 0, 62, 176]
abbrev dktX1_newGrave_5 : List UInt8 := dkwX1_newGrave_5 ++ []
def dkwX1_newGrave_4 : List UInt8 := [187, 0, 43, 89, 26, 27, 28, 29, 21, 5, 21, 6, 183, 0, 56, 176, 187, 0, 57, 89, 26, 27, 28, 29]
abbrev dktX1_newGrave_4 : List UInt8 := dkwX1_newGrave_4 ++ dktX1_newGrave_5
def dkwX1_newGrave_3 : List UInt8 := [21, 5, 21, 6, 183, 0, 52, 176, 187, 0, 53, 89, 26, 27, 28, 29, 21, 5, 21, 6, 183, 0, 55, 176]
abbrev dktX1_newGrave_3 : List UInt8 := dkwX1_newGrave_3 ++ dktX1_newGrave_4
def dkwX1_newGrave_2 : List UInt8 := [187, 0, 47, 89, 26, 27, 28, 29, 21, 5, 21, 6, 183, 0, 49, 176, 187, 0, 45, 89, 26, 27, 28, 29]
abbrev dktX1_newGrave_2 : List UInt8 := dkwX1_newGrave_2 ++ dktX1_newGrave_3
def dkwX1_newGrave_1 : List UInt8 := [170, 0, 0, 0, 0, 114, 0, 0, 0, 1, 0, 0, 0, 5, 0, 0, 0, 34, 0, 0, 0, 50, 0, 0, 0, 66, 0, 0, 0, 82, 0, 0, 0, 98]
abbrev dktX1_newGrave_1 : List UInt8 := dkwX1_newGrave_1 ++ dktX1_newGrave_2
def dkwX1_newGrave_0 : List UInt8 := [21, 4]
abbrev dktX1_newGrave_0 : List UInt8 := dkwX1_newGrave_0 ++ dktX1_newGrave_1
theorem dksX1_newGrave_0 : cX1_newGrave.data.toList.drop 0 = dktX1_newGrave_0 := by decide +kernel
theorem dksX1_newGrave_1 : cX1_newGrave.data.toList.drop 2 = dktX1_newGrave_1 := dk_seg dksX1_newGrave_0 2 rfl rfl
theorem dksX1_newGrave_2 : cX1_newGrave.data.toList.drop 36 = dktX1_newGrave_2 := dk_seg dksX1_newGrave_1 34 rfl rfl
theorem dksX1_newGrave_3 : cX1_newGrave.data.toList.drop 60 = dktX1_newGrave_3 := dk_seg dksX1_newGrave_2 24 rfl rfl
theorem dksX1_newGrave_4 : cX1_newGrave.data.toList.drop 84 = dktX1_newGrave_4 := dk_seg dksX1_newGrave_3 24 rfl rfl
theorem dksX1_newGrave_5 : cX1_newGrave.data.toList.drop 108 = dktX1_newGrave_5 := dk_seg dksX1_newGrave_4 24 rfl rfl
theorem dX1_newGrave_0 : decode cX1_newGrave 0 = .ok (.iload 4, 2) := dk_21 4 (dk_at dksX1_newGrave_0 0 rfl rfl)
theorem dX1_newGrave_2 : decode cX1_newGrave 2 = .ok (.tableswitch 114 1 5 #[34, 50, 66, 82, 98], 34) := by decide +kernel
theorem dX1_newGrave_36 : decode cX1_newGrave 36 = .ok (.new 47, 3) := dk_187 0 47 (dk_at dksX1_newGrave_2 0 rfl rfl)
theorem dX1_newGrave_39 : decode cX1_newGrave 39 = .ok (.dup, 1) := dk_89 (dk_at dksX1_newGrave_2 3 rfl rfl)
theorem dX1_newGrave_40 : decode cX1_newGrave 40 = .ok (.iload_n 0, 1) := dk_26 (dk_at dksX1_newGrave_2 4 rfl rfl)
theorem dX1_newGrave_41 : decode cX1_newGrave 41 = .ok (.iload_n 1, 1) := dk_27 (dk_at dksX1_newGrave_2 5 rfl rfl)
theorem dX1_newGrave_42 : decode cX1_newGrave 42 = .ok (.iload_n 2, 1) := dk_28 (dk_at dksX1_newGrave_2 6 rfl rfl)
theorem dX1_newGrave_43 : decode cX1_newGrave 43 = .ok (.iload_n 3, 1) := dk_29 (dk_at dksX1_newGrave_2 7 rfl rfl)
theorem dX1_newGrave_44 : decode cX1_newGrave 44 = .ok (.iload 5, 2) := dk_21 5 (dk_at dksX1_newGrave_2 8 rfl rfl)
theorem dX1_newGrave_46 : decode cX1_newGrave 46 = .ok (.iload 6, 2) := dk_21 6 (dk_at dksX1_newGrave_2 10 rfl rfl)
theorem dX1_newGrave_48 : decode cX1_newGrave 48 = .ok (.invokespecial 49, 3) := dk_183 0 49 (dk_at dksX1_newGrave_2 12 rfl rfl)
theorem dX1_newGrave_51 : decode cX1_newGrave 51 = .ok (.areturn, 1) := dk_176 (dk_at dksX1_newGrave_2 15 rfl rfl)
theorem dX1_newGrave_52 : decode cX1_newGrave 52 = .ok (.new 45, 3) := dk_187 0 45 (dk_at dksX1_newGrave_2 16 rfl rfl)
theorem dX1_newGrave_55 : decode cX1_newGrave 55 = .ok (.dup, 1) := dk_89 (dk_at dksX1_newGrave_2 19 rfl rfl)
theorem dX1_newGrave_56 : decode cX1_newGrave 56 = .ok (.iload_n 0, 1) := dk_26 (dk_at dksX1_newGrave_2 20 rfl rfl)
theorem dX1_newGrave_57 : decode cX1_newGrave 57 = .ok (.iload_n 1, 1) := dk_27 (dk_at dksX1_newGrave_2 21 rfl rfl)
theorem dX1_newGrave_58 : decode cX1_newGrave 58 = .ok (.iload_n 2, 1) := dk_28 (dk_at dksX1_newGrave_2 22 rfl rfl)
theorem dX1_newGrave_59 : decode cX1_newGrave 59 = .ok (.iload_n 3, 1) := dk_29 (dk_at dksX1_newGrave_2 23 rfl rfl)
theorem dX1_newGrave_60 : decode cX1_newGrave 60 = .ok (.iload 5, 2) := dk_21 5 (dk_at dksX1_newGrave_3 0 rfl rfl)
theorem dX1_newGrave_62 : decode cX1_newGrave 62 = .ok (.iload 6, 2) := dk_21 6 (dk_at dksX1_newGrave_3 2 rfl rfl)
theorem dX1_newGrave_64 : decode cX1_newGrave 64 = .ok (.invokespecial 52, 3) := dk_183 0 52 (dk_at dksX1_newGrave_3 4 rfl rfl)
theorem dX1_newGrave_67 : decode cX1_newGrave 67 = .ok (.areturn, 1) := dk_176 (dk_at dksX1_newGrave_3 7 rfl rfl)
theorem dX1_newGrave_68 : decode cX1_newGrave 68 = .ok (.new 53, 3) := dk_187 0 53 (dk_at dksX1_newGrave_3 8 rfl rfl)
theorem dX1_newGrave_71 : decode cX1_newGrave 71 = .ok (.dup, 1) := dk_89 (dk_at dksX1_newGrave_3 11 rfl rfl)
theorem dX1_newGrave_72 : decode cX1_newGrave 72 = .ok (.iload_n 0, 1) := dk_26 (dk_at dksX1_newGrave_3 12 rfl rfl)
theorem dX1_newGrave_73 : decode cX1_newGrave 73 = .ok (.iload_n 1, 1) := dk_27 (dk_at dksX1_newGrave_3 13 rfl rfl)
theorem dX1_newGrave_74 : decode cX1_newGrave 74 = .ok (.iload_n 2, 1) := dk_28 (dk_at dksX1_newGrave_3 14 rfl rfl)
theorem dX1_newGrave_75 : decode cX1_newGrave 75 = .ok (.iload_n 3, 1) := dk_29 (dk_at dksX1_newGrave_3 15 rfl rfl)
theorem dX1_newGrave_76 : decode cX1_newGrave 76 = .ok (.iload 5, 2) := dk_21 5 (dk_at dksX1_newGrave_3 16 rfl rfl)
theorem dX1_newGrave_78 : decode cX1_newGrave 78 = .ok (.iload 6, 2) := dk_21 6 (dk_at dksX1_newGrave_3 18 rfl rfl)
theorem dX1_newGrave_80 : decode cX1_newGrave 80 = .ok (.invokespecial 55, 3) := dk_183 0 55 (dk_at dksX1_newGrave_3 20 rfl rfl)
theorem dX1_newGrave_83 : decode cX1_newGrave 83 = .ok (.areturn, 1) := dk_176 (dk_at dksX1_newGrave_3 23 rfl rfl)
theorem dX1_newGrave_84 : decode cX1_newGrave 84 = .ok (.new 43, 3) := dk_187 0 43 (dk_at dksX1_newGrave_4 0 rfl rfl)
theorem dX1_newGrave_87 : decode cX1_newGrave 87 = .ok (.dup, 1) := dk_89 (dk_at dksX1_newGrave_4 3 rfl rfl)
theorem dX1_newGrave_88 : decode cX1_newGrave 88 = .ok (.iload_n 0, 1) := dk_26 (dk_at dksX1_newGrave_4 4 rfl rfl)
theorem dX1_newGrave_89 : decode cX1_newGrave 89 = .ok (.iload_n 1, 1) := dk_27 (dk_at dksX1_newGrave_4 5 rfl rfl)
theorem dX1_newGrave_90 : decode cX1_newGrave 90 = .ok (.iload_n 2, 1) := dk_28 (dk_at dksX1_newGrave_4 6 rfl rfl)
theorem dX1_newGrave_91 : decode cX1_newGrave 91 = .ok (.iload_n 3, 1) := dk_29 (dk_at dksX1_newGrave_4 7 rfl rfl)
theorem dX1_newGrave_92 : decode cX1_newGrave 92 = .ok (.iload 5, 2) := dk_21 5 (dk_at dksX1_newGrave_4 8 rfl rfl)
theorem dX1_newGrave_94 : decode cX1_newGrave 94 = .ok (.iload 6, 2) := dk_21 6 (dk_at dksX1_newGrave_4 10 rfl rfl)
theorem dX1_newGrave_96 : decode cX1_newGrave 96 = .ok (.invokespecial 56, 3) := dk_183 0 56 (dk_at dksX1_newGrave_4 12 rfl rfl)
theorem dX1_newGrave_99 : decode cX1_newGrave 99 = .ok (.areturn, 1) := dk_176 (dk_at dksX1_newGrave_4 15 rfl rfl)
theorem dX1_newGrave_100 : decode cX1_newGrave 100 = .ok (.new 57, 3) := dk_187 0 57 (dk_at dksX1_newGrave_4 16 rfl rfl)
theorem dX1_newGrave_103 : decode cX1_newGrave 103 = .ok (.dup, 1) := dk_89 (dk_at dksX1_newGrave_4 19 rfl rfl)
theorem dX1_newGrave_104 : decode cX1_newGrave 104 = .ok (.iload_n 0, 1) := dk_26 (dk_at dksX1_newGrave_4 20 rfl rfl)
theorem dX1_newGrave_105 : decode cX1_newGrave 105 = .ok (.iload_n 1, 1) := dk_27 (dk_at dksX1_newGrave_4 21 rfl rfl)
theorem dX1_newGrave_106 : decode cX1_newGrave 106 = .ok (.iload_n 2, 1) := dk_28 (dk_at dksX1_newGrave_4 22 rfl rfl)
theorem dX1_newGrave_107 : decode cX1_newGrave 107 = .ok (.iload_n 3, 1) := dk_29 (dk_at dksX1_newGrave_4 23 rfl rfl)
theorem dX1_newGrave_108 : decode cX1_newGrave 108 = .ok (.iload 5, 2) := dk_21 5 (dk_at dksX1_newGrave_5 0 rfl rfl)
theorem dX1_newGrave_110 : decode cX1_newGrave 110 = .ok (.iload 6, 2) := dk_21 6 (dk_at dksX1_newGrave_5 2 rfl rfl)
theorem dX1_newGrave_112 : decode cX1_newGrave 112 = .ok (.invokespecial 59, 3) := dk_183 0 59 (dk_at dksX1_newGrave_5 4 rfl rfl)
theorem dX1_newGrave_115 : decode cX1_newGrave 115 = .ok (.areturn, 1) := dk_176 (dk_at dksX1_newGrave_5 7 rfl rfl)
theorem dX1_newGrave_116 : decode cX1_newGrave 116 = .ok (.new 60, 3) := dk_187 0 60 (dk_at dksX1_newGrave_5 8 rfl rfl)
theorem dX1_newGrave_119 : decode cX1_newGrave 119 = .ok (.dup, 1) := dk_89 (dk_at dksX1_newGrave_5 11 rfl rfl)
theorem dX1_newGrave_120 : decode cX1_newGrave 120 = .ok (.iload_n 0, 1) := dk_26 (dk_at dksX1_newGrave_5 12 rfl rfl)
theorem dX1_newGrave_121 : decode cX1_newGrave 121 = .ok (.iload_n 1, 1) := dk_27 (dk_at dksX1_newGrave_5 13 rfl rfl)
theorem dX1_newGrave_122 : decode cX1_newGrave 122 = .ok (.iload_n 2, 1) := dk_28 (dk_at dksX1_newGrave_5 14 rfl rfl)
theorem dX1_newGrave_123 : decode cX1_newGrave 123 = .ok (.iload_n 3, 1) := dk_29 (dk_at dksX1_newGrave_5 15 rfl rfl)
theorem dX1_newGrave_124 : decode cX1_newGrave 124 = .ok (.iload 5, 2) := dk_21 5 (dk_at dksX1_newGrave_5 16 rfl rfl)
theorem dX1_newGrave_126 : decode cX1_newGrave 126 = .ok (.iload 6, 2) := dk_21 6 (dk_at dksX1_newGrave_5 18 rfl rfl)
theorem dX1_newGrave_128 : decode cX1_newGrave 128 = .ok (.invokespecial 62, 3) := dk_183 0 62 (dk_at dksX1_newGrave_5 20 rfl rfl)
theorem dX1_newGrave_131 : decode cX1_newGrave 131 = .ok (.areturn, 1) := dk_176 (dk_at dksX1_newGrave_5 23 rfl rfl)
abbrev cX1_load : ByteArray := prog_1_method_11_code
def yX1_load : MethodName := ⟨RX1, "load", "()I"⟩
def dkwX1_load_3 : List UInt8 := [3, 16, 6, 27, 104, 184, 0, 83, 42, 27, 181, 0, 68, 27, 172]
abbrev dktX1_load_3 : List UInt8 := dkwX1_load_3 ++ []
def dkwX1_load_2 : List UInt8 := [27, 182, 0, 95, 2, 159, 0, 5, 2, 172, 42, 44, 181, 0, 28, 42, 180, 0, 36, 3, 42, 180, 0, 32]
abbrev dktX1_load_2 : List UInt8 := dkwX1_load_2 ++ dktX1_load_3
def dkwX1_load_1 : List UInt8 := [180, 0, 89, 60, 42, 3, 181, 0, 89, 187, 0, 23, 89, 42, 183, 0, 25, 77, 42, 44, 42, 180, 0, 36]
abbrev dktX1_load_1 : List UInt8 := dkwX1_load_1 ++ dktX1_load_2
def dkwX1_load_0 : List UInt8 := [42, 180, 0, 92, 16, 60, 160, 0, 6, 16, 254, 172, 42, 89, 180, 0, 92, 4, 96, 181, 0, 92, 42]
abbrev dktX1_load_0 : List UInt8 := dkwX1_load_0 ++ dktX1_load_1
theorem dksX1_load_0 : cX1_load.data.toList.drop 0 = dktX1_load_0 := by decide +kernel
theorem dksX1_load_1 : cX1_load.data.toList.drop 23 = dktX1_load_1 := dk_seg dksX1_load_0 23 rfl rfl
theorem dksX1_load_2 : cX1_load.data.toList.drop 47 = dktX1_load_2 := dk_seg dksX1_load_1 24 rfl rfl
theorem dksX1_load_3 : cX1_load.data.toList.drop 71 = dktX1_load_3 := dk_seg dksX1_load_2 24 rfl rfl
theorem dX1_load_0 : decode cX1_load 0 = .ok (.aload_n 0, 1) := dk_42 (dk_at dksX1_load_0 0 rfl rfl)
theorem dX1_load_1 : decode cX1_load 1 = .ok (.getfield 92, 3) := dk_180 0 92 (dk_at dksX1_load_0 1 rfl rfl)
theorem dX1_load_4 : decode cX1_load 4 = .ok (.bipush 60, 2) := dk_16 60 (dk_at dksX1_load_0 4 rfl rfl)
theorem dX1_load_6 : decode cX1_load 6 = .ok (.if_icmp .ne 6, 3) := dk_160 0 6 (dk_at dksX1_load_0 6 rfl rfl)
theorem dX1_load_9 : decode cX1_load 9 = .ok (.bipush (-2), 2) := dk_16 254 (dk_at dksX1_load_0 9 rfl rfl)
theorem dX1_load_11 : decode cX1_load 11 = .ok (.ireturn, 1) := dk_172 (dk_at dksX1_load_0 11 rfl rfl)
theorem dX1_load_12 : decode cX1_load 12 = .ok (.aload_n 0, 1) := dk_42 (dk_at dksX1_load_0 12 rfl rfl)
theorem dX1_load_13 : decode cX1_load 13 = .ok (.dup, 1) := dk_89 (dk_at dksX1_load_0 13 rfl rfl)
theorem dX1_load_14 : decode cX1_load 14 = .ok (.getfield 92, 3) := dk_180 0 92 (dk_at dksX1_load_0 14 rfl rfl)
theorem dX1_load_17 : decode cX1_load 17 = .ok (.iconst 1, 1) := dk_4 (dk_at dksX1_load_0 17 rfl rfl)
theorem dX1_load_18 : decode cX1_load 18 = .ok (.iadd, 1) := dk_96 (dk_at dksX1_load_0 18 rfl rfl)
theorem dX1_load_19 : decode cX1_load 19 = .ok (.putfield 92, 3) := dk_181 0 92 (dk_at dksX1_load_0 19 rfl rfl)
theorem dX1_load_22 : decode cX1_load 22 = .ok (.aload_n 0, 1) := dk_42 (dk_at dksX1_load_0 22 rfl rfl)
theorem dX1_load_23 : decode cX1_load 23 = .ok (.getfield 89, 3) := dk_180 0 89 (dk_at dksX1_load_1 0 rfl rfl)
theorem dX1_load_26 : decode cX1_load 26 = .ok (.istore_n 1, 1) := dk_60 (dk_at dksX1_load_1 3 rfl rfl)
theorem dX1_load_27 : decode cX1_load 27 = .ok (.aload_n 0, 1) := dk_42 (dk_at dksX1_load_1 4 rfl rfl)
theorem dX1_load_28 : decode cX1_load 28 = .ok (.iconst 0, 1) := dk_3 (dk_at dksX1_load_1 5 rfl rfl)
theorem dX1_load_29 : decode cX1_load 29 = .ok (.putfield 89, 3) := dk_181 0 89 (dk_at dksX1_load_1 6 rfl rfl)
theorem dX1_load_32 : decode cX1_load 32 = .ok (.new 23, 3) := dk_187 0 23 (dk_at dksX1_load_1 9 rfl rfl)
theorem dX1_load_35 : decode cX1_load 35 = .ok (.dup, 1) := dk_89 (dk_at dksX1_load_1 12 rfl rfl)
theorem dX1_load_36 : decode cX1_load 36 = .ok (.aload_n 0, 1) := dk_42 (dk_at dksX1_load_1 13 rfl rfl)
theorem dX1_load_37 : decode cX1_load 37 = .ok (.invokespecial 25, 3) := dk_183 0 25 (dk_at dksX1_load_1 14 rfl rfl)
theorem dX1_load_40 : decode cX1_load 40 = .ok (.astore_n 2, 1) := dk_77 (dk_at dksX1_load_1 17 rfl rfl)
theorem dX1_load_41 : decode cX1_load 41 = .ok (.aload_n 0, 1) := dk_42 (dk_at dksX1_load_1 18 rfl rfl)
theorem dX1_load_42 : decode cX1_load 42 = .ok (.aload_n 2, 1) := dk_44 (dk_at dksX1_load_1 19 rfl rfl)
theorem dX1_load_43 : decode cX1_load 43 = .ok (.aload_n 0, 1) := dk_42 (dk_at dksX1_load_1 20 rfl rfl)
theorem dX1_load_44 : decode cX1_load 44 = .ok (.getfield 36, 3) := dk_180 0 36 (dk_at dksX1_load_1 21 rfl rfl)
theorem dX1_load_47 : decode cX1_load 47 = .ok (.iload_n 1, 1) := dk_27 (dk_at dksX1_load_2 0 rfl rfl)
theorem dX1_load_48 : decode cX1_load 48 = .ok (.invokevirtual 95, 3) := dk_182 0 95 (dk_at dksX1_load_2 1 rfl rfl)
theorem dX1_load_51 : decode cX1_load 51 = .ok (.iconst (-1), 1) := dk_2 (dk_at dksX1_load_2 4 rfl rfl)
theorem dX1_load_52 : decode cX1_load 52 = .ok (.if_icmp .eq 5, 3) := dk_159 0 5 (dk_at dksX1_load_2 5 rfl rfl)
theorem dX1_load_55 : decode cX1_load 55 = .ok (.iconst (-1), 1) := dk_2 (dk_at dksX1_load_2 8 rfl rfl)
theorem dX1_load_56 : decode cX1_load 56 = .ok (.ireturn, 1) := dk_172 (dk_at dksX1_load_2 9 rfl rfl)
theorem dX1_load_57 : decode cX1_load 57 = .ok (.aload_n 0, 1) := dk_42 (dk_at dksX1_load_2 10 rfl rfl)
theorem dX1_load_58 : decode cX1_load 58 = .ok (.aload_n 2, 1) := dk_44 (dk_at dksX1_load_2 11 rfl rfl)
theorem dX1_load_59 : decode cX1_load 59 = .ok (.putfield 28, 3) := dk_181 0 28 (dk_at dksX1_load_2 12 rfl rfl)
theorem dX1_load_62 : decode cX1_load 62 = .ok (.aload_n 0, 1) := dk_42 (dk_at dksX1_load_2 15 rfl rfl)
theorem dX1_load_63 : decode cX1_load 63 = .ok (.getfield 36, 3) := dk_180 0 36 (dk_at dksX1_load_2 16 rfl rfl)
theorem dX1_load_66 : decode cX1_load 66 = .ok (.iconst 0, 1) := dk_3 (dk_at dksX1_load_2 19 rfl rfl)
theorem dX1_load_67 : decode cX1_load 67 = .ok (.aload_n 0, 1) := dk_42 (dk_at dksX1_load_2 20 rfl rfl)
theorem dX1_load_68 : decode cX1_load 68 = .ok (.getfield 32, 3) := dk_180 0 32 (dk_at dksX1_load_2 21 rfl rfl)
theorem dX1_load_71 : decode cX1_load 71 = .ok (.iconst 0, 1) := dk_3 (dk_at dksX1_load_3 0 rfl rfl)
theorem dX1_load_72 : decode cX1_load 72 = .ok (.bipush 6, 2) := dk_16 6 (dk_at dksX1_load_3 1 rfl rfl)
theorem dX1_load_74 : decode cX1_load 74 = .ok (.iload_n 1, 1) := dk_27 (dk_at dksX1_load_3 3 rfl rfl)
theorem dX1_load_75 : decode cX1_load 75 = .ok (.imul, 1) := dk_104 (dk_at dksX1_load_3 4 rfl rfl)
theorem dX1_load_76 : decode cX1_load 76 = .ok (.invokestatic 83, 3) := dk_184 0 83 (dk_at dksX1_load_3 5 rfl rfl)
theorem dX1_load_79 : decode cX1_load 79 = .ok (.aload_n 0, 1) := dk_42 (dk_at dksX1_load_3 8 rfl rfl)
theorem dX1_load_80 : decode cX1_load 80 = .ok (.iload_n 1, 1) := dk_27 (dk_at dksX1_load_3 9 rfl rfl)
theorem dX1_load_81 : decode cX1_load 81 = .ok (.putfield 68, 3) := dk_181 0 68 (dk_at dksX1_load_3 10 rfl rfl)
theorem dX1_load_84 : decode cX1_load 84 = .ok (.iload_n 1, 1) := dk_27 (dk_at dksX1_load_3 13 rfl rfl)
theorem dX1_load_85 : decode cX1_load 85 = .ok (.ireturn, 1) := dk_172 (dk_at dksX1_load_3 14 rfl rfl)
abbrev cX1_undo : ByteArray := prog_1_method_12_code
def yX1_undo : MethodName := ⟨RX1, "undo", "()I"⟩
def dkwX1_undo_3 : List UInt8 := [180, 0, 32, 16, 6, 42, 180, 0, 68, 104, 46, 172]
abbrev dktX1_undo_3 : List UInt8 := dkwX1_undo_3 ++ []
def dkwX1_undo_2 : List UInt8 := [183, 0, 25, 181, 0, 28, 42, 42, 180, 0, 28, 42, 180, 0, 32, 42, 180, 0, 68, 182, 0, 95, 60, 42]
abbrev dktX1_undo_2 : List UInt8 := dkwX1_undo_2 ++ dktX1_undo_3
def dkwX1_undo_1 : List UInt8 := [180, 0, 92, 4, 96, 181, 0, 92, 42, 89, 180, 0, 68, 4, 100, 181, 0, 68, 42, 187, 0, 23, 89, 42]
abbrev dktX1_undo_1 : List UInt8 := dkwX1_undo_1 ++ dktX1_undo_2
def dkwX1_undo_0 : List UInt8 := [42, 180, 0, 68, 154, 0, 5, 2, 172, 42, 180, 0, 92, 16, 60, 160, 0, 6, 16, 254, 172, 42, 89]
abbrev dktX1_undo_0 : List UInt8 := dkwX1_undo_0 ++ dktX1_undo_1
theorem dksX1_undo_0 : cX1_undo.data.toList.drop 0 = dktX1_undo_0 := by decide +kernel
theorem dksX1_undo_1 : cX1_undo.data.toList.drop 23 = dktX1_undo_1 := dk_seg dksX1_undo_0 23 rfl rfl
theorem dksX1_undo_2 : cX1_undo.data.toList.drop 47 = dktX1_undo_2 := dk_seg dksX1_undo_1 24 rfl rfl
theorem dksX1_undo_3 : cX1_undo.data.toList.drop 71 = dktX1_undo_3 := dk_seg dksX1_undo_2 24 rfl rfl
theorem dX1_undo_0 : decode cX1_undo 0 = .ok (.aload_n 0, 1) := dk_42 (dk_at dksX1_undo_0 0 rfl rfl)
theorem dX1_undo_1 : decode cX1_undo 1 = .ok (.getfield 68, 3) := dk_180 0 68 (dk_at dksX1_undo_0 1 rfl rfl)
theorem dX1_undo_4 : decode cX1_undo 4 = .ok (.ifCond .ne 5, 3) := dk_154 0 5 (dk_at dksX1_undo_0 4 rfl rfl)
theorem dX1_undo_7 : decode cX1_undo 7 = .ok (.iconst (-1), 1) := dk_2 (dk_at dksX1_undo_0 7 rfl rfl)
theorem dX1_undo_8 : decode cX1_undo 8 = .ok (.ireturn, 1) := dk_172 (dk_at dksX1_undo_0 8 rfl rfl)
theorem dX1_undo_9 : decode cX1_undo 9 = .ok (.aload_n 0, 1) := dk_42 (dk_at dksX1_undo_0 9 rfl rfl)
theorem dX1_undo_10 : decode cX1_undo 10 = .ok (.getfield 92, 3) := dk_180 0 92 (dk_at dksX1_undo_0 10 rfl rfl)
theorem dX1_undo_13 : decode cX1_undo 13 = .ok (.bipush 60, 2) := dk_16 60 (dk_at dksX1_undo_0 13 rfl rfl)
theorem dX1_undo_15 : decode cX1_undo 15 = .ok (.if_icmp .ne 6, 3) := dk_160 0 6 (dk_at dksX1_undo_0 15 rfl rfl)
theorem dX1_undo_18 : decode cX1_undo 18 = .ok (.bipush (-2), 2) := dk_16 254 (dk_at dksX1_undo_0 18 rfl rfl)
theorem dX1_undo_20 : decode cX1_undo 20 = .ok (.ireturn, 1) := dk_172 (dk_at dksX1_undo_0 20 rfl rfl)
theorem dX1_undo_21 : decode cX1_undo 21 = .ok (.aload_n 0, 1) := dk_42 (dk_at dksX1_undo_0 21 rfl rfl)
theorem dX1_undo_22 : decode cX1_undo 22 = .ok (.dup, 1) := dk_89 (dk_at dksX1_undo_0 22 rfl rfl)
theorem dX1_undo_23 : decode cX1_undo 23 = .ok (.getfield 92, 3) := dk_180 0 92 (dk_at dksX1_undo_1 0 rfl rfl)
theorem dX1_undo_26 : decode cX1_undo 26 = .ok (.iconst 1, 1) := dk_4 (dk_at dksX1_undo_1 3 rfl rfl)
theorem dX1_undo_27 : decode cX1_undo 27 = .ok (.iadd, 1) := dk_96 (dk_at dksX1_undo_1 4 rfl rfl)
theorem dX1_undo_28 : decode cX1_undo 28 = .ok (.putfield 92, 3) := dk_181 0 92 (dk_at dksX1_undo_1 5 rfl rfl)
theorem dX1_undo_31 : decode cX1_undo 31 = .ok (.aload_n 0, 1) := dk_42 (dk_at dksX1_undo_1 8 rfl rfl)
theorem dX1_undo_32 : decode cX1_undo 32 = .ok (.dup, 1) := dk_89 (dk_at dksX1_undo_1 9 rfl rfl)
theorem dX1_undo_33 : decode cX1_undo 33 = .ok (.getfield 68, 3) := dk_180 0 68 (dk_at dksX1_undo_1 10 rfl rfl)
theorem dX1_undo_36 : decode cX1_undo 36 = .ok (.iconst 1, 1) := dk_4 (dk_at dksX1_undo_1 13 rfl rfl)
theorem dX1_undo_37 : decode cX1_undo 37 = .ok (.isub, 1) := dk_100 (dk_at dksX1_undo_1 14 rfl rfl)
theorem dX1_undo_38 : decode cX1_undo 38 = .ok (.putfield 68, 3) := dk_181 0 68 (dk_at dksX1_undo_1 15 rfl rfl)
theorem dX1_undo_41 : decode cX1_undo 41 = .ok (.aload_n 0, 1) := dk_42 (dk_at dksX1_undo_1 18 rfl rfl)
theorem dX1_undo_42 : decode cX1_undo 42 = .ok (.new 23, 3) := dk_187 0 23 (dk_at dksX1_undo_1 19 rfl rfl)
theorem dX1_undo_45 : decode cX1_undo 45 = .ok (.dup, 1) := dk_89 (dk_at dksX1_undo_1 22 rfl rfl)
theorem dX1_undo_46 : decode cX1_undo 46 = .ok (.aload_n 0, 1) := dk_42 (dk_at dksX1_undo_1 23 rfl rfl)
theorem dX1_undo_47 : decode cX1_undo 47 = .ok (.invokespecial 25, 3) := dk_183 0 25 (dk_at dksX1_undo_2 0 rfl rfl)
theorem dX1_undo_50 : decode cX1_undo 50 = .ok (.putfield 28, 3) := dk_181 0 28 (dk_at dksX1_undo_2 3 rfl rfl)
theorem dX1_undo_53 : decode cX1_undo 53 = .ok (.aload_n 0, 1) := dk_42 (dk_at dksX1_undo_2 6 rfl rfl)
theorem dX1_undo_54 : decode cX1_undo 54 = .ok (.aload_n 0, 1) := dk_42 (dk_at dksX1_undo_2 7 rfl rfl)
theorem dX1_undo_55 : decode cX1_undo 55 = .ok (.getfield 28, 3) := dk_180 0 28 (dk_at dksX1_undo_2 8 rfl rfl)
theorem dX1_undo_58 : decode cX1_undo 58 = .ok (.aload_n 0, 1) := dk_42 (dk_at dksX1_undo_2 11 rfl rfl)
theorem dX1_undo_59 : decode cX1_undo 59 = .ok (.getfield 32, 3) := dk_180 0 32 (dk_at dksX1_undo_2 12 rfl rfl)
theorem dX1_undo_62 : decode cX1_undo 62 = .ok (.aload_n 0, 1) := dk_42 (dk_at dksX1_undo_2 15 rfl rfl)
theorem dX1_undo_63 : decode cX1_undo 63 = .ok (.getfield 68, 3) := dk_180 0 68 (dk_at dksX1_undo_2 16 rfl rfl)
theorem dX1_undo_66 : decode cX1_undo 66 = .ok (.invokevirtual 95, 3) := dk_182 0 95 (dk_at dksX1_undo_2 19 rfl rfl)
theorem dX1_undo_69 : decode cX1_undo 69 = .ok (.istore_n 1, 1) := dk_60 (dk_at dksX1_undo_2 22 rfl rfl)
theorem dX1_undo_70 : decode cX1_undo 70 = .ok (.aload_n 0, 1) := dk_42 (dk_at dksX1_undo_2 23 rfl rfl)
theorem dX1_undo_71 : decode cX1_undo 71 = .ok (.getfield 32, 3) := dk_180 0 32 (dk_at dksX1_undo_3 0 rfl rfl)
theorem dX1_undo_74 : decode cX1_undo 74 = .ok (.bipush 6, 2) := dk_16 6 (dk_at dksX1_undo_3 3 rfl rfl)
theorem dX1_undo_76 : decode cX1_undo 76 = .ok (.aload_n 0, 1) := dk_42 (dk_at dksX1_undo_3 5 rfl rfl)
theorem dX1_undo_77 : decode cX1_undo 77 = .ok (.getfield 68, 3) := dk_180 0 68 (dk_at dksX1_undo_3 6 rfl rfl)
theorem dX1_undo_80 : decode cX1_undo 80 = .ok (.imul, 1) := dk_104 (dk_at dksX1_undo_3 9 rfl rfl)
theorem dX1_undo_81 : decode cX1_undo 81 = .ok (.iaload, 1) := dk_46 (dk_at dksX1_undo_3 10 rfl rfl)
theorem dX1_undo_82 : decode cX1_undo 82 = .ok (.ireturn, 1) := dk_172 (dk_at dksX1_undo_3 11 rfl rfl)
abbrev cX1_act : ByteArray := prog_1_method_13_code
def yX1_act : MethodName := ⟨RX1, "act", "(II)I"⟩
def dkwX1_act_1 : List UInt8 := [167, 0, 14, 42, 180, 0, 32, 16, 6, 27, 104, 28, 96, 46, 172]
abbrev dktX1_act_1 : List UInt8 := dkwX1_act_1 ++ []
def dkwX1_act_0 : List UInt8 := [27, 155, 0, 20, 27, 42, 180, 0, 68, 162, 0, 12, 28, 155, 0, 8, 28, 8, 164, 0, 7, 3]
abbrev dktX1_act_0 : List UInt8 := dkwX1_act_0 ++ dktX1_act_1
theorem dksX1_act_0 : cX1_act.data.toList.drop 0 = dktX1_act_0 := by decide +kernel
theorem dksX1_act_1 : cX1_act.data.toList.drop 22 = dktX1_act_1 := dk_seg dksX1_act_0 22 rfl rfl
theorem dX1_act_0 : decode cX1_act 0 = .ok (.iload_n 1, 1) := dk_27 (dk_at dksX1_act_0 0 rfl rfl)
theorem dX1_act_1 : decode cX1_act 1 = .ok (.ifCond .lt 20, 3) := dk_155 0 20 (dk_at dksX1_act_0 1 rfl rfl)
theorem dX1_act_4 : decode cX1_act 4 = .ok (.iload_n 1, 1) := dk_27 (dk_at dksX1_act_0 4 rfl rfl)
theorem dX1_act_5 : decode cX1_act 5 = .ok (.aload_n 0, 1) := dk_42 (dk_at dksX1_act_0 5 rfl rfl)
theorem dX1_act_6 : decode cX1_act 6 = .ok (.getfield 68, 3) := dk_180 0 68 (dk_at dksX1_act_0 6 rfl rfl)
theorem dX1_act_9 : decode cX1_act 9 = .ok (.if_icmp .ge 12, 3) := dk_162 0 12 (dk_at dksX1_act_0 9 rfl rfl)
theorem dX1_act_12 : decode cX1_act 12 = .ok (.iload_n 2, 1) := dk_28 (dk_at dksX1_act_0 12 rfl rfl)
theorem dX1_act_13 : decode cX1_act 13 = .ok (.ifCond .lt 8, 3) := dk_155 0 8 (dk_at dksX1_act_0 13 rfl rfl)
theorem dX1_act_16 : decode cX1_act 16 = .ok (.iload_n 2, 1) := dk_28 (dk_at dksX1_act_0 16 rfl rfl)
theorem dX1_act_17 : decode cX1_act 17 = .ok (.iconst 5, 1) := dk_8 (dk_at dksX1_act_0 17 rfl rfl)
theorem dX1_act_18 : decode cX1_act 18 = .ok (.if_icmp .le 7, 3) := dk_164 0 7 (dk_at dksX1_act_0 18 rfl rfl)
theorem dX1_act_21 : decode cX1_act 21 = .ok (.iconst 0, 1) := dk_3 (dk_at dksX1_act_0 21 rfl rfl)
theorem dX1_act_22 : decode cX1_act 22 = .ok (.goto 14, 3) := dk_167 0 14 (dk_at dksX1_act_1 0 rfl rfl)
theorem dX1_act_25 : decode cX1_act 25 = .ok (.aload_n 0, 1) := dk_42 (dk_at dksX1_act_1 3 rfl rfl)
theorem dX1_act_26 : decode cX1_act 26 = .ok (.getfield 32, 3) := dk_180 0 32 (dk_at dksX1_act_1 4 rfl rfl)
theorem dX1_act_29 : decode cX1_act 29 = .ok (.bipush 6, 2) := dk_16 6 (dk_at dksX1_act_1 7 rfl rfl)
theorem dX1_act_31 : decode cX1_act 31 = .ok (.iload_n 1, 1) := dk_27 (dk_at dksX1_act_1 9 rfl rfl)
theorem dX1_act_32 : decode cX1_act 32 = .ok (.imul, 1) := dk_104 (dk_at dksX1_act_1 10 rfl rfl)
theorem dX1_act_33 : decode cX1_act 33 = .ok (.iload_n 2, 1) := dk_28 (dk_at dksX1_act_1 11 rfl rfl)
theorem dX1_act_34 : decode cX1_act 34 = .ok (.iadd, 1) := dk_96 (dk_at dksX1_act_1 12 rfl rfl)
theorem dX1_act_35 : decode cX1_act 35 = .ok (.iaload, 1) := dk_46 (dk_at dksX1_act_1 13 rfl rfl)
theorem dX1_act_36 : decode cX1_act 36 = .ok (.ireturn, 1) := dk_172 (dk_at dksX1_act_1 14 rfl rfl)
abbrev cX1_field : ByteArray := prog_1_method_14_code
def yX1_field : MethodName := ⟨RX1, "field", "(I)I"⟩
def dkwX1_field_0 : List UInt8 := [42, 4, 27, 3, 3, 3, 3, 182, 0, 99, 172]
abbrev dktX1_field_0 : List UInt8 := dkwX1_field_0 ++ []
theorem dksX1_field_0 : cX1_field.data.toList.drop 0 = dktX1_field_0 := by decide +kernel
theorem dX1_field_0 : decode cX1_field 0 = .ok (.aload_n 0, 1) := dk_42 (dk_at dksX1_field_0 0 rfl rfl)
theorem dX1_field_1 : decode cX1_field 1 = .ok (.iconst 1, 1) := dk_4 (dk_at dksX1_field_0 1 rfl rfl)
theorem dX1_field_2 : decode cX1_field 2 = .ok (.iload_n 1, 1) := dk_27 (dk_at dksX1_field_0 2 rfl rfl)
theorem dX1_field_3 : decode cX1_field 3 = .ok (.iconst 0, 1) := dk_3 (dk_at dksX1_field_0 3 rfl rfl)
theorem dX1_field_4 : decode cX1_field 4 = .ok (.iconst 0, 1) := dk_3 (dk_at dksX1_field_0 4 rfl rfl)
theorem dX1_field_5 : decode cX1_field 5 = .ok (.iconst 0, 1) := dk_3 (dk_at dksX1_field_0 5 rfl rfl)
theorem dX1_field_6 : decode cX1_field 6 = .ok (.iconst 0, 1) := dk_3 (dk_at dksX1_field_0 6 rfl rfl)
theorem dX1_field_7 : decode cX1_field 7 = .ok (.invokevirtual 99, 3) := dk_182 0 99 (dk_at dksX1_field_0 7 rfl rfl)
theorem dX1_field_10 : decode cX1_field 10 = .ok (.ireturn, 1) := dk_172 (dk_at dksX1_field_0 10 rfl rfl)
abbrev cX1_does : ByteArray := prog_1_method_6_code
def yX1_does : MethodName := ⟨RX1, "does", "(IIIIII)I"⟩
def dkwX1_does_2 : List UInt8 := [184, 0, 76, 42, 89, 180, 0, 68, 4, 96, 181, 0, 68, 21, 7, 172, 58, 7, 25, 7, 180, 0, 80, 172]
abbrev dktX1_does_2 : List UInt8 := dkwX1_does_2 ++ []
def dkwX1_does_1 : List UInt8 := [21, 6, 182, 0, 72, 54, 7, 42, 180, 0, 32, 42, 180, 0, 68, 27, 28, 29, 21, 4, 21, 5, 21, 6]
abbrev dktX1_does_1 : List UInt8 := dkwX1_does_1 ++ dktX1_does_2
def dkwX1_does_0 : List UInt8 := [42, 180, 0, 68, 17, 1, 144, 160, 0, 6, 16, 247, 172, 42, 180, 0, 28, 27, 28, 29, 21, 4, 21, 5]
abbrev dktX1_does_0 : List UInt8 := dkwX1_does_0 ++ dktX1_does_1
theorem dksX1_does_0 : cX1_does.data.toList.drop 0 = dktX1_does_0 := by decide +kernel
theorem dksX1_does_1 : cX1_does.data.toList.drop 24 = dktX1_does_1 := dk_seg dksX1_does_0 24 rfl rfl
theorem dksX1_does_2 : cX1_does.data.toList.drop 48 = dktX1_does_2 := dk_seg dksX1_does_1 24 rfl rfl
theorem dX1_does_0 : decode cX1_does 0 = .ok (.aload_n 0, 1) := dk_42 (dk_at dksX1_does_0 0 rfl rfl)
theorem dX1_does_1 : decode cX1_does 1 = .ok (.getfield 68, 3) := dk_180 0 68 (dk_at dksX1_does_0 1 rfl rfl)
theorem dX1_does_4 : decode cX1_does 4 = .ok (.sipush 400, 3) := dk_17 1 144 (dk_at dksX1_does_0 4 rfl rfl)
theorem dX1_does_7 : decode cX1_does 7 = .ok (.if_icmp .ne 6, 3) := dk_160 0 6 (dk_at dksX1_does_0 7 rfl rfl)
theorem dX1_does_10 : decode cX1_does 10 = .ok (.bipush (-9), 2) := dk_16 247 (dk_at dksX1_does_0 10 rfl rfl)
theorem dX1_does_12 : decode cX1_does 12 = .ok (.ireturn, 1) := dk_172 (dk_at dksX1_does_0 12 rfl rfl)
theorem dX1_does_13 : decode cX1_does 13 = .ok (.aload_n 0, 1) := dk_42 (dk_at dksX1_does_0 13 rfl rfl)
theorem dX1_does_14 : decode cX1_does 14 = .ok (.getfield 28, 3) := dk_180 0 28 (dk_at dksX1_does_0 14 rfl rfl)
theorem dX1_does_17 : decode cX1_does 17 = .ok (.iload_n 1, 1) := dk_27 (dk_at dksX1_does_0 17 rfl rfl)
theorem dX1_does_18 : decode cX1_does 18 = .ok (.iload_n 2, 1) := dk_28 (dk_at dksX1_does_0 18 rfl rfl)
theorem dX1_does_19 : decode cX1_does 19 = .ok (.iload_n 3, 1) := dk_29 (dk_at dksX1_does_0 19 rfl rfl)
theorem dX1_does_20 : decode cX1_does 20 = .ok (.iload 4, 2) := dk_21 4 (dk_at dksX1_does_0 20 rfl rfl)
theorem dX1_does_22 : decode cX1_does 22 = .ok (.iload 5, 2) := dk_21 5 (dk_at dksX1_does_0 22 rfl rfl)
theorem dX1_does_24 : decode cX1_does 24 = .ok (.iload 6, 2) := dk_21 6 (dk_at dksX1_does_1 0 rfl rfl)
theorem dX1_does_26 : decode cX1_does 26 = .ok (.invokevirtual 72, 3) := dk_182 0 72 (dk_at dksX1_does_1 2 rfl rfl)
theorem dX1_does_29 : decode cX1_does 29 = .ok (.istore 7, 2) := dk_54 7 (dk_at dksX1_does_1 5 rfl rfl)
theorem dX1_does_31 : decode cX1_does 31 = .ok (.aload_n 0, 1) := dk_42 (dk_at dksX1_does_1 7 rfl rfl)
theorem dX1_does_32 : decode cX1_does 32 = .ok (.getfield 32, 3) := dk_180 0 32 (dk_at dksX1_does_1 8 rfl rfl)
theorem dX1_does_35 : decode cX1_does 35 = .ok (.aload_n 0, 1) := dk_42 (dk_at dksX1_does_1 11 rfl rfl)
theorem dX1_does_36 : decode cX1_does 36 = .ok (.getfield 68, 3) := dk_180 0 68 (dk_at dksX1_does_1 12 rfl rfl)
theorem dX1_does_39 : decode cX1_does 39 = .ok (.iload_n 1, 1) := dk_27 (dk_at dksX1_does_1 15 rfl rfl)
theorem dX1_does_40 : decode cX1_does 40 = .ok (.iload_n 2, 1) := dk_28 (dk_at dksX1_does_1 16 rfl rfl)
theorem dX1_does_41 : decode cX1_does 41 = .ok (.iload_n 3, 1) := dk_29 (dk_at dksX1_does_1 17 rfl rfl)
theorem dX1_does_42 : decode cX1_does 42 = .ok (.iload 4, 2) := dk_21 4 (dk_at dksX1_does_1 18 rfl rfl)
theorem dX1_does_44 : decode cX1_does 44 = .ok (.iload 5, 2) := dk_21 5 (dk_at dksX1_does_1 20 rfl rfl)
theorem dX1_does_46 : decode cX1_does 46 = .ok (.iload 6, 2) := dk_21 6 (dk_at dksX1_does_1 22 rfl rfl)
theorem dX1_does_48 : decode cX1_does 48 = .ok (.invokestatic 76, 3) := dk_184 0 76 (dk_at dksX1_does_2 0 rfl rfl)
theorem dX1_does_51 : decode cX1_does 51 = .ok (.aload_n 0, 1) := dk_42 (dk_at dksX1_does_2 3 rfl rfl)
theorem dX1_does_52 : decode cX1_does 52 = .ok (.dup, 1) := dk_89 (dk_at dksX1_does_2 4 rfl rfl)
theorem dX1_does_53 : decode cX1_does 53 = .ok (.getfield 68, 3) := dk_180 0 68 (dk_at dksX1_does_2 5 rfl rfl)
theorem dX1_does_56 : decode cX1_does 56 = .ok (.iconst 1, 1) := dk_4 (dk_at dksX1_does_2 8 rfl rfl)
theorem dX1_does_57 : decode cX1_does 57 = .ok (.iadd, 1) := dk_96 (dk_at dksX1_does_2 9 rfl rfl)
theorem dX1_does_58 : decode cX1_does 58 = .ok (.putfield 68, 3) := dk_181 0 68 (dk_at dksX1_does_2 10 rfl rfl)
theorem dX1_does_61 : decode cX1_does 61 = .ok (.iload 7, 2) := dk_21 7 (dk_at dksX1_does_2 13 rfl rfl)
theorem dX1_does_63 : decode cX1_does 63 = .ok (.ireturn, 1) := dk_172 (dk_at dksX1_does_2 15 rfl rfl)
theorem dX1_does_64 : decode cX1_does 64 = .ok (.astore 7, 2) := dk_58 7 (dk_at dksX1_does_2 16 rfl rfl)
theorem dX1_does_66 : decode cX1_does 66 = .ok (.aload 7, 2) := dk_25 7 (dk_at dksX1_does_2 18 rfl rfl)
theorem dX1_does_68 : decode cX1_does 68 = .ok (.getfield 80, 3) := dk_180 0 80 (dk_at dksX1_does_2 20 rfl rfl)
theorem dX1_does_71 : decode cX1_does 71 = .ok (.ireturn, 1) := dk_172 (dk_at dksX1_does_2 23 rfl rfl)
abbrev cX1_row : ByteArray := prog_1_method_15_code
def yX1_row : MethodName := ⟨RX1, "row", "(III)I"⟩
def dkwX1_row_0 : List UInt8 := [42, 5, 27, 28, 29, 3, 3, 182, 0, 99, 172]
abbrev dktX1_row_0 : List UInt8 := dkwX1_row_0 ++ []
theorem dksX1_row_0 : cX1_row.data.toList.drop 0 = dktX1_row_0 := by decide +kernel
theorem dX1_row_0 : decode cX1_row 0 = .ok (.aload_n 0, 1) := dk_42 (dk_at dksX1_row_0 0 rfl rfl)
theorem dX1_row_1 : decode cX1_row 1 = .ok (.iconst 2, 1) := dk_5 (dk_at dksX1_row_0 1 rfl rfl)
theorem dX1_row_2 : decode cX1_row 2 = .ok (.iload_n 1, 1) := dk_27 (dk_at dksX1_row_0 2 rfl rfl)
theorem dX1_row_3 : decode cX1_row 3 = .ok (.iload_n 2, 1) := dk_28 (dk_at dksX1_row_0 3 rfl rfl)
theorem dX1_row_4 : decode cX1_row 4 = .ok (.iload_n 3, 1) := dk_29 (dk_at dksX1_row_0 4 rfl rfl)
theorem dX1_row_5 : decode cX1_row 5 = .ok (.iconst 0, 1) := dk_3 (dk_at dksX1_row_0 5 rfl rfl)
theorem dX1_row_6 : decode cX1_row 6 = .ok (.iconst 0, 1) := dk_3 (dk_at dksX1_row_0 6 rfl rfl)
theorem dX1_row_7 : decode cX1_row 7 = .ok (.invokevirtual 99, 3) := dk_182 0 99 (dk_at dksX1_row_0 7 rfl rfl)
theorem dX1_row_10 : decode cX1_row 10 = .ok (.ireturn, 1) := dk_172 (dk_at dksX1_row_0 10 rfl rfl)
abbrev cX1_tear : ByteArray := prog_1_method_16_code
def yX1_tear : MethodName := ⟨RX1, "tear", "(II)I"⟩
def dkwX1_tear_0 : List UInt8 := [42, 6, 27, 28, 3, 3, 3, 182, 0, 99, 172]
abbrev dktX1_tear_0 : List UInt8 := dkwX1_tear_0 ++ []
theorem dksX1_tear_0 : cX1_tear.data.toList.drop 0 = dktX1_tear_0 := by decide +kernel
theorem dX1_tear_0 : decode cX1_tear 0 = .ok (.aload_n 0, 1) := dk_42 (dk_at dksX1_tear_0 0 rfl rfl)
theorem dX1_tear_1 : decode cX1_tear 1 = .ok (.iconst 3, 1) := dk_6 (dk_at dksX1_tear_0 1 rfl rfl)
theorem dX1_tear_2 : decode cX1_tear 2 = .ok (.iload_n 1, 1) := dk_27 (dk_at dksX1_tear_0 2 rfl rfl)
theorem dX1_tear_3 : decode cX1_tear 3 = .ok (.iload_n 2, 1) := dk_28 (dk_at dksX1_tear_0 3 rfl rfl)
theorem dX1_tear_4 : decode cX1_tear 4 = .ok (.iconst 0, 1) := dk_3 (dk_at dksX1_tear_0 4 rfl rfl)
theorem dX1_tear_5 : decode cX1_tear 5 = .ok (.iconst 0, 1) := dk_3 (dk_at dksX1_tear_0 5 rfl rfl)
theorem dX1_tear_6 : decode cX1_tear 6 = .ok (.iconst 0, 1) := dk_3 (dk_at dksX1_tear_0 6 rfl rfl)
theorem dX1_tear_7 : decode cX1_tear 7 = .ok (.invokevirtual 99, 3) := dk_182 0 99 (dk_at dksX1_tear_0 7 rfl rfl)
theorem dX1_tear_10 : decode cX1_tear 10 = .ok (.ireturn, 1) := dk_172 (dk_at dksX1_tear_0 10 rfl rfl)
abbrev cX1_place : ByteArray := prog_1_method_17_code
def yX1_place : MethodName := ⟨RX1, "place", "(IIII)I"⟩
def dkwX1_place_0 : List UInt8 := [42, 7, 27, 28, 29, 21, 4, 3, 182, 0, 99, 172]
abbrev dktX1_place_0 : List UInt8 := dkwX1_place_0 ++ []
theorem dksX1_place_0 : cX1_place.data.toList.drop 0 = dktX1_place_0 := by decide +kernel
theorem dX1_place_0 : decode cX1_place 0 = .ok (.aload_n 0, 1) := dk_42 (dk_at dksX1_place_0 0 rfl rfl)
theorem dX1_place_1 : decode cX1_place 1 = .ok (.iconst 4, 1) := dk_7 (dk_at dksX1_place_0 1 rfl rfl)
theorem dX1_place_2 : decode cX1_place 2 = .ok (.iload_n 1, 1) := dk_27 (dk_at dksX1_place_0 2 rfl rfl)
theorem dX1_place_3 : decode cX1_place 3 = .ok (.iload_n 2, 1) := dk_28 (dk_at dksX1_place_0 3 rfl rfl)
theorem dX1_place_4 : decode cX1_place 4 = .ok (.iload_n 3, 1) := dk_29 (dk_at dksX1_place_0 4 rfl rfl)
theorem dX1_place_5 : decode cX1_place 5 = .ok (.iload 4, 2) := dk_21 4 (dk_at dksX1_place_0 5 rfl rfl)
theorem dX1_place_7 : decode cX1_place 7 = .ok (.iconst 0, 1) := dk_3 (dk_at dksX1_place_0 7 rfl rfl)
theorem dX1_place_8 : decode cX1_place 8 = .ok (.invokevirtual 99, 3) := dk_182 0 99 (dk_at dksX1_place_0 8 rfl rfl)
theorem dX1_place_11 : decode cX1_place 11 = .ok (.ireturn, 1) := dk_172 (dk_at dksX1_place_0 11 rfl rfl)
abbrev cX1_grave : ByteArray := prog_1_method_18_code
def yX1_grave : MethodName := ⟨RX1, "grave", "(IIIII)I"⟩
def dkwX1_grave_0 : List UInt8 := [42, 8, 27, 28, 29, 21, 4, 21, 5, 182, 0, 99, 172]
abbrev dktX1_grave_0 : List UInt8 := dkwX1_grave_0 ++ []
theorem dksX1_grave_0 : cX1_grave.data.toList.drop 0 = dktX1_grave_0 := by decide +kernel
theorem dX1_grave_0 : decode cX1_grave 0 = .ok (.aload_n 0, 1) := dk_42 (dk_at dksX1_grave_0 0 rfl rfl)
theorem dX1_grave_1 : decode cX1_grave 1 = .ok (.iconst 5, 1) := dk_8 (dk_at dksX1_grave_0 1 rfl rfl)
theorem dX1_grave_2 : decode cX1_grave 2 = .ok (.iload_n 1, 1) := dk_27 (dk_at dksX1_grave_0 2 rfl rfl)
theorem dX1_grave_3 : decode cX1_grave 3 = .ok (.iload_n 2, 1) := dk_28 (dk_at dksX1_grave_0 3 rfl rfl)
theorem dX1_grave_4 : decode cX1_grave 4 = .ok (.iload_n 3, 1) := dk_29 (dk_at dksX1_grave_0 4 rfl rfl)
theorem dX1_grave_5 : decode cX1_grave 5 = .ok (.iload 4, 2) := dk_21 4 (dk_at dksX1_grave_0 5 rfl rfl)
theorem dX1_grave_7 : decode cX1_grave 7 = .ok (.iload 5, 2) := dk_21 5 (dk_at dksX1_grave_0 7 rfl rfl)
theorem dX1_grave_9 : decode cX1_grave 9 = .ok (.invokevirtual 99, 3) := dk_182 0 99 (dk_at dksX1_grave_0 9 rfl rfl)
theorem dX1_grave_12 : decode cX1_grave 12 = .ok (.ireturn, 1) := dk_172 (dk_at dksX1_grave_0 12 rfl rfl)
abbrev cX1_person : ByteArray := prog_1_method_19_code
def yX1_person : MethodName := ⟨RX1, "person", "(I)I"⟩
def dkwX1_person_0 : List UInt8 := [42, 16, 6, 27, 3, 3, 3, 3, 182, 0, 99, 172]
abbrev dktX1_person_0 : List UInt8 := dkwX1_person_0 ++ []
theorem dksX1_person_0 : cX1_person.data.toList.drop 0 = dktX1_person_0 := by decide +kernel
theorem dX1_person_0 : decode cX1_person 0 = .ok (.aload_n 0, 1) := dk_42 (dk_at dksX1_person_0 0 rfl rfl)
theorem dX1_person_1 : decode cX1_person 1 = .ok (.bipush 6, 2) := dk_16 6 (dk_at dksX1_person_0 1 rfl rfl)
theorem dX1_person_3 : decode cX1_person 3 = .ok (.iload_n 1, 1) := dk_27 (dk_at dksX1_person_0 3 rfl rfl)
theorem dX1_person_4 : decode cX1_person 4 = .ok (.iconst 0, 1) := dk_3 (dk_at dksX1_person_0 4 rfl rfl)
theorem dX1_person_5 : decode cX1_person 5 = .ok (.iconst 0, 1) := dk_3 (dk_at dksX1_person_0 5 rfl rfl)
theorem dX1_person_6 : decode cX1_person 6 = .ok (.iconst 0, 1) := dk_3 (dk_at dksX1_person_0 6 rfl rfl)
theorem dX1_person_7 : decode cX1_person 7 = .ok (.iconst 0, 1) := dk_3 (dk_at dksX1_person_0 7 rfl rfl)
theorem dX1_person_8 : decode cX1_person 8 = .ok (.invokevirtual 99, 3) := dk_182 0 99 (dk_at dksX1_person_0 8 rfl rfl)
theorem dX1_person_11 : decode cX1_person 11 = .ok (.ireturn, 1) := dk_172 (dk_at dksX1_person_0 11 rfl rfl)
abbrev cX1_kin : ByteArray := prog_1_method_20_code
def yX1_kin : MethodName := ⟨RX1, "kin", "(III)I"⟩
def dkwX1_kin_0 : List UInt8 := [42, 16, 7, 27, 28, 29, 3, 3, 182, 0, 99, 172]
abbrev dktX1_kin_0 : List UInt8 := dkwX1_kin_0 ++ []
theorem dksX1_kin_0 : cX1_kin.data.toList.drop 0 = dktX1_kin_0 := by decide +kernel
theorem dX1_kin_0 : decode cX1_kin 0 = .ok (.aload_n 0, 1) := dk_42 (dk_at dksX1_kin_0 0 rfl rfl)
theorem dX1_kin_1 : decode cX1_kin 1 = .ok (.bipush 7, 2) := dk_16 7 (dk_at dksX1_kin_0 1 rfl rfl)
theorem dX1_kin_3 : decode cX1_kin 3 = .ok (.iload_n 1, 1) := dk_27 (dk_at dksX1_kin_0 3 rfl rfl)
theorem dX1_kin_4 : decode cX1_kin 4 = .ok (.iload_n 2, 1) := dk_28 (dk_at dksX1_kin_0 4 rfl rfl)
theorem dX1_kin_5 : decode cX1_kin 5 = .ok (.iload_n 3, 1) := dk_29 (dk_at dksX1_kin_0 5 rfl rfl)
theorem dX1_kin_6 : decode cX1_kin 6 = .ok (.iconst 0, 1) := dk_3 (dk_at dksX1_kin_0 6 rfl rfl)
theorem dX1_kin_7 : decode cX1_kin 7 = .ok (.iconst 0, 1) := dk_3 (dk_at dksX1_kin_0 7 rfl rfl)
theorem dX1_kin_8 : decode cX1_kin 8 = .ok (.invokevirtual 99, 3) := dk_182 0 99 (dk_at dksX1_kin_0 8 rfl rfl)
theorem dX1_kin_11 : decode cX1_kin 11 = .ok (.ireturn, 1) := dk_172 (dk_at dksX1_kin_0 11 rfl rfl)
abbrev cX1_paper : ByteArray := prog_1_method_21_code
def yX1_paper : MethodName := ⟨RX1, "paper", "(II)I"⟩
def dkwX1_paper_0 : List UInt8 := [42, 16, 8, 27, 28, 3, 3, 3, 182, 0, 99, 172]
abbrev dktX1_paper_0 : List UInt8 := dkwX1_paper_0 ++ []
theorem dksX1_paper_0 : cX1_paper.data.toList.drop 0 = dktX1_paper_0 := by decide +kernel
theorem dX1_paper_0 : decode cX1_paper 0 = .ok (.aload_n 0, 1) := dk_42 (dk_at dksX1_paper_0 0 rfl rfl)
theorem dX1_paper_1 : decode cX1_paper 1 = .ok (.bipush 8, 2) := dk_16 8 (dk_at dksX1_paper_0 1 rfl rfl)
theorem dX1_paper_3 : decode cX1_paper 3 = .ok (.iload_n 1, 1) := dk_27 (dk_at dksX1_paper_0 3 rfl rfl)
theorem dX1_paper_4 : decode cX1_paper 4 = .ok (.iload_n 2, 1) := dk_28 (dk_at dksX1_paper_0 4 rfl rfl)
theorem dX1_paper_5 : decode cX1_paper 5 = .ok (.iconst 0, 1) := dk_3 (dk_at dksX1_paper_0 5 rfl rfl)
theorem dX1_paper_6 : decode cX1_paper 6 = .ok (.iconst 0, 1) := dk_3 (dk_at dksX1_paper_0 6 rfl rfl)
theorem dX1_paper_7 : decode cX1_paper 7 = .ok (.iconst 0, 1) := dk_3 (dk_at dksX1_paper_0 7 rfl rfl)
theorem dX1_paper_8 : decode cX1_paper 8 = .ok (.invokevirtual 99, 3) := dk_182 0 99 (dk_at dksX1_paper_0 8 rfl rfl)
theorem dX1_paper_11 : decode cX1_paper 11 = .ok (.ireturn, 1) := dk_172 (dk_at dksX1_paper_0 11 rfl rfl)
abbrev cX1_right : ByteArray := prog_1_method_22_code
def yX1_right : MethodName := ⟨RX1, "right", "(III)I"⟩
def dkwX1_right_0 : List UInt8 := [42, 16, 9, 27, 28, 29, 3, 3, 182, 0, 99, 172]
abbrev dktX1_right_0 : List UInt8 := dkwX1_right_0 ++ []
theorem dksX1_right_0 : cX1_right.data.toList.drop 0 = dktX1_right_0 := by decide +kernel
theorem dX1_right_0 : decode cX1_right 0 = .ok (.aload_n 0, 1) := dk_42 (dk_at dksX1_right_0 0 rfl rfl)
theorem dX1_right_1 : decode cX1_right 1 = .ok (.bipush 9, 2) := dk_16 9 (dk_at dksX1_right_0 1 rfl rfl)
theorem dX1_right_3 : decode cX1_right 3 = .ok (.iload_n 1, 1) := dk_27 (dk_at dksX1_right_0 3 rfl rfl)
theorem dX1_right_4 : decode cX1_right 4 = .ok (.iload_n 2, 1) := dk_28 (dk_at dksX1_right_0 4 rfl rfl)
theorem dX1_right_5 : decode cX1_right 5 = .ok (.iload_n 3, 1) := dk_29 (dk_at dksX1_right_0 5 rfl rfl)
theorem dX1_right_6 : decode cX1_right 6 = .ok (.iconst 0, 1) := dk_3 (dk_at dksX1_right_0 6 rfl rfl)
theorem dX1_right_7 : decode cX1_right 7 = .ok (.iconst 0, 1) := dk_3 (dk_at dksX1_right_0 7 rfl rfl)
theorem dX1_right_8 : decode cX1_right 8 = .ok (.invokevirtual 99, 3) := dk_182 0 99 (dk_at dksX1_right_0 8 rfl rfl)
theorem dX1_right_11 : decode cX1_right 11 = .ok (.ireturn, 1) := dk_172 (dk_at dksX1_right_0 11 rfl rfl)
abbrev cX1_longer : ByteArray := prog_1_method_23_code
def yX1_longer : MethodName := ⟨RX1, "longer", "(II)I"⟩
def dkwX1_longer_0 : List UInt8 := [42, 16, 10, 27, 28, 3, 3, 3, 182, 0, 99, 172]
abbrev dktX1_longer_0 : List UInt8 := dkwX1_longer_0 ++ []
theorem dksX1_longer_0 : cX1_longer.data.toList.drop 0 = dktX1_longer_0 := by decide +kernel
theorem dX1_longer_0 : decode cX1_longer 0 = .ok (.aload_n 0, 1) := dk_42 (dk_at dksX1_longer_0 0 rfl rfl)
theorem dX1_longer_1 : decode cX1_longer 1 = .ok (.bipush 10, 2) := dk_16 10 (dk_at dksX1_longer_0 1 rfl rfl)
theorem dX1_longer_3 : decode cX1_longer 3 = .ok (.iload_n 1, 1) := dk_27 (dk_at dksX1_longer_0 3 rfl rfl)
theorem dX1_longer_4 : decode cX1_longer 4 = .ok (.iload_n 2, 1) := dk_28 (dk_at dksX1_longer_0 4 rfl rfl)
theorem dX1_longer_5 : decode cX1_longer 5 = .ok (.iconst 0, 1) := dk_3 (dk_at dksX1_longer_0 5 rfl rfl)
theorem dX1_longer_6 : decode cX1_longer 6 = .ok (.iconst 0, 1) := dk_3 (dk_at dksX1_longer_0 6 rfl rfl)
theorem dX1_longer_7 : decode cX1_longer 7 = .ok (.iconst 0, 1) := dk_3 (dk_at dksX1_longer_0 7 rfl rfl)
theorem dX1_longer_8 : decode cX1_longer 8 = .ok (.invokevirtual 99, 3) := dk_182 0 99 (dk_at dksX1_longer_0 8 rfl rfl)
theorem dX1_longer_11 : decode cX1_longer 11 = .ok (.ireturn, 1) := dk_172 (dk_at dksX1_longer_0 11 rfl rfl)
abbrev cX1_agree : ByteArray := prog_1_method_24_code
def yX1_agree : MethodName := ⟨RX1, "agree", "(III)I"⟩
def dkwX1_agree_0 : List UInt8 := [42, 16, 11, 27, 28, 29, 3, 3, 182, 0, 99, 172]
abbrev dktX1_agree_0 : List UInt8 := dkwX1_agree_0 ++ []
theorem dksX1_agree_0 : cX1_agree.data.toList.drop 0 = dktX1_agree_0 := by decide +kernel
theorem dX1_agree_0 : decode cX1_agree 0 = .ok (.aload_n 0, 1) := dk_42 (dk_at dksX1_agree_0 0 rfl rfl)
theorem dX1_agree_1 : decode cX1_agree 1 = .ok (.bipush 11, 2) := dk_16 11 (dk_at dksX1_agree_0 1 rfl rfl)
theorem dX1_agree_3 : decode cX1_agree 3 = .ok (.iload_n 1, 1) := dk_27 (dk_at dksX1_agree_0 3 rfl rfl)
theorem dX1_agree_4 : decode cX1_agree 4 = .ok (.iload_n 2, 1) := dk_28 (dk_at dksX1_agree_0 4 rfl rfl)
theorem dX1_agree_5 : decode cX1_agree 5 = .ok (.iload_n 3, 1) := dk_29 (dk_at dksX1_agree_0 5 rfl rfl)
theorem dX1_agree_6 : decode cX1_agree 6 = .ok (.iconst 0, 1) := dk_3 (dk_at dksX1_agree_0 6 rfl rfl)
theorem dX1_agree_7 : decode cX1_agree 7 = .ok (.iconst 0, 1) := dk_3 (dk_at dksX1_agree_0 7 rfl rfl)
theorem dX1_agree_8 : decode cX1_agree 8 = .ok (.invokevirtual 99, 3) := dk_182 0 99 (dk_at dksX1_agree_0 8 rfl rfl)
theorem dX1_agree_11 : decode cX1_agree 11 = .ok (.ireturn, 1) := dk_172 (dk_at dksX1_agree_0 11 rfl rfl)
abbrev cX1_dies : ByteArray := prog_1_method_25_code
def yX1_dies : MethodName := ⟨RX1, "dies", "(I)I"⟩
def dkwX1_dies_0 : List UInt8 := [42, 16, 12, 27, 3, 3, 3, 3, 182, 0, 99, 172]
abbrev dktX1_dies_0 : List UInt8 := dkwX1_dies_0 ++ []
theorem dksX1_dies_0 : cX1_dies.data.toList.drop 0 = dktX1_dies_0 := by decide +kernel
theorem dX1_dies_0 : decode cX1_dies 0 = .ok (.aload_n 0, 1) := dk_42 (dk_at dksX1_dies_0 0 rfl rfl)
theorem dX1_dies_1 : decode cX1_dies 1 = .ok (.bipush 12, 2) := dk_16 12 (dk_at dksX1_dies_0 1 rfl rfl)
theorem dX1_dies_3 : decode cX1_dies 3 = .ok (.iload_n 1, 1) := dk_27 (dk_at dksX1_dies_0 3 rfl rfl)
theorem dX1_dies_4 : decode cX1_dies 4 = .ok (.iconst 0, 1) := dk_3 (dk_at dksX1_dies_0 4 rfl rfl)
theorem dX1_dies_5 : decode cX1_dies 5 = .ok (.iconst 0, 1) := dk_3 (dk_at dksX1_dies_0 5 rfl rfl)
theorem dX1_dies_6 : decode cX1_dies 6 = .ok (.iconst 0, 1) := dk_3 (dk_at dksX1_dies_0 6 rfl rfl)
theorem dX1_dies_7 : decode cX1_dies 7 = .ok (.iconst 0, 1) := dk_3 (dk_at dksX1_dies_0 7 rfl rfl)
theorem dX1_dies_8 : decode cX1_dies 8 = .ok (.invokevirtual 99, 3) := dk_182 0 99 (dk_at dksX1_dies_0 8 rfl rfl)
theorem dX1_dies_11 : decode cX1_dies 11 = .ok (.ireturn, 1) := dk_172 (dk_at dksX1_dies_0 11 rfl rfl)
abbrev cX1_takes : ByteArray := prog_1_method_26_code
def yX1_takes : MethodName := ⟨RX1, "takes", "(I)I"⟩
def dkwX1_takes_0 : List UInt8 := [42, 16, 13, 27, 3, 3, 3, 3, 182, 0, 99, 172]
abbrev dktX1_takes_0 : List UInt8 := dkwX1_takes_0 ++ []
theorem dksX1_takes_0 : cX1_takes.data.toList.drop 0 = dktX1_takes_0 := by decide +kernel
theorem dX1_takes_0 : decode cX1_takes 0 = .ok (.aload_n 0, 1) := dk_42 (dk_at dksX1_takes_0 0 rfl rfl)
theorem dX1_takes_1 : decode cX1_takes 1 = .ok (.bipush 13, 2) := dk_16 13 (dk_at dksX1_takes_0 1 rfl rfl)
theorem dX1_takes_3 : decode cX1_takes 3 = .ok (.iload_n 1, 1) := dk_27 (dk_at dksX1_takes_0 3 rfl rfl)
theorem dX1_takes_4 : decode cX1_takes 4 = .ok (.iconst 0, 1) := dk_3 (dk_at dksX1_takes_0 4 rfl rfl)
theorem dX1_takes_5 : decode cX1_takes 5 = .ok (.iconst 0, 1) := dk_3 (dk_at dksX1_takes_0 5 rfl rfl)
theorem dX1_takes_6 : decode cX1_takes 6 = .ok (.iconst 0, 1) := dk_3 (dk_at dksX1_takes_0 6 rfl rfl)
theorem dX1_takes_7 : decode cX1_takes 7 = .ok (.iconst 0, 1) := dk_3 (dk_at dksX1_takes_0 7 rfl rfl)
theorem dX1_takes_8 : decode cX1_takes 8 = .ok (.invokevirtual 99, 3) := dk_182 0 99 (dk_at dksX1_takes_0 8 rfl rfl)
theorem dX1_takes_11 : decode cX1_takes 11 = .ok (.ireturn, 1) := dk_172 (dk_at dksX1_takes_0 11 rfl rfl)
abbrev cX1_refuses : ByteArray := prog_1_method_27_code
def yX1_refuses : MethodName := ⟨RX1, "refuses", "(I)I"⟩
def dkwX1_refuses_0 : List UInt8 := [42, 16, 14, 27, 3, 3, 3, 3, 182, 0, 99, 172]
abbrev dktX1_refuses_0 : List UInt8 := dkwX1_refuses_0 ++ []
theorem dksX1_refuses_0 : cX1_refuses.data.toList.drop 0 = dktX1_refuses_0 := by decide +kernel
theorem dX1_refuses_0 : decode cX1_refuses 0 = .ok (.aload_n 0, 1) := dk_42 (dk_at dksX1_refuses_0 0 rfl rfl)
theorem dX1_refuses_1 : decode cX1_refuses 1 = .ok (.bipush 14, 2) := dk_16 14 (dk_at dksX1_refuses_0 1 rfl rfl)
theorem dX1_refuses_3 : decode cX1_refuses 3 = .ok (.iload_n 1, 1) := dk_27 (dk_at dksX1_refuses_0 3 rfl rfl)
theorem dX1_refuses_4 : decode cX1_refuses 4 = .ok (.iconst 0, 1) := dk_3 (dk_at dksX1_refuses_0 4 rfl rfl)
theorem dX1_refuses_5 : decode cX1_refuses 5 = .ok (.iconst 0, 1) := dk_3 (dk_at dksX1_refuses_0 5 rfl rfl)
theorem dX1_refuses_6 : decode cX1_refuses 6 = .ok (.iconst 0, 1) := dk_3 (dk_at dksX1_refuses_0 6 rfl rfl)
theorem dX1_refuses_7 : decode cX1_refuses 7 = .ok (.iconst 0, 1) := dk_3 (dk_at dksX1_refuses_0 7 rfl rfl)
theorem dX1_refuses_8 : decode cX1_refuses 8 = .ok (.invokevirtual 99, 3) := dk_182 0 99 (dk_at dksX1_refuses_0 8 rfl rfl)
theorem dX1_refuses_11 : decode cX1_refuses 11 = .ok (.ireturn, 1) := dk_172 (dk_at dksX1_refuses_0 11 rfl rfl)
abbrev cX1_bury : ByteArray := prog_1_method_28_code
def yX1_bury : MethodName := ⟨RX1, "bury", "(IIII)I"⟩
def dkwX1_bury_0 : List UInt8 := [42, 16, 15, 27, 28, 29, 21, 4, 3, 182, 0, 99, 172]
abbrev dktX1_bury_0 : List UInt8 := dkwX1_bury_0 ++ []
theorem dksX1_bury_0 : cX1_bury.data.toList.drop 0 = dktX1_bury_0 := by decide +kernel
theorem dX1_bury_0 : decode cX1_bury 0 = .ok (.aload_n 0, 1) := dk_42 (dk_at dksX1_bury_0 0 rfl rfl)
theorem dX1_bury_1 : decode cX1_bury 1 = .ok (.bipush 15, 2) := dk_16 15 (dk_at dksX1_bury_0 1 rfl rfl)
theorem dX1_bury_3 : decode cX1_bury 3 = .ok (.iload_n 1, 1) := dk_27 (dk_at dksX1_bury_0 3 rfl rfl)
theorem dX1_bury_4 : decode cX1_bury 4 = .ok (.iload_n 2, 1) := dk_28 (dk_at dksX1_bury_0 4 rfl rfl)
theorem dX1_bury_5 : decode cX1_bury 5 = .ok (.iload_n 3, 1) := dk_29 (dk_at dksX1_bury_0 5 rfl rfl)
theorem dX1_bury_6 : decode cX1_bury 6 = .ok (.iload 4, 2) := dk_21 4 (dk_at dksX1_bury_0 6 rfl rfl)
theorem dX1_bury_8 : decode cX1_bury 8 = .ok (.iconst 0, 1) := dk_3 (dk_at dksX1_bury_0 8 rfl rfl)
theorem dX1_bury_9 : decode cX1_bury 9 = .ok (.invokevirtual 99, 3) := dk_182 0 99 (dk_at dksX1_bury_0 9 rfl rfl)
theorem dX1_bury_12 : decode cX1_bury 12 = .ok (.ireturn, 1) := dk_172 (dk_at dksX1_bury_0 12 rfl rfl)
abbrev cX1_move : ByteArray := prog_1_method_29_code
def yX1_move : MethodName := ⟨RX1, "move", "(IIII)I"⟩
def dkwX1_move_0 : List UInt8 := [42, 16, 16, 27, 28, 29, 21, 4, 3, 182, 0, 99, 172]
abbrev dktX1_move_0 : List UInt8 := dkwX1_move_0 ++ []
theorem dksX1_move_0 : cX1_move.data.toList.drop 0 = dktX1_move_0 := by decide +kernel
theorem dX1_move_0 : decode cX1_move 0 = .ok (.aload_n 0, 1) := dk_42 (dk_at dksX1_move_0 0 rfl rfl)
theorem dX1_move_1 : decode cX1_move 1 = .ok (.bipush 16, 2) := dk_16 16 (dk_at dksX1_move_0 1 rfl rfl)
theorem dX1_move_3 : decode cX1_move 3 = .ok (.iload_n 1, 1) := dk_27 (dk_at dksX1_move_0 3 rfl rfl)
theorem dX1_move_4 : decode cX1_move 4 = .ok (.iload_n 2, 1) := dk_28 (dk_at dksX1_move_0 4 rfl rfl)
theorem dX1_move_5 : decode cX1_move 5 = .ok (.iload_n 3, 1) := dk_29 (dk_at dksX1_move_0 5 rfl rfl)
theorem dX1_move_6 : decode cX1_move 6 = .ok (.iload 4, 2) := dk_21 4 (dk_at dksX1_move_0 6 rfl rfl)
theorem dX1_move_8 : decode cX1_move 8 = .ok (.iconst 0, 1) := dk_3 (dk_at dksX1_move_0 8 rfl rfl)
theorem dX1_move_9 : decode cX1_move 9 = .ok (.invokevirtual 99, 3) := dk_182 0 99 (dk_at dksX1_move_0 9 rfl rfl)
theorem dX1_move_12 : decode cX1_move 12 = .ok (.ireturn, 1) := dk_172 (dk_at dksX1_move_0 12 rfl rfl)
abbrev cX1_clear : ByteArray := prog_1_method_30_code
def yX1_clear : MethodName := ⟨RX1, "clear", "(I)I"⟩
def dkwX1_clear_0 : List UInt8 := [42, 16, 17, 27, 3, 3, 3, 3, 182, 0, 99, 172]
abbrev dktX1_clear_0 : List UInt8 := dkwX1_clear_0 ++ []
theorem dksX1_clear_0 : cX1_clear.data.toList.drop 0 = dktX1_clear_0 := by decide +kernel
theorem dX1_clear_0 : decode cX1_clear 0 = .ok (.aload_n 0, 1) := dk_42 (dk_at dksX1_clear_0 0 rfl rfl)
theorem dX1_clear_1 : decode cX1_clear 1 = .ok (.bipush 17, 2) := dk_16 17 (dk_at dksX1_clear_0 1 rfl rfl)
theorem dX1_clear_3 : decode cX1_clear 3 = .ok (.iload_n 1, 1) := dk_27 (dk_at dksX1_clear_0 3 rfl rfl)
theorem dX1_clear_4 : decode cX1_clear 4 = .ok (.iconst 0, 1) := dk_3 (dk_at dksX1_clear_0 4 rfl rfl)
theorem dX1_clear_5 : decode cX1_clear 5 = .ok (.iconst 0, 1) := dk_3 (dk_at dksX1_clear_0 5 rfl rfl)
theorem dX1_clear_6 : decode cX1_clear 6 = .ok (.iconst 0, 1) := dk_3 (dk_at dksX1_clear_0 6 rfl rfl)
theorem dX1_clear_7 : decode cX1_clear 7 = .ok (.iconst 0, 1) := dk_3 (dk_at dksX1_clear_0 7 rfl rfl)
theorem dX1_clear_8 : decode cX1_clear 8 = .ok (.invokevirtual 99, 3) := dk_182 0 99 (dk_at dksX1_clear_0 8 rfl rfl)
theorem dX1_clear_11 : decode cX1_clear 11 = .ok (.ireturn, 1) := dk_172 (dk_at dksX1_clear_0 11 rfl rfl)
abbrev cX1_turn : ByteArray := prog_1_method_31_code
def yX1_turn : MethodName := ⟨RX1, "turn", "(I)I"⟩
def dkwX1_turn_0 : List UInt8 := [42, 16, 18, 27, 3, 3, 3, 3, 182, 0, 99, 172]
abbrev dktX1_turn_0 : List UInt8 := dkwX1_turn_0 ++ []
theorem dksX1_turn_0 : cX1_turn.data.toList.drop 0 = dktX1_turn_0 := by decide +kernel
theorem dX1_turn_0 : decode cX1_turn 0 = .ok (.aload_n 0, 1) := dk_42 (dk_at dksX1_turn_0 0 rfl rfl)
theorem dX1_turn_1 : decode cX1_turn 1 = .ok (.bipush 18, 2) := dk_16 18 (dk_at dksX1_turn_0 1 rfl rfl)
theorem dX1_turn_3 : decode cX1_turn 3 = .ok (.iload_n 1, 1) := dk_27 (dk_at dksX1_turn_0 3 rfl rfl)
theorem dX1_turn_4 : decode cX1_turn 4 = .ok (.iconst 0, 1) := dk_3 (dk_at dksX1_turn_0 4 rfl rfl)
theorem dX1_turn_5 : decode cX1_turn 5 = .ok (.iconst 0, 1) := dk_3 (dk_at dksX1_turn_0 5 rfl rfl)
theorem dX1_turn_6 : decode cX1_turn 6 = .ok (.iconst 0, 1) := dk_3 (dk_at dksX1_turn_0 6 rfl rfl)
theorem dX1_turn_7 : decode cX1_turn 7 = .ok (.iconst 0, 1) := dk_3 (dk_at dksX1_turn_0 7 rfl rfl)
theorem dX1_turn_8 : decode cX1_turn 8 = .ok (.invokevirtual 99, 3) := dk_182 0 99 (dk_at dksX1_turn_0 8 rfl rfl)
theorem dX1_turn_11 : decode cX1_turn 11 = .ok (.ireturn, 1) := dk_172 (dk_at dksX1_turn_0 11 rfl rfl)
abbrev cX1_why : ByteArray := prog_1_method_32_code
def yX1_why : MethodName := ⟨RX1, "why", "(IIII)I"⟩
def dkwX1_why_0 : List UInt8 := [42, 180, 0, 28, 27, 28, 29, 21, 4, 182, 0, 102, 172]
abbrev dktX1_why_0 : List UInt8 := dkwX1_why_0 ++ []
theorem dksX1_why_0 : cX1_why.data.toList.drop 0 = dktX1_why_0 := by decide +kernel
theorem dX1_why_0 : decode cX1_why 0 = .ok (.aload_n 0, 1) := dk_42 (dk_at dksX1_why_0 0 rfl rfl)
theorem dX1_why_1 : decode cX1_why 1 = .ok (.getfield 28, 3) := dk_180 0 28 (dk_at dksX1_why_0 1 rfl rfl)
theorem dX1_why_4 : decode cX1_why 4 = .ok (.iload_n 1, 1) := dk_27 (dk_at dksX1_why_0 4 rfl rfl)
theorem dX1_why_5 : decode cX1_why 5 = .ok (.iload_n 2, 1) := dk_28 (dk_at dksX1_why_0 5 rfl rfl)
theorem dX1_why_6 : decode cX1_why 6 = .ok (.iload_n 3, 1) := dk_29 (dk_at dksX1_why_0 6 rfl rfl)
theorem dX1_why_7 : decode cX1_why 7 = .ok (.iload 4, 2) := dk_21 4 (dk_at dksX1_why_0 7 rfl rfl)
theorem dX1_why_9 : decode cX1_why 9 = .ok (.invokevirtual 102, 3) := dk_182 0 102 (dk_at dksX1_why_0 9 rfl rfl)
theorem dX1_why_12 : decode cX1_why 12 = .ok (.ireturn, 1) := dk_172 (dk_at dksX1_why_0 12 rfl rfl)
abbrev cX1_plan : ByteArray := prog_1_method_33_code
def yX1_plan : MethodName := ⟨RX1, "plan", "(III)I"⟩
def dkwX1_plan_4 : List UInt8 := [17, 1, 109, 25, 4, 28, 182, 0, 120, 104, 182, 0, 124, 172]
abbrev dktX1_plan_4 : List UInt8 := dkwX1_plan_4 ++ []
def dkwX1_plan_3 : List UInt8 := [3, 172, 25, 4, 42, 180, 0, 28, 180, 0, 117, 42, 180, 0, 28, 180, 0, 117, 17, 1, 109, 29, 104, 96]
abbrev dktX1_plan_3 : List UInt8 := dkwX1_plan_3 ++ dktX1_plan_4
def dkwX1_plan_2 : List UInt8 := [182, 0, 113, 153, 0, 21, 25, 4, 180, 0, 110, 6, 159, 0, 12, 25, 4, 180, 0, 110, 5, 160, 0, 5]
abbrev dktX1_plan_2 : List UInt8 := dkwX1_plan_2 ++ dktX1_plan_3
def dkwX1_plan_1 : List UInt8 := [28, 155, 0, 18, 28, 5, 163, 0, 13, 29, 155, 0, 9, 29, 16, 100, 164, 0, 5, 2, 172, 25, 4, 28]
abbrev dktX1_plan_1 : List UInt8 := dkwX1_plan_1 ++ dktX1_plan_2
def dkwX1_plan_0 : List UInt8 := [42, 180, 0, 28, 27, 182, 0, 106, 58, 4, 25, 4, 198, 0, 31, 25, 4, 180, 0, 110, 7, 159, 0, 22]
abbrev dktX1_plan_0 : List UInt8 := dkwX1_plan_0 ++ dktX1_plan_1
theorem dksX1_plan_0 : cX1_plan.data.toList.drop 0 = dktX1_plan_0 := by decide +kernel
theorem dksX1_plan_1 : cX1_plan.data.toList.drop 24 = dktX1_plan_1 := dk_seg dksX1_plan_0 24 rfl rfl
theorem dksX1_plan_2 : cX1_plan.data.toList.drop 48 = dktX1_plan_2 := dk_seg dksX1_plan_1 24 rfl rfl
theorem dksX1_plan_3 : cX1_plan.data.toList.drop 72 = dktX1_plan_3 := dk_seg dksX1_plan_2 24 rfl rfl
theorem dksX1_plan_4 : cX1_plan.data.toList.drop 96 = dktX1_plan_4 := dk_seg dksX1_plan_3 24 rfl rfl
theorem dX1_plan_0 : decode cX1_plan 0 = .ok (.aload_n 0, 1) := dk_42 (dk_at dksX1_plan_0 0 rfl rfl)
theorem dX1_plan_1 : decode cX1_plan 1 = .ok (.getfield 28, 3) := dk_180 0 28 (dk_at dksX1_plan_0 1 rfl rfl)
theorem dX1_plan_4 : decode cX1_plan 4 = .ok (.iload_n 1, 1) := dk_27 (dk_at dksX1_plan_0 4 rfl rfl)
theorem dX1_plan_5 : decode cX1_plan 5 = .ok (.invokevirtual 106, 3) := dk_182 0 106 (dk_at dksX1_plan_0 5 rfl rfl)
theorem dX1_plan_8 : decode cX1_plan 8 = .ok (.astore 4, 2) := dk_58 4 (dk_at dksX1_plan_0 8 rfl rfl)
theorem dX1_plan_10 : decode cX1_plan 10 = .ok (.aload 4, 2) := dk_25 4 (dk_at dksX1_plan_0 10 rfl rfl)
theorem dX1_plan_12 : decode cX1_plan 12 = .ok (.ifnull 31, 3) := dk_198 0 31 (dk_at dksX1_plan_0 12 rfl rfl)
theorem dX1_plan_15 : decode cX1_plan 15 = .ok (.aload 4, 2) := dk_25 4 (dk_at dksX1_plan_0 15 rfl rfl)
theorem dX1_plan_17 : decode cX1_plan 17 = .ok (.getfield 110, 3) := dk_180 0 110 (dk_at dksX1_plan_0 17 rfl rfl)
theorem dX1_plan_20 : decode cX1_plan 20 = .ok (.iconst 4, 1) := dk_7 (dk_at dksX1_plan_0 20 rfl rfl)
theorem dX1_plan_21 : decode cX1_plan 21 = .ok (.if_icmp .eq 22, 3) := dk_159 0 22 (dk_at dksX1_plan_0 21 rfl rfl)
theorem dX1_plan_24 : decode cX1_plan 24 = .ok (.iload_n 2, 1) := dk_28 (dk_at dksX1_plan_1 0 rfl rfl)
theorem dX1_plan_25 : decode cX1_plan 25 = .ok (.ifCond .lt 18, 3) := dk_155 0 18 (dk_at dksX1_plan_1 1 rfl rfl)
theorem dX1_plan_28 : decode cX1_plan 28 = .ok (.iload_n 2, 1) := dk_28 (dk_at dksX1_plan_1 4 rfl rfl)
theorem dX1_plan_29 : decode cX1_plan 29 = .ok (.iconst 2, 1) := dk_5 (dk_at dksX1_plan_1 5 rfl rfl)
theorem dX1_plan_30 : decode cX1_plan 30 = .ok (.if_icmp .gt 13, 3) := dk_163 0 13 (dk_at dksX1_plan_1 6 rfl rfl)
theorem dX1_plan_33 : decode cX1_plan 33 = .ok (.iload_n 3, 1) := dk_29 (dk_at dksX1_plan_1 9 rfl rfl)
theorem dX1_plan_34 : decode cX1_plan 34 = .ok (.ifCond .lt 9, 3) := dk_155 0 9 (dk_at dksX1_plan_1 10 rfl rfl)
theorem dX1_plan_37 : decode cX1_plan 37 = .ok (.iload_n 3, 1) := dk_29 (dk_at dksX1_plan_1 13 rfl rfl)
theorem dX1_plan_38 : decode cX1_plan 38 = .ok (.bipush 100, 2) := dk_16 100 (dk_at dksX1_plan_1 14 rfl rfl)
theorem dX1_plan_40 : decode cX1_plan 40 = .ok (.if_icmp .le 5, 3) := dk_164 0 5 (dk_at dksX1_plan_1 16 rfl rfl)
theorem dX1_plan_43 : decode cX1_plan 43 = .ok (.iconst (-1), 1) := dk_2 (dk_at dksX1_plan_1 19 rfl rfl)
theorem dX1_plan_44 : decode cX1_plan 44 = .ok (.ireturn, 1) := dk_172 (dk_at dksX1_plan_1 20 rfl rfl)
theorem dX1_plan_45 : decode cX1_plan 45 = .ok (.aload 4, 2) := dk_25 4 (dk_at dksX1_plan_1 21 rfl rfl)
theorem dX1_plan_47 : decode cX1_plan 47 = .ok (.iload_n 2, 1) := dk_28 (dk_at dksX1_plan_1 23 rfl rfl)
theorem dX1_plan_48 : decode cX1_plan 48 = .ok (.invokevirtual 113, 3) := dk_182 0 113 (dk_at dksX1_plan_2 0 rfl rfl)
theorem dX1_plan_51 : decode cX1_plan 51 = .ok (.ifCond .eq 21, 3) := dk_153 0 21 (dk_at dksX1_plan_2 3 rfl rfl)
theorem dX1_plan_54 : decode cX1_plan 54 = .ok (.aload 4, 2) := dk_25 4 (dk_at dksX1_plan_2 6 rfl rfl)
theorem dX1_plan_56 : decode cX1_plan 56 = .ok (.getfield 110, 3) := dk_180 0 110 (dk_at dksX1_plan_2 8 rfl rfl)
theorem dX1_plan_59 : decode cX1_plan 59 = .ok (.iconst 3, 1) := dk_6 (dk_at dksX1_plan_2 11 rfl rfl)
theorem dX1_plan_60 : decode cX1_plan 60 = .ok (.if_icmp .eq 12, 3) := dk_159 0 12 (dk_at dksX1_plan_2 12 rfl rfl)
theorem dX1_plan_63 : decode cX1_plan 63 = .ok (.aload 4, 2) := dk_25 4 (dk_at dksX1_plan_2 15 rfl rfl)
theorem dX1_plan_65 : decode cX1_plan 65 = .ok (.getfield 110, 3) := dk_180 0 110 (dk_at dksX1_plan_2 17 rfl rfl)
theorem dX1_plan_68 : decode cX1_plan 68 = .ok (.iconst 2, 1) := dk_5 (dk_at dksX1_plan_2 20 rfl rfl)
theorem dX1_plan_69 : decode cX1_plan 69 = .ok (.if_icmp .ne 5, 3) := dk_160 0 5 (dk_at dksX1_plan_2 21 rfl rfl)
theorem dX1_plan_72 : decode cX1_plan 72 = .ok (.iconst 0, 1) := dk_3 (dk_at dksX1_plan_3 0 rfl rfl)
theorem dX1_plan_73 : decode cX1_plan 73 = .ok (.ireturn, 1) := dk_172 (dk_at dksX1_plan_3 1 rfl rfl)
theorem dX1_plan_74 : decode cX1_plan 74 = .ok (.aload 4, 2) := dk_25 4 (dk_at dksX1_plan_3 2 rfl rfl)
theorem dX1_plan_76 : decode cX1_plan 76 = .ok (.aload_n 0, 1) := dk_42 (dk_at dksX1_plan_3 4 rfl rfl)
theorem dX1_plan_77 : decode cX1_plan 77 = .ok (.getfield 28, 3) := dk_180 0 28 (dk_at dksX1_plan_3 5 rfl rfl)
theorem dX1_plan_80 : decode cX1_plan 80 = .ok (.getfield 117, 3) := dk_180 0 117 (dk_at dksX1_plan_3 8 rfl rfl)
theorem dX1_plan_83 : decode cX1_plan 83 = .ok (.aload_n 0, 1) := dk_42 (dk_at dksX1_plan_3 11 rfl rfl)
theorem dX1_plan_84 : decode cX1_plan 84 = .ok (.getfield 28, 3) := dk_180 0 28 (dk_at dksX1_plan_3 12 rfl rfl)
theorem dX1_plan_87 : decode cX1_plan 87 = .ok (.getfield 117, 3) := dk_180 0 117 (dk_at dksX1_plan_3 15 rfl rfl)
theorem dX1_plan_90 : decode cX1_plan 90 = .ok (.sipush 365, 3) := dk_17 1 109 (dk_at dksX1_plan_3 18 rfl rfl)
theorem dX1_plan_93 : decode cX1_plan 93 = .ok (.iload_n 3, 1) := dk_29 (dk_at dksX1_plan_3 21 rfl rfl)
theorem dX1_plan_94 : decode cX1_plan 94 = .ok (.imul, 1) := dk_104 (dk_at dksX1_plan_3 22 rfl rfl)
theorem dX1_plan_95 : decode cX1_plan 95 = .ok (.iadd, 1) := dk_96 (dk_at dksX1_plan_3 23 rfl rfl)
theorem dX1_plan_96 : decode cX1_plan 96 = .ok (.sipush 365, 3) := dk_17 1 109 (dk_at dksX1_plan_4 0 rfl rfl)
theorem dX1_plan_99 : decode cX1_plan 99 = .ok (.aload 4, 2) := dk_25 4 (dk_at dksX1_plan_4 3 rfl rfl)
theorem dX1_plan_101 : decode cX1_plan 101 = .ok (.iload_n 2, 1) := dk_28 (dk_at dksX1_plan_4 5 rfl rfl)
theorem dX1_plan_102 : decode cX1_plan 102 = .ok (.invokevirtual 120, 3) := dk_182 0 120 (dk_at dksX1_plan_4 6 rfl rfl)
theorem dX1_plan_105 : decode cX1_plan 105 = .ok (.imul, 1) := dk_104 (dk_at dksX1_plan_4 9 rfl rfl)
theorem dX1_plan_106 : decode cX1_plan 106 = .ok (.invokevirtual 124, 3) := dk_182 0 124 (dk_at dksX1_plan_4 10 rfl rfl)
theorem dX1_plan_109 : decode cX1_plan 109 = .ok (.ireturn, 1) := dk_172 (dk_at dksX1_plan_4 13 rfl rfl)
abbrev cX1_free : ByteArray := prog_1_method_34_code
def yX1_free : MethodName := ⟨RX1, "free", "(III)I"⟩
def dkwX1_free_7 : List UInt8 := [132, 10, 1, 167, 255, 195, 132, 8, 1, 167, 255, 166, 132, 6, 1, 167, 255, 125, 2, 172]
abbrev dktX1_free_7 : List UInt8 := dkwX1_free_7 ++ []
def dkwX1_free_6 : List UInt8 := [154, 0, 19, 17, 3, 232, 21, 6, 104, 16, 50, 21, 8, 104, 96, 21, 10, 96, 172, 132, 5, 255]
abbrev dktX1_free_6 : List UInt8 := dkwX1_free_6 ++ dktX1_free_7
def dkwX1_free_5 : List UInt8 := [180, 0, 28, 25, 9, 21, 10, 27, 28, 25, 4, 182, 0, 157, 154, 0, 6, 167, 0, 27, 21, 5]
abbrev dktX1_free_5 : List UInt8 := dkwX1_free_5 ++ dktX1_free_6
def dkwX1_free_4 : List UInt8 := [21, 8, 50, 58, 9, 3, 54, 10, 25, 9, 198, 0, 62, 21, 10, 25, 9, 190, 162, 0, 54, 42]
abbrev dktX1_free_4 : List UInt8 := dkwX1_free_4 ++ dktX1_free_5
def dkwX1_free_3 : List UInt8 := [192, 0, 150, 58, 7, 3, 54, 8, 21, 8, 25, 7, 180, 0, 152, 162, 0, 86, 25, 7, 180, 0, 153]
abbrev dktX1_free_3 : List UInt8 := dkwX1_free_3 ++ dktX1_free_4
def dkwX1_free_2 : List UInt8 := [180, 0, 28, 180, 0, 136, 182, 0, 140, 162, 0, 122, 42, 180, 0, 28, 180, 0, 136, 21, 6, 182, 0, 146]
abbrev dktX1_free_2 : List UInt8 := dkwX1_free_2 ++ dktX1_free_3
def dkwX1_free_1 : List UInt8 := [172, 3, 3, 3, 3, 27, 28, 3, 184, 0, 132, 58, 4, 29, 54, 5, 3, 54, 6, 21, 6, 42]
abbrev dktX1_free_1 : List UInt8 := dkwX1_free_1 ++ dktX1_free_2
def dkwX1_free_0 : List UInt8 := [27, 4, 161, 0, 21, 27, 16, 6, 163, 0, 15, 27, 28, 184, 0, 128, 153, 0, 7, 29, 156, 0, 5, 2]
abbrev dktX1_free_0 : List UInt8 := dkwX1_free_0 ++ dktX1_free_1
theorem dksX1_free_0 : cX1_free.data.toList.drop 0 = dktX1_free_0 := by decide +kernel
theorem dksX1_free_1 : cX1_free.data.toList.drop 24 = dktX1_free_1 := dk_seg dksX1_free_0 24 rfl rfl
theorem dksX1_free_2 : cX1_free.data.toList.drop 46 = dktX1_free_2 := dk_seg dksX1_free_1 22 rfl rfl
theorem dksX1_free_3 : cX1_free.data.toList.drop 70 = dktX1_free_3 := dk_seg dksX1_free_2 24 rfl rfl
theorem dksX1_free_4 : cX1_free.data.toList.drop 93 = dktX1_free_4 := dk_seg dksX1_free_3 23 rfl rfl
theorem dksX1_free_5 : cX1_free.data.toList.drop 115 = dktX1_free_5 := dk_seg dksX1_free_4 22 rfl rfl
theorem dksX1_free_6 : cX1_free.data.toList.drop 137 = dktX1_free_6 := dk_seg dksX1_free_5 22 rfl rfl
theorem dksX1_free_7 : cX1_free.data.toList.drop 159 = dktX1_free_7 := dk_seg dksX1_free_6 22 rfl rfl
theorem dX1_free_0 : decode cX1_free 0 = .ok (.iload_n 1, 1) := dk_27 (dk_at dksX1_free_0 0 rfl rfl)
theorem dX1_free_1 : decode cX1_free 1 = .ok (.iconst 1, 1) := dk_4 (dk_at dksX1_free_0 1 rfl rfl)
theorem dX1_free_2 : decode cX1_free 2 = .ok (.if_icmp .lt 21, 3) := dk_161 0 21 (dk_at dksX1_free_0 2 rfl rfl)
theorem dX1_free_5 : decode cX1_free 5 = .ok (.iload_n 1, 1) := dk_27 (dk_at dksX1_free_0 5 rfl rfl)
theorem dX1_free_6 : decode cX1_free 6 = .ok (.bipush 6, 2) := dk_16 6 (dk_at dksX1_free_0 6 rfl rfl)
theorem dX1_free_8 : decode cX1_free 8 = .ok (.if_icmp .gt 15, 3) := dk_163 0 15 (dk_at dksX1_free_0 8 rfl rfl)
theorem dX1_free_11 : decode cX1_free 11 = .ok (.iload_n 1, 1) := dk_27 (dk_at dksX1_free_0 11 rfl rfl)
theorem dX1_free_12 : decode cX1_free 12 = .ok (.iload_n 2, 1) := dk_28 (dk_at dksX1_free_0 12 rfl rfl)
theorem dX1_free_13 : decode cX1_free 13 = .ok (.invokestatic 128, 3) := dk_184 0 128 (dk_at dksX1_free_0 13 rfl rfl)
theorem dX1_free_16 : decode cX1_free 16 = .ok (.ifCond .eq 7, 3) := dk_153 0 7 (dk_at dksX1_free_0 16 rfl rfl)
theorem dX1_free_19 : decode cX1_free 19 = .ok (.iload_n 3, 1) := dk_29 (dk_at dksX1_free_0 19 rfl rfl)
theorem dX1_free_20 : decode cX1_free 20 = .ok (.ifCond .ge 5, 3) := dk_156 0 5 (dk_at dksX1_free_0 20 rfl rfl)
theorem dX1_free_23 : decode cX1_free 23 = .ok (.iconst (-1), 1) := dk_2 (dk_at dksX1_free_0 23 rfl rfl)
theorem dX1_free_24 : decode cX1_free 24 = .ok (.ireturn, 1) := dk_172 (dk_at dksX1_free_1 0 rfl rfl)
theorem dX1_free_25 : decode cX1_free 25 = .ok (.iconst 0, 1) := dk_3 (dk_at dksX1_free_1 1 rfl rfl)
theorem dX1_free_26 : decode cX1_free 26 = .ok (.iconst 0, 1) := dk_3 (dk_at dksX1_free_1 2 rfl rfl)
theorem dX1_free_27 : decode cX1_free 27 = .ok (.iconst 0, 1) := dk_3 (dk_at dksX1_free_1 3 rfl rfl)
theorem dX1_free_28 : decode cX1_free 28 = .ok (.iconst 0, 1) := dk_3 (dk_at dksX1_free_1 4 rfl rfl)
theorem dX1_free_29 : decode cX1_free 29 = .ok (.iload_n 1, 1) := dk_27 (dk_at dksX1_free_1 5 rfl rfl)
theorem dX1_free_30 : decode cX1_free 30 = .ok (.iload_n 2, 1) := dk_28 (dk_at dksX1_free_1 6 rfl rfl)
theorem dX1_free_31 : decode cX1_free 31 = .ok (.iconst 0, 1) := dk_3 (dk_at dksX1_free_1 7 rfl rfl)
theorem dX1_free_32 : decode cX1_free 32 = .ok (.invokestatic 132, 3) := dk_184 0 132 (dk_at dksX1_free_1 8 rfl rfl)
theorem dX1_free_35 : decode cX1_free 35 = .ok (.astore 4, 2) := dk_58 4 (dk_at dksX1_free_1 11 rfl rfl)
theorem dX1_free_37 : decode cX1_free 37 = .ok (.iload_n 3, 1) := dk_29 (dk_at dksX1_free_1 13 rfl rfl)
theorem dX1_free_38 : decode cX1_free 38 = .ok (.istore 5, 2) := dk_54 5 (dk_at dksX1_free_1 14 rfl rfl)
theorem dX1_free_40 : decode cX1_free 40 = .ok (.iconst 0, 1) := dk_3 (dk_at dksX1_free_1 16 rfl rfl)
theorem dX1_free_41 : decode cX1_free 41 = .ok (.istore 6, 2) := dk_54 6 (dk_at dksX1_free_1 17 rfl rfl)
theorem dX1_free_43 : decode cX1_free 43 = .ok (.iload 6, 2) := dk_21 6 (dk_at dksX1_free_1 19 rfl rfl)
theorem dX1_free_45 : decode cX1_free 45 = .ok (.aload_n 0, 1) := dk_42 (dk_at dksX1_free_1 21 rfl rfl)
theorem dX1_free_46 : decode cX1_free 46 = .ok (.getfield 28, 3) := dk_180 0 28 (dk_at dksX1_free_2 0 rfl rfl)
theorem dX1_free_49 : decode cX1_free 49 = .ok (.getfield 136, 3) := dk_180 0 136 (dk_at dksX1_free_2 3 rfl rfl)
theorem dX1_free_52 : decode cX1_free 52 = .ok (.invokevirtual 140, 3) := dk_182 0 140 (dk_at dksX1_free_2 6 rfl rfl)
theorem dX1_free_55 : decode cX1_free 55 = .ok (.if_icmp .ge 122, 3) := dk_162 0 122 (dk_at dksX1_free_2 9 rfl rfl)
theorem dX1_free_58 : decode cX1_free 58 = .ok (.aload_n 0, 1) := dk_42 (dk_at dksX1_free_2 12 rfl rfl)
theorem dX1_free_59 : decode cX1_free 59 = .ok (.getfield 28, 3) := dk_180 0 28 (dk_at dksX1_free_2 13 rfl rfl)
theorem dX1_free_62 : decode cX1_free 62 = .ok (.getfield 136, 3) := dk_180 0 136 (dk_at dksX1_free_2 16 rfl rfl)
theorem dX1_free_65 : decode cX1_free 65 = .ok (.iload 6, 2) := dk_21 6 (dk_at dksX1_free_2 19 rfl rfl)
theorem dX1_free_67 : decode cX1_free 67 = .ok (.invokevirtual 146, 3) := dk_182 0 146 (dk_at dksX1_free_2 21 rfl rfl)
theorem dX1_free_70 : decode cX1_free 70 = .ok (.checkcast 150, 3) := dk_192 0 150 (dk_at dksX1_free_3 0 rfl rfl)
theorem dX1_free_73 : decode cX1_free 73 = .ok (.astore 7, 2) := dk_58 7 (dk_at dksX1_free_3 3 rfl rfl)
theorem dX1_free_75 : decode cX1_free 75 = .ok (.iconst 0, 1) := dk_3 (dk_at dksX1_free_3 5 rfl rfl)
theorem dX1_free_76 : decode cX1_free 76 = .ok (.istore 8, 2) := dk_54 8 (dk_at dksX1_free_3 6 rfl rfl)
theorem dX1_free_78 : decode cX1_free 78 = .ok (.iload 8, 2) := dk_21 8 (dk_at dksX1_free_3 8 rfl rfl)
theorem dX1_free_80 : decode cX1_free 80 = .ok (.aload 7, 2) := dk_25 7 (dk_at dksX1_free_3 10 rfl rfl)
theorem dX1_free_82 : decode cX1_free 82 = .ok (.getfield 152, 3) := dk_180 0 152 (dk_at dksX1_free_3 12 rfl rfl)
theorem dX1_free_85 : decode cX1_free 85 = .ok (.if_icmp .ge 86, 3) := dk_162 0 86 (dk_at dksX1_free_3 15 rfl rfl)
theorem dX1_free_88 : decode cX1_free 88 = .ok (.aload 7, 2) := dk_25 7 (dk_at dksX1_free_3 18 rfl rfl)
theorem dX1_free_90 : decode cX1_free 90 = .ok (.getfield 153, 3) := dk_180 0 153 (dk_at dksX1_free_3 20 rfl rfl)
theorem dX1_free_93 : decode cX1_free 93 = .ok (.iload 8, 2) := dk_21 8 (dk_at dksX1_free_4 0 rfl rfl)
theorem dX1_free_95 : decode cX1_free 95 = .ok (.aaload, 1) := dk_50 (dk_at dksX1_free_4 2 rfl rfl)
theorem dX1_free_96 : decode cX1_free 96 = .ok (.astore 9, 2) := dk_58 9 (dk_at dksX1_free_4 3 rfl rfl)
theorem dX1_free_98 : decode cX1_free 98 = .ok (.iconst 0, 1) := dk_3 (dk_at dksX1_free_4 5 rfl rfl)
theorem dX1_free_99 : decode cX1_free 99 = .ok (.istore 10, 2) := dk_54 10 (dk_at dksX1_free_4 6 rfl rfl)
theorem dX1_free_101 : decode cX1_free 101 = .ok (.aload 9, 2) := dk_25 9 (dk_at dksX1_free_4 8 rfl rfl)
theorem dX1_free_103 : decode cX1_free 103 = .ok (.ifnull 62, 3) := dk_198 0 62 (dk_at dksX1_free_4 10 rfl rfl)
theorem dX1_free_106 : decode cX1_free 106 = .ok (.iload 10, 2) := dk_21 10 (dk_at dksX1_free_4 13 rfl rfl)
theorem dX1_free_108 : decode cX1_free 108 = .ok (.aload 9, 2) := dk_25 9 (dk_at dksX1_free_4 15 rfl rfl)
theorem dX1_free_110 : decode cX1_free 110 = .ok (.arraylength, 1) := dk_190 (dk_at dksX1_free_4 17 rfl rfl)
theorem dX1_free_111 : decode cX1_free 111 = .ok (.if_icmp .ge 54, 3) := dk_162 0 54 (dk_at dksX1_free_4 18 rfl rfl)
theorem dX1_free_114 : decode cX1_free 114 = .ok (.aload_n 0, 1) := dk_42 (dk_at dksX1_free_4 21 rfl rfl)
theorem dX1_free_115 : decode cX1_free 115 = .ok (.getfield 28, 3) := dk_180 0 28 (dk_at dksX1_free_5 0 rfl rfl)
theorem dX1_free_118 : decode cX1_free 118 = .ok (.aload 9, 2) := dk_25 9 (dk_at dksX1_free_5 3 rfl rfl)
theorem dX1_free_120 : decode cX1_free 120 = .ok (.iload 10, 2) := dk_21 10 (dk_at dksX1_free_5 5 rfl rfl)
theorem dX1_free_122 : decode cX1_free 122 = .ok (.iload_n 1, 1) := dk_27 (dk_at dksX1_free_5 7 rfl rfl)
theorem dX1_free_123 : decode cX1_free 123 = .ok (.iload_n 2, 1) := dk_28 (dk_at dksX1_free_5 8 rfl rfl)
theorem dX1_free_124 : decode cX1_free 124 = .ok (.aload 4, 2) := dk_25 4 (dk_at dksX1_free_5 9 rfl rfl)
theorem dX1_free_126 : decode cX1_free 126 = .ok (.invokevirtual 157, 3) := dk_182 0 157 (dk_at dksX1_free_5 11 rfl rfl)
theorem dX1_free_129 : decode cX1_free 129 = .ok (.ifCond .ne 6, 3) := dk_154 0 6 (dk_at dksX1_free_5 14 rfl rfl)
theorem dX1_free_132 : decode cX1_free 132 = .ok (.goto 27, 3) := dk_167 0 27 (dk_at dksX1_free_5 17 rfl rfl)
theorem dX1_free_135 : decode cX1_free 135 = .ok (.iload 5, 2) := dk_21 5 (dk_at dksX1_free_5 20 rfl rfl)
theorem dX1_free_137 : decode cX1_free 137 = .ok (.ifCond .ne 19, 3) := dk_154 0 19 (dk_at dksX1_free_6 0 rfl rfl)
theorem dX1_free_140 : decode cX1_free 140 = .ok (.sipush 1000, 3) := dk_17 3 232 (dk_at dksX1_free_6 3 rfl rfl)
theorem dX1_free_143 : decode cX1_free 143 = .ok (.iload 6, 2) := dk_21 6 (dk_at dksX1_free_6 6 rfl rfl)
theorem dX1_free_145 : decode cX1_free 145 = .ok (.imul, 1) := dk_104 (dk_at dksX1_free_6 8 rfl rfl)
theorem dX1_free_146 : decode cX1_free 146 = .ok (.bipush 50, 2) := dk_16 50 (dk_at dksX1_free_6 9 rfl rfl)
theorem dX1_free_148 : decode cX1_free 148 = .ok (.iload 8, 2) := dk_21 8 (dk_at dksX1_free_6 11 rfl rfl)
theorem dX1_free_150 : decode cX1_free 150 = .ok (.imul, 1) := dk_104 (dk_at dksX1_free_6 13 rfl rfl)
theorem dX1_free_151 : decode cX1_free 151 = .ok (.iadd, 1) := dk_96 (dk_at dksX1_free_6 14 rfl rfl)
theorem dX1_free_152 : decode cX1_free 152 = .ok (.iload 10, 2) := dk_21 10 (dk_at dksX1_free_6 15 rfl rfl)
theorem dX1_free_154 : decode cX1_free 154 = .ok (.iadd, 1) := dk_96 (dk_at dksX1_free_6 17 rfl rfl)
theorem dX1_free_155 : decode cX1_free 155 = .ok (.ireturn, 1) := dk_172 (dk_at dksX1_free_6 18 rfl rfl)
theorem dX1_free_156 : decode cX1_free 156 = .ok (.iinc 5 (-1), 3) := dk_132 5 255 (dk_at dksX1_free_6 19 rfl rfl)
theorem dX1_free_159 : decode cX1_free 159 = .ok (.iinc 10 1, 3) := dk_132 10 1 (dk_at dksX1_free_7 0 rfl rfl)
theorem dX1_free_162 : decode cX1_free 162 = .ok (.goto (-61), 3) := dk_167 255 195 (dk_at dksX1_free_7 3 rfl rfl)
theorem dX1_free_165 : decode cX1_free 165 = .ok (.iinc 8 1, 3) := dk_132 8 1 (dk_at dksX1_free_7 6 rfl rfl)
theorem dX1_free_168 : decode cX1_free 168 = .ok (.goto (-90), 3) := dk_167 255 166 (dk_at dksX1_free_7 9 rfl rfl)
theorem dX1_free_171 : decode cX1_free 171 = .ok (.iinc 6 1, 3) := dk_132 6 1 (dk_at dksX1_free_7 12 rfl rfl)
theorem dX1_free_174 : decode cX1_free 174 = .ok (.goto (-131), 3) := dk_167 255 125 (dk_at dksX1_free_7 15 rfl rfl)
theorem dX1_free_177 : decode cX1_free 177 = .ok (.iconst (-1), 1) := dk_2 (dk_at dksX1_free_7 18 rfl rfl)
theorem dX1_free_178 : decode cX1_free 178 = .ok (.ireturn, 1) := dk_172 (dk_at dksX1_free_7 19 rfl rfl)
abbrev cX1_spot : ByteArray := prog_1_method_35_code
def yX1_spot : MethodName := ⟨RX1, "spot", "(III)I"⟩
def dkwX1_spot_1 : List UInt8 := [3, 167, 0, 8, 25, 4, 182, 0, 169, 172, 58, 4, 25, 4, 180, 0, 80, 172]
abbrev dktX1_spot_1 : List UInt8 := dkwX1_spot_1 ++ []
def dkwX1_spot_0 : List UInt8 := [42, 180, 0, 28, 42, 180, 0, 28, 27, 28, 182, 0, 161, 29, 182, 0, 165, 58, 4, 25, 4, 199, 0, 7]
abbrev dktX1_spot_0 : List UInt8 := dkwX1_spot_0 ++ dktX1_spot_1
theorem dksX1_spot_0 : cX1_spot.data.toList.drop 0 = dktX1_spot_0 := by decide +kernel
theorem dksX1_spot_1 : cX1_spot.data.toList.drop 24 = dktX1_spot_1 := dk_seg dksX1_spot_0 24 rfl rfl
theorem dX1_spot_0 : decode cX1_spot 0 = .ok (.aload_n 0, 1) := dk_42 (dk_at dksX1_spot_0 0 rfl rfl)
theorem dX1_spot_1 : decode cX1_spot 1 = .ok (.getfield 28, 3) := dk_180 0 28 (dk_at dksX1_spot_0 1 rfl rfl)
theorem dX1_spot_4 : decode cX1_spot 4 = .ok (.aload_n 0, 1) := dk_42 (dk_at dksX1_spot_0 4 rfl rfl)
theorem dX1_spot_5 : decode cX1_spot 5 = .ok (.getfield 28, 3) := dk_180 0 28 (dk_at dksX1_spot_0 5 rfl rfl)
theorem dX1_spot_8 : decode cX1_spot 8 = .ok (.iload_n 1, 1) := dk_27 (dk_at dksX1_spot_0 8 rfl rfl)
theorem dX1_spot_9 : decode cX1_spot 9 = .ok (.iload_n 2, 1) := dk_28 (dk_at dksX1_spot_0 9 rfl rfl)
theorem dX1_spot_10 : decode cX1_spot 10 = .ok (.invokevirtual 161, 3) := dk_182 0 161 (dk_at dksX1_spot_0 10 rfl rfl)
theorem dX1_spot_13 : decode cX1_spot 13 = .ok (.iload_n 3, 1) := dk_29 (dk_at dksX1_spot_0 13 rfl rfl)
theorem dX1_spot_14 : decode cX1_spot 14 = .ok (.invokevirtual 165, 3) := dk_182 0 165 (dk_at dksX1_spot_0 14 rfl rfl)
theorem dX1_spot_17 : decode cX1_spot 17 = .ok (.astore 4, 2) := dk_58 4 (dk_at dksX1_spot_0 17 rfl rfl)
theorem dX1_spot_19 : decode cX1_spot 19 = .ok (.aload 4, 2) := dk_25 4 (dk_at dksX1_spot_0 19 rfl rfl)
theorem dX1_spot_21 : decode cX1_spot 21 = .ok (.ifnonnull 7, 3) := dk_199 0 7 (dk_at dksX1_spot_0 21 rfl rfl)
theorem dX1_spot_24 : decode cX1_spot 24 = .ok (.iconst 0, 1) := dk_3 (dk_at dksX1_spot_1 0 rfl rfl)
theorem dX1_spot_25 : decode cX1_spot 25 = .ok (.goto 8, 3) := dk_167 0 8 (dk_at dksX1_spot_1 1 rfl rfl)
theorem dX1_spot_28 : decode cX1_spot 28 = .ok (.aload 4, 2) := dk_25 4 (dk_at dksX1_spot_1 4 rfl rfl)
theorem dX1_spot_30 : decode cX1_spot 30 = .ok (.invokevirtual 169, 3) := dk_182 0 169 (dk_at dksX1_spot_1 6 rfl rfl)
theorem dX1_spot_33 : decode cX1_spot 33 = .ok (.ireturn, 1) := dk_172 (dk_at dksX1_spot_1 9 rfl rfl)
theorem dX1_spot_34 : decode cX1_spot 34 = .ok (.astore 4, 2) := dk_58 4 (dk_at dksX1_spot_1 10 rfl rfl)
theorem dX1_spot_36 : decode cX1_spot 36 = .ok (.aload 4, 2) := dk_25 4 (dk_at dksX1_spot_1 12 rfl rfl)
theorem dX1_spot_38 : decode cX1_spot 38 = .ok (.getfield 80, 3) := dk_180 0 80 (dk_at dksX1_spot_1 14 rfl rfl)
theorem dX1_spot_41 : decode cX1_spot 41 = .ok (.ireturn, 1) := dk_172 (dk_at dksX1_spot_1 17 rfl rfl)
abbrev cX1_who : ByteArray := prog_1_method_38_code
def yX1_who : MethodName := ⟨RX1, "who", "(III)I"⟩
def dkwX1_who_3 : List UInt8 := [180, 0, 172, 172, 25, 4, 28, 29, 182, 0, 214, 184, 0, 187, 172]
abbrev dktX1_who_3 : List UInt8 := dkwX1_who_3 ++ []
def dkwX1_who_2 : List UInt8 := [182, 0, 140, 161, 0, 7, 2, 167, 0, 18, 25, 4, 180, 0, 208, 28, 182, 0, 146, 192, 0, 173]
abbrev dktX1_who_2 : List UInt8 := dkwX1_who_2 ++ dktX1_who_3
def dkwX1_who_1 : List UInt8 := [2, 172, 25, 4, 193, 0, 57, 153, 0, 43, 29, 157, 0, 19, 28, 155, 0, 15, 28, 25, 4, 180, 0, 208]
abbrev dktX1_who_1 : List UInt8 := dkwX1_who_1 ++ dktX1_who_2
def dkwX1_who_0 : List UInt8 := [42, 180, 0, 28, 27, 182, 0, 106, 58, 4, 25, 4, 198, 0, 12, 29, 155, 0, 8, 29, 4, 164, 0, 5]
abbrev dktX1_who_0 : List UInt8 := dkwX1_who_0 ++ dktX1_who_1
theorem dksX1_who_0 : cX1_who.data.toList.drop 0 = dktX1_who_0 := by decide +kernel
theorem dksX1_who_1 : cX1_who.data.toList.drop 24 = dktX1_who_1 := dk_seg dksX1_who_0 24 rfl rfl
theorem dksX1_who_2 : cX1_who.data.toList.drop 48 = dktX1_who_2 := dk_seg dksX1_who_1 24 rfl rfl
theorem dksX1_who_3 : cX1_who.data.toList.drop 70 = dktX1_who_3 := dk_seg dksX1_who_2 22 rfl rfl
theorem dX1_who_0 : decode cX1_who 0 = .ok (.aload_n 0, 1) := dk_42 (dk_at dksX1_who_0 0 rfl rfl)
theorem dX1_who_1 : decode cX1_who 1 = .ok (.getfield 28, 3) := dk_180 0 28 (dk_at dksX1_who_0 1 rfl rfl)
theorem dX1_who_4 : decode cX1_who 4 = .ok (.iload_n 1, 1) := dk_27 (dk_at dksX1_who_0 4 rfl rfl)
theorem dX1_who_5 : decode cX1_who 5 = .ok (.invokevirtual 106, 3) := dk_182 0 106 (dk_at dksX1_who_0 5 rfl rfl)
theorem dX1_who_8 : decode cX1_who 8 = .ok (.astore 4, 2) := dk_58 4 (dk_at dksX1_who_0 8 rfl rfl)
theorem dX1_who_10 : decode cX1_who 10 = .ok (.aload 4, 2) := dk_25 4 (dk_at dksX1_who_0 10 rfl rfl)
theorem dX1_who_12 : decode cX1_who 12 = .ok (.ifnull 12, 3) := dk_198 0 12 (dk_at dksX1_who_0 12 rfl rfl)
theorem dX1_who_15 : decode cX1_who 15 = .ok (.iload_n 3, 1) := dk_29 (dk_at dksX1_who_0 15 rfl rfl)
theorem dX1_who_16 : decode cX1_who 16 = .ok (.ifCond .lt 8, 3) := dk_155 0 8 (dk_at dksX1_who_0 16 rfl rfl)
theorem dX1_who_19 : decode cX1_who 19 = .ok (.iload_n 3, 1) := dk_29 (dk_at dksX1_who_0 19 rfl rfl)
theorem dX1_who_20 : decode cX1_who 20 = .ok (.iconst 1, 1) := dk_4 (dk_at dksX1_who_0 20 rfl rfl)
theorem dX1_who_21 : decode cX1_who 21 = .ok (.if_icmp .le 5, 3) := dk_164 0 5 (dk_at dksX1_who_0 21 rfl rfl)
theorem dX1_who_24 : decode cX1_who 24 = .ok (.iconst (-1), 1) := dk_2 (dk_at dksX1_who_1 0 rfl rfl)
theorem dX1_who_25 : decode cX1_who 25 = .ok (.ireturn, 1) := dk_172 (dk_at dksX1_who_1 1 rfl rfl)
theorem dX1_who_26 : decode cX1_who 26 = .ok (.aload 4, 2) := dk_25 4 (dk_at dksX1_who_1 2 rfl rfl)
theorem dX1_who_28 : decode cX1_who 28 = .ok (.instanceof 57, 3) := dk_193 0 57 (dk_at dksX1_who_1 4 rfl rfl)
theorem dX1_who_31 : decode cX1_who 31 = .ok (.ifCond .eq 43, 3) := dk_153 0 43 (dk_at dksX1_who_1 7 rfl rfl)
theorem dX1_who_34 : decode cX1_who 34 = .ok (.iload_n 3, 1) := dk_29 (dk_at dksX1_who_1 10 rfl rfl)
theorem dX1_who_35 : decode cX1_who 35 = .ok (.ifCond .gt 19, 3) := dk_157 0 19 (dk_at dksX1_who_1 11 rfl rfl)
theorem dX1_who_38 : decode cX1_who 38 = .ok (.iload_n 2, 1) := dk_28 (dk_at dksX1_who_1 14 rfl rfl)
theorem dX1_who_39 : decode cX1_who 39 = .ok (.ifCond .lt 15, 3) := dk_155 0 15 (dk_at dksX1_who_1 15 rfl rfl)
theorem dX1_who_42 : decode cX1_who 42 = .ok (.iload_n 2, 1) := dk_28 (dk_at dksX1_who_1 18 rfl rfl)
theorem dX1_who_43 : decode cX1_who 43 = .ok (.aload 4, 2) := dk_25 4 (dk_at dksX1_who_1 19 rfl rfl)
theorem dX1_who_45 : decode cX1_who 45 = .ok (.getfield 208, 3) := dk_180 0 208 (dk_at dksX1_who_1 21 rfl rfl)
theorem dX1_who_48 : decode cX1_who 48 = .ok (.invokevirtual 140, 3) := dk_182 0 140 (dk_at dksX1_who_2 0 rfl rfl)
theorem dX1_who_51 : decode cX1_who 51 = .ok (.if_icmp .lt 7, 3) := dk_161 0 7 (dk_at dksX1_who_2 3 rfl rfl)
theorem dX1_who_54 : decode cX1_who 54 = .ok (.iconst (-1), 1) := dk_2 (dk_at dksX1_who_2 6 rfl rfl)
theorem dX1_who_55 : decode cX1_who 55 = .ok (.goto 18, 3) := dk_167 0 18 (dk_at dksX1_who_2 7 rfl rfl)
theorem dX1_who_58 : decode cX1_who 58 = .ok (.aload 4, 2) := dk_25 4 (dk_at dksX1_who_2 10 rfl rfl)
theorem dX1_who_60 : decode cX1_who 60 = .ok (.getfield 208, 3) := dk_180 0 208 (dk_at dksX1_who_2 12 rfl rfl)
theorem dX1_who_63 : decode cX1_who 63 = .ok (.iload_n 2, 1) := dk_28 (dk_at dksX1_who_2 15 rfl rfl)
theorem dX1_who_64 : decode cX1_who 64 = .ok (.invokevirtual 146, 3) := dk_182 0 146 (dk_at dksX1_who_2 16 rfl rfl)
theorem dX1_who_67 : decode cX1_who 67 = .ok (.checkcast 173, 3) := dk_192 0 173 (dk_at dksX1_who_2 19 rfl rfl)
theorem dX1_who_70 : decode cX1_who 70 = .ok (.getfield 172, 3) := dk_180 0 172 (dk_at dksX1_who_3 0 rfl rfl)
theorem dX1_who_73 : decode cX1_who 73 = .ok (.ireturn, 1) := dk_172 (dk_at dksX1_who_3 3 rfl rfl)
theorem dX1_who_74 : decode cX1_who 74 = .ok (.aload 4, 2) := dk_25 4 (dk_at dksX1_who_3 4 rfl rfl)
theorem dX1_who_76 : decode cX1_who 76 = .ok (.iload_n 2, 1) := dk_28 (dk_at dksX1_who_3 6 rfl rfl)
theorem dX1_who_77 : decode cX1_who 77 = .ok (.iload_n 3, 1) := dk_29 (dk_at dksX1_who_3 7 rfl rfl)
theorem dX1_who_78 : decode cX1_who 78 = .ok (.invokevirtual 214, 3) := dk_182 0 214 (dk_at dksX1_who_3 8 rfl rfl)
theorem dX1_who_81 : decode cX1_who 81 = .ok (.invokestatic 187, 3) := dk_184 0 187 (dk_at dksX1_who_3 11 rfl rfl)
theorem dX1_who_84 : decode cX1_who 84 = .ok (.ireturn, 1) := dk_172 (dk_at dksX1_who_3 14 rfl rfl)
abbrev cX1_numberOf : ByteArray := prog_1_method_36_code
def yX1_numberOf : MethodName := ⟨RX1, "numberOf", "(LChurchyardBook$Person;)I"⟩
def dkwX1_numberOf_0 : List UInt8 := [42, 199, 0, 7, 2, 167, 0, 7, 42, 180, 0, 172, 172]
abbrev dktX1_numberOf_0 : List UInt8 := dkwX1_numberOf_0 ++ []
theorem dksX1_numberOf_0 : cX1_numberOf.data.toList.drop 0 = dktX1_numberOf_0 := by decide +kernel
theorem dX1_numberOf_0 : decode cX1_numberOf 0 = .ok (.aload_n 0, 1) := dk_42 (dk_at dksX1_numberOf_0 0 rfl rfl)
theorem dX1_numberOf_1 : decode cX1_numberOf 1 = .ok (.ifnonnull 7, 3) := dk_199 0 7 (dk_at dksX1_numberOf_0 1 rfl rfl)
theorem dX1_numberOf_4 : decode cX1_numberOf 4 = .ok (.iconst (-1), 1) := dk_2 (dk_at dksX1_numberOf_0 4 rfl rfl)
theorem dX1_numberOf_5 : decode cX1_numberOf 5 = .ok (.goto 7, 3) := dk_167 0 7 (dk_at dksX1_numberOf_0 5 rfl rfl)
theorem dX1_numberOf_8 : decode cX1_numberOf 8 = .ok (.aload_n 0, 1) := dk_42 (dk_at dksX1_numberOf_0 8 rfl rfl)
theorem dX1_numberOf_9 : decode cX1_numberOf 9 = .ok (.getfield 172, 3) := dk_180 0 172 (dk_at dksX1_numberOf_0 9 rfl rfl)
theorem dX1_numberOf_12 : decode cX1_numberOf 12 = .ok (.ireturn, 1) := dk_172 (dk_at dksX1_numberOf_0 12 rfl rfl)
abbrev cX1_where : ByteArray := prog_1_method_40_code
def yX1_where : MethodName := ⟨RX1, "where", "(II)I"⟩
def dkwX1_where_4 : List UInt8 := [167, 255, 204, 2, 172]
abbrev dktX1_where_4 : List UInt8 := dkwX1_where_4 ++ []
def dkwX1_where_3 : List UInt8 := [25, 5, 180, 1, 8, 199, 0, 7, 2, 167, 0, 11, 25, 5, 180, 1, 8, 180, 0, 232, 172, 132, 4, 255]
abbrev dktX1_where_3 : List UInt8 := dkwX1_where_3 ++ dktX1_where_4
def dkwX1_where_2 : List UInt8 := [45, 180, 1, 0, 21, 4, 182, 0, 146, 192, 1, 3, 58, 5, 25, 5, 180, 1, 5, 28, 163, 0, 24]
abbrev dktX1_where_2 : List UInt8 := dkwX1_where_2 ++ dktX1_where_3
def dkwX1_where_1 : List UInt8 := [180, 0, 117, 164, 0, 5, 2, 172, 45, 180, 1, 0, 182, 0, 140, 4, 100, 54, 4, 21, 4, 155, 0, 53]
abbrev dktX1_where_1 : List UInt8 := dkwX1_where_1 ++ dktX1_where_2
def dkwX1_where_0 : List UInt8 := [42, 180, 0, 28, 27, 182, 0, 218, 78, 45, 198, 0, 18, 28, 155, 0, 14, 28, 42, 180, 0, 28]
abbrev dktX1_where_0 : List UInt8 := dkwX1_where_0 ++ dktX1_where_1
theorem dksX1_where_0 : cX1_where.data.toList.drop 0 = dktX1_where_0 := by decide +kernel
theorem dksX1_where_1 : cX1_where.data.toList.drop 22 = dktX1_where_1 := dk_seg dksX1_where_0 22 rfl rfl
theorem dksX1_where_2 : cX1_where.data.toList.drop 46 = dktX1_where_2 := dk_seg dksX1_where_1 24 rfl rfl
theorem dksX1_where_3 : cX1_where.data.toList.drop 69 = dktX1_where_3 := dk_seg dksX1_where_2 23 rfl rfl
theorem dksX1_where_4 : cX1_where.data.toList.drop 93 = dktX1_where_4 := dk_seg dksX1_where_3 24 rfl rfl
theorem dX1_where_0 : decode cX1_where 0 = .ok (.aload_n 0, 1) := dk_42 (dk_at dksX1_where_0 0 rfl rfl)
theorem dX1_where_1 : decode cX1_where 1 = .ok (.getfield 28, 3) := dk_180 0 28 (dk_at dksX1_where_0 1 rfl rfl)
theorem dX1_where_4 : decode cX1_where 4 = .ok (.iload_n 1, 1) := dk_27 (dk_at dksX1_where_0 4 rfl rfl)
theorem dX1_where_5 : decode cX1_where 5 = .ok (.invokevirtual 218, 3) := dk_182 0 218 (dk_at dksX1_where_0 5 rfl rfl)
theorem dX1_where_8 : decode cX1_where 8 = .ok (.astore_n 3, 1) := dk_78 (dk_at dksX1_where_0 8 rfl rfl)
theorem dX1_where_9 : decode cX1_where 9 = .ok (.aload_n 3, 1) := dk_45 (dk_at dksX1_where_0 9 rfl rfl)
theorem dX1_where_10 : decode cX1_where 10 = .ok (.ifnull 18, 3) := dk_198 0 18 (dk_at dksX1_where_0 10 rfl rfl)
theorem dX1_where_13 : decode cX1_where 13 = .ok (.iload_n 2, 1) := dk_28 (dk_at dksX1_where_0 13 rfl rfl)
theorem dX1_where_14 : decode cX1_where 14 = .ok (.ifCond .lt 14, 3) := dk_155 0 14 (dk_at dksX1_where_0 14 rfl rfl)
theorem dX1_where_17 : decode cX1_where 17 = .ok (.iload_n 2, 1) := dk_28 (dk_at dksX1_where_0 17 rfl rfl)
theorem dX1_where_18 : decode cX1_where 18 = .ok (.aload_n 0, 1) := dk_42 (dk_at dksX1_where_0 18 rfl rfl)
theorem dX1_where_19 : decode cX1_where 19 = .ok (.getfield 28, 3) := dk_180 0 28 (dk_at dksX1_where_0 19 rfl rfl)
theorem dX1_where_22 : decode cX1_where 22 = .ok (.getfield 117, 3) := dk_180 0 117 (dk_at dksX1_where_1 0 rfl rfl)
theorem dX1_where_25 : decode cX1_where 25 = .ok (.if_icmp .le 5, 3) := dk_164 0 5 (dk_at dksX1_where_1 3 rfl rfl)
theorem dX1_where_28 : decode cX1_where 28 = .ok (.iconst (-1), 1) := dk_2 (dk_at dksX1_where_1 6 rfl rfl)
theorem dX1_where_29 : decode cX1_where 29 = .ok (.ireturn, 1) := dk_172 (dk_at dksX1_where_1 7 rfl rfl)
theorem dX1_where_30 : decode cX1_where 30 = .ok (.aload_n 3, 1) := dk_45 (dk_at dksX1_where_1 8 rfl rfl)
theorem dX1_where_31 : decode cX1_where 31 = .ok (.getfield 256, 3) := dk_180 1 0 (dk_at dksX1_where_1 9 rfl rfl)
theorem dX1_where_34 : decode cX1_where 34 = .ok (.invokevirtual 140, 3) := dk_182 0 140 (dk_at dksX1_where_1 12 rfl rfl)
theorem dX1_where_37 : decode cX1_where 37 = .ok (.iconst 1, 1) := dk_4 (dk_at dksX1_where_1 15 rfl rfl)
theorem dX1_where_38 : decode cX1_where 38 = .ok (.isub, 1) := dk_100 (dk_at dksX1_where_1 16 rfl rfl)
theorem dX1_where_39 : decode cX1_where 39 = .ok (.istore 4, 2) := dk_54 4 (dk_at dksX1_where_1 17 rfl rfl)
theorem dX1_where_41 : decode cX1_where 41 = .ok (.iload 4, 2) := dk_21 4 (dk_at dksX1_where_1 19 rfl rfl)
theorem dX1_where_43 : decode cX1_where 43 = .ok (.ifCond .lt 53, 3) := dk_155 0 53 (dk_at dksX1_where_1 21 rfl rfl)
theorem dX1_where_46 : decode cX1_where 46 = .ok (.aload_n 3, 1) := dk_45 (dk_at dksX1_where_2 0 rfl rfl)
theorem dX1_where_47 : decode cX1_where 47 = .ok (.getfield 256, 3) := dk_180 1 0 (dk_at dksX1_where_2 1 rfl rfl)
theorem dX1_where_50 : decode cX1_where 50 = .ok (.iload 4, 2) := dk_21 4 (dk_at dksX1_where_2 4 rfl rfl)
theorem dX1_where_52 : decode cX1_where 52 = .ok (.invokevirtual 146, 3) := dk_182 0 146 (dk_at dksX1_where_2 6 rfl rfl)
theorem dX1_where_55 : decode cX1_where 55 = .ok (.checkcast 259, 3) := dk_192 1 3 (dk_at dksX1_where_2 9 rfl rfl)
theorem dX1_where_58 : decode cX1_where 58 = .ok (.astore 5, 2) := dk_58 5 (dk_at dksX1_where_2 12 rfl rfl)
theorem dX1_where_60 : decode cX1_where 60 = .ok (.aload 5, 2) := dk_25 5 (dk_at dksX1_where_2 14 rfl rfl)
theorem dX1_where_62 : decode cX1_where 62 = .ok (.getfield 261, 3) := dk_180 1 5 (dk_at dksX1_where_2 16 rfl rfl)
theorem dX1_where_65 : decode cX1_where 65 = .ok (.iload_n 2, 1) := dk_28 (dk_at dksX1_where_2 19 rfl rfl)
theorem dX1_where_66 : decode cX1_where 66 = .ok (.if_icmp .gt 24, 3) := dk_163 0 24 (dk_at dksX1_where_2 20 rfl rfl)
theorem dX1_where_69 : decode cX1_where 69 = .ok (.aload 5, 2) := dk_25 5 (dk_at dksX1_where_3 0 rfl rfl)
theorem dX1_where_71 : decode cX1_where 71 = .ok (.getfield 264, 3) := dk_180 1 8 (dk_at dksX1_where_3 2 rfl rfl)
theorem dX1_where_74 : decode cX1_where 74 = .ok (.ifnonnull 7, 3) := dk_199 0 7 (dk_at dksX1_where_3 5 rfl rfl)
theorem dX1_where_77 : decode cX1_where 77 = .ok (.iconst (-1), 1) := dk_2 (dk_at dksX1_where_3 8 rfl rfl)
theorem dX1_where_78 : decode cX1_where 78 = .ok (.goto 11, 3) := dk_167 0 11 (dk_at dksX1_where_3 9 rfl rfl)
theorem dX1_where_81 : decode cX1_where 81 = .ok (.aload 5, 2) := dk_25 5 (dk_at dksX1_where_3 12 rfl rfl)
theorem dX1_where_83 : decode cX1_where 83 = .ok (.getfield 264, 3) := dk_180 1 8 (dk_at dksX1_where_3 14 rfl rfl)
theorem dX1_where_86 : decode cX1_where 86 = .ok (.getfield 232, 3) := dk_180 0 232 (dk_at dksX1_where_3 17 rfl rfl)
theorem dX1_where_89 : decode cX1_where 89 = .ok (.ireturn, 1) := dk_172 (dk_at dksX1_where_3 20 rfl rfl)
theorem dX1_where_90 : decode cX1_where 90 = .ok (.iinc 4 (-1), 3) := dk_132 4 255 (dk_at dksX1_where_3 21 rfl rfl)
theorem dX1_where_93 : decode cX1_where 93 = .ok (.goto (-52), 3) := dk_167 255 204 (dk_at dksX1_where_4 0 rfl rfl)
theorem dX1_where_96 : decode cX1_where 96 = .ok (.iconst (-1), 1) := dk_2 (dk_at dksX1_where_4 3 rfl rfl)
theorem dX1_where_97 : decode cX1_where 97 = .ok (.ireturn, 1) := dk_172 (dk_at dksX1_where_4 4 rfl rfl)
abbrev cX1_order : ByteArray := prog_1_method_41_code
def yX1_order : MethodName := ⟨RX1, "order", "(II)I"⟩
def dkwX1_order_2 : List UInt8 := [180, 1, 9, 45, 180, 1, 12, 28, 96, 182, 0, 146, 192, 0, 173, 180, 0, 172, 172]
abbrev dktX1_order_2 : List UInt8 := dkwX1_order_2 ++ []
def dkwX1_order_1 : List UInt8 := [155, 0, 19, 28, 45, 180, 1, 9, 182, 0, 140, 45, 180, 1, 12, 100, 161, 0, 5, 2, 172, 45]
abbrev dktX1_order_1 : List UInt8 := dkwX1_order_1 ++ dktX1_order_2
def dkwX1_order_0 : List UInt8 := [42, 180, 0, 28, 27, 182, 0, 106, 78, 45, 198, 0, 31, 45, 180, 0, 110, 5, 160, 0, 23, 28]
abbrev dktX1_order_0 : List UInt8 := dkwX1_order_0 ++ dktX1_order_1
theorem dksX1_order_0 : cX1_order.data.toList.drop 0 = dktX1_order_0 := by decide +kernel
theorem dksX1_order_1 : cX1_order.data.toList.drop 22 = dktX1_order_1 := dk_seg dksX1_order_0 22 rfl rfl
theorem dksX1_order_2 : cX1_order.data.toList.drop 44 = dktX1_order_2 := dk_seg dksX1_order_1 22 rfl rfl
theorem dX1_order_0 : decode cX1_order 0 = .ok (.aload_n 0, 1) := dk_42 (dk_at dksX1_order_0 0 rfl rfl)
theorem dX1_order_1 : decode cX1_order 1 = .ok (.getfield 28, 3) := dk_180 0 28 (dk_at dksX1_order_0 1 rfl rfl)
theorem dX1_order_4 : decode cX1_order 4 = .ok (.iload_n 1, 1) := dk_27 (dk_at dksX1_order_0 4 rfl rfl)
theorem dX1_order_5 : decode cX1_order 5 = .ok (.invokevirtual 106, 3) := dk_182 0 106 (dk_at dksX1_order_0 5 rfl rfl)
theorem dX1_order_8 : decode cX1_order 8 = .ok (.astore_n 3, 1) := dk_78 (dk_at dksX1_order_0 8 rfl rfl)
theorem dX1_order_9 : decode cX1_order 9 = .ok (.aload_n 3, 1) := dk_45 (dk_at dksX1_order_0 9 rfl rfl)
theorem dX1_order_10 : decode cX1_order 10 = .ok (.ifnull 31, 3) := dk_198 0 31 (dk_at dksX1_order_0 10 rfl rfl)
theorem dX1_order_13 : decode cX1_order 13 = .ok (.aload_n 3, 1) := dk_45 (dk_at dksX1_order_0 13 rfl rfl)
theorem dX1_order_14 : decode cX1_order 14 = .ok (.getfield 110, 3) := dk_180 0 110 (dk_at dksX1_order_0 14 rfl rfl)
theorem dX1_order_17 : decode cX1_order 17 = .ok (.iconst 2, 1) := dk_5 (dk_at dksX1_order_0 17 rfl rfl)
theorem dX1_order_18 : decode cX1_order 18 = .ok (.if_icmp .ne 23, 3) := dk_160 0 23 (dk_at dksX1_order_0 18 rfl rfl)
theorem dX1_order_21 : decode cX1_order 21 = .ok (.iload_n 2, 1) := dk_28 (dk_at dksX1_order_0 21 rfl rfl)
theorem dX1_order_22 : decode cX1_order 22 = .ok (.ifCond .lt 19, 3) := dk_155 0 19 (dk_at dksX1_order_1 0 rfl rfl)
theorem dX1_order_25 : decode cX1_order 25 = .ok (.iload_n 2, 1) := dk_28 (dk_at dksX1_order_1 3 rfl rfl)
theorem dX1_order_26 : decode cX1_order 26 = .ok (.aload_n 3, 1) := dk_45 (dk_at dksX1_order_1 4 rfl rfl)
theorem dX1_order_27 : decode cX1_order 27 = .ok (.getfield 265, 3) := dk_180 1 9 (dk_at dksX1_order_1 5 rfl rfl)
theorem dX1_order_30 : decode cX1_order 30 = .ok (.invokevirtual 140, 3) := dk_182 0 140 (dk_at dksX1_order_1 8 rfl rfl)
theorem dX1_order_33 : decode cX1_order 33 = .ok (.aload_n 3, 1) := dk_45 (dk_at dksX1_order_1 11 rfl rfl)
theorem dX1_order_34 : decode cX1_order 34 = .ok (.getfield 268, 3) := dk_180 1 12 (dk_at dksX1_order_1 12 rfl rfl)
theorem dX1_order_37 : decode cX1_order 37 = .ok (.isub, 1) := dk_100 (dk_at dksX1_order_1 15 rfl rfl)
theorem dX1_order_38 : decode cX1_order 38 = .ok (.if_icmp .lt 5, 3) := dk_161 0 5 (dk_at dksX1_order_1 16 rfl rfl)
theorem dX1_order_41 : decode cX1_order 41 = .ok (.iconst (-1), 1) := dk_2 (dk_at dksX1_order_1 19 rfl rfl)
theorem dX1_order_42 : decode cX1_order 42 = .ok (.ireturn, 1) := dk_172 (dk_at dksX1_order_1 20 rfl rfl)
theorem dX1_order_43 : decode cX1_order 43 = .ok (.aload_n 3, 1) := dk_45 (dk_at dksX1_order_1 21 rfl rfl)
theorem dX1_order_44 : decode cX1_order 44 = .ok (.getfield 265, 3) := dk_180 1 9 (dk_at dksX1_order_2 0 rfl rfl)
theorem dX1_order_47 : decode cX1_order 47 = .ok (.aload_n 3, 1) := dk_45 (dk_at dksX1_order_2 3 rfl rfl)
theorem dX1_order_48 : decode cX1_order 48 = .ok (.getfield 268, 3) := dk_180 1 12 (dk_at dksX1_order_2 4 rfl rfl)
theorem dX1_order_51 : decode cX1_order 51 = .ok (.iload_n 2, 1) := dk_28 (dk_at dksX1_order_2 7 rfl rfl)
theorem dX1_order_52 : decode cX1_order 52 = .ok (.iadd, 1) := dk_96 (dk_at dksX1_order_2 8 rfl rfl)
theorem dX1_order_53 : decode cX1_order 53 = .ok (.invokevirtual 146, 3) := dk_182 0 146 (dk_at dksX1_order_2 9 rfl rfl)
theorem dX1_order_56 : decode cX1_order 56 = .ok (.checkcast 173, 3) := dk_192 0 173 (dk_at dksX1_order_2 12 rfl rfl)
theorem dX1_order_59 : decode cX1_order 59 = .ok (.getfield 172, 3) := dk_180 0 172 (dk_at dksX1_order_2 15 rfl rfl)
theorem dX1_order_62 : decode cX1_order 62 = .ok (.ireturn, 1) := dk_172 (dk_at dksX1_order_2 18 rfl rfl)
abbrev cX1_count : ByteArray := prog_1_method_44_code
def yX1_count : MethodName := ⟨RX1, "count", "(I)I"⟩
def dkwX1_count_6 : List UInt8 := [42, 180, 0, 92, 172, 2, 172]
abbrev dktX1_count_6 : List UInt8 := dkwX1_count_6 ++ []
def dkwX1_count_5 : List UInt8 := [172, 42, 5, 182, 1, 26, 172, 42, 6, 182, 1, 26, 172, 42, 7, 182, 1, 26, 172, 42, 180, 0, 89, 172]
abbrev dktX1_count_5 : List UInt8 := dkwX1_count_5 ++ dktX1_count_6
def dkwX1_count_4 : List UInt8 := [180, 0, 28, 180, 1, 20, 172, 42, 3, 182, 1, 23, 172, 42, 4, 182, 1, 23, 172, 42, 4, 182, 1, 26]
abbrev dktX1_count_4 : List UInt8 := dkwX1_count_4 ++ dktX1_count_5
def dkwX1_count_3 : List UInt8 := [180, 0, 28, 180, 1, 17, 182, 0, 140, 172, 42, 180, 0, 28, 180, 0, 117, 172, 42, 180, 0, 68, 172, 42]
abbrev dktX1_count_3 : List UInt8 := dkwX1_count_3 ++ dktX1_count_4
def dkwX1_count_2 : List UInt8 := [42, 180, 0, 28, 180, 0, 136, 182, 0, 140, 172, 42, 180, 0, 28, 180, 1, 14, 182, 0, 140, 172, 42]
abbrev dktX1_count_2 : List UInt8 := dkwX1_count_2 ++ dktX1_count_3
def dkwX1_count_1 : List UInt8 := [170, 0, 0, 0, 0, 0, 171, 0, 0, 0, 0, 0, 0, 0, 13, 0, 0, 0, 71, 0, 0, 0, 82, 0, 0, 0, 93, 0, 0, 0, 104, 0, 0, 0, 112, 0, 0, 0, 117, 0, 0, 0, 125, 0, 0, 0, 131, 0, 0, 0, 137, 0, 0, 0, 143, 0, 0, 0, 149, 0, 0, 0, 155, 0, 0, 0, 161, 0, 0, 0, 166]
abbrev dktX1_count_1 : List UInt8 := dkwX1_count_1 ++ dktX1_count_2
def dkwX1_count_0 : List UInt8 := [27]
abbrev dktX1_count_0 : List UInt8 := dkwX1_count_0 ++ dktX1_count_1
theorem dksX1_count_0 : cX1_count.data.toList.drop 0 = dktX1_count_0 := by decide +kernel
theorem dksX1_count_1 : cX1_count.data.toList.drop 1 = dktX1_count_1 := dk_seg dksX1_count_0 1 rfl rfl
theorem dksX1_count_2 : cX1_count.data.toList.drop 72 = dktX1_count_2 := dk_seg dksX1_count_1 71 rfl rfl
theorem dksX1_count_3 : cX1_count.data.toList.drop 95 = dktX1_count_3 := dk_seg dksX1_count_2 23 rfl rfl
theorem dksX1_count_4 : cX1_count.data.toList.drop 119 = dktX1_count_4 := dk_seg dksX1_count_3 24 rfl rfl
theorem dksX1_count_5 : cX1_count.data.toList.drop 143 = dktX1_count_5 := dk_seg dksX1_count_4 24 rfl rfl
theorem dksX1_count_6 : cX1_count.data.toList.drop 167 = dktX1_count_6 := dk_seg dksX1_count_5 24 rfl rfl
theorem dX1_count_0 : decode cX1_count 0 = .ok (.iload_n 1, 1) := dk_27 (dk_at dksX1_count_0 0 rfl rfl)
theorem dX1_count_1 : decode cX1_count 1 = .ok (.tableswitch 171 0 13 #[71, 82, 93, 104, 112, 117, 125, 131, 137, 143, 149, 155, 161, 166], 71) := by decide +kernel
theorem dX1_count_72 : decode cX1_count 72 = .ok (.aload_n 0, 1) := dk_42 (dk_at dksX1_count_2 0 rfl rfl)
theorem dX1_count_73 : decode cX1_count 73 = .ok (.getfield 28, 3) := dk_180 0 28 (dk_at dksX1_count_2 1 rfl rfl)
theorem dX1_count_76 : decode cX1_count 76 = .ok (.getfield 136, 3) := dk_180 0 136 (dk_at dksX1_count_2 4 rfl rfl)
theorem dX1_count_79 : decode cX1_count 79 = .ok (.invokevirtual 140, 3) := dk_182 0 140 (dk_at dksX1_count_2 7 rfl rfl)
theorem dX1_count_82 : decode cX1_count 82 = .ok (.ireturn, 1) := dk_172 (dk_at dksX1_count_2 10 rfl rfl)
theorem dX1_count_83 : decode cX1_count 83 = .ok (.aload_n 0, 1) := dk_42 (dk_at dksX1_count_2 11 rfl rfl)
theorem dX1_count_84 : decode cX1_count 84 = .ok (.getfield 28, 3) := dk_180 0 28 (dk_at dksX1_count_2 12 rfl rfl)
theorem dX1_count_87 : decode cX1_count 87 = .ok (.getfield 270, 3) := dk_180 1 14 (dk_at dksX1_count_2 15 rfl rfl)
theorem dX1_count_90 : decode cX1_count 90 = .ok (.invokevirtual 140, 3) := dk_182 0 140 (dk_at dksX1_count_2 18 rfl rfl)
theorem dX1_count_93 : decode cX1_count 93 = .ok (.ireturn, 1) := dk_172 (dk_at dksX1_count_2 21 rfl rfl)
theorem dX1_count_94 : decode cX1_count 94 = .ok (.aload_n 0, 1) := dk_42 (dk_at dksX1_count_2 22 rfl rfl)
theorem dX1_count_95 : decode cX1_count 95 = .ok (.getfield 28, 3) := dk_180 0 28 (dk_at dksX1_count_3 0 rfl rfl)
theorem dX1_count_98 : decode cX1_count 98 = .ok (.getfield 273, 3) := dk_180 1 17 (dk_at dksX1_count_3 3 rfl rfl)
theorem dX1_count_101 : decode cX1_count 101 = .ok (.invokevirtual 140, 3) := dk_182 0 140 (dk_at dksX1_count_3 6 rfl rfl)
theorem dX1_count_104 : decode cX1_count 104 = .ok (.ireturn, 1) := dk_172 (dk_at dksX1_count_3 9 rfl rfl)
theorem dX1_count_105 : decode cX1_count 105 = .ok (.aload_n 0, 1) := dk_42 (dk_at dksX1_count_3 10 rfl rfl)
theorem dX1_count_106 : decode cX1_count 106 = .ok (.getfield 28, 3) := dk_180 0 28 (dk_at dksX1_count_3 11 rfl rfl)
theorem dX1_count_109 : decode cX1_count 109 = .ok (.getfield 117, 3) := dk_180 0 117 (dk_at dksX1_count_3 14 rfl rfl)
theorem dX1_count_112 : decode cX1_count 112 = .ok (.ireturn, 1) := dk_172 (dk_at dksX1_count_3 17 rfl rfl)
theorem dX1_count_113 : decode cX1_count 113 = .ok (.aload_n 0, 1) := dk_42 (dk_at dksX1_count_3 18 rfl rfl)
theorem dX1_count_114 : decode cX1_count 114 = .ok (.getfield 68, 3) := dk_180 0 68 (dk_at dksX1_count_3 19 rfl rfl)
theorem dX1_count_117 : decode cX1_count 117 = .ok (.ireturn, 1) := dk_172 (dk_at dksX1_count_3 22 rfl rfl)
theorem dX1_count_118 : decode cX1_count 118 = .ok (.aload_n 0, 1) := dk_42 (dk_at dksX1_count_3 23 rfl rfl)
theorem dX1_count_119 : decode cX1_count 119 = .ok (.getfield 28, 3) := dk_180 0 28 (dk_at dksX1_count_4 0 rfl rfl)
theorem dX1_count_122 : decode cX1_count 122 = .ok (.getfield 276, 3) := dk_180 1 20 (dk_at dksX1_count_4 3 rfl rfl)
theorem dX1_count_125 : decode cX1_count 125 = .ok (.ireturn, 1) := dk_172 (dk_at dksX1_count_4 6 rfl rfl)
theorem dX1_count_126 : decode cX1_count 126 = .ok (.aload_n 0, 1) := dk_42 (dk_at dksX1_count_4 7 rfl rfl)
theorem dX1_count_127 : decode cX1_count 127 = .ok (.iconst 0, 1) := dk_3 (dk_at dksX1_count_4 8 rfl rfl)
theorem dX1_count_128 : decode cX1_count 128 = .ok (.invokevirtual 279, 3) := dk_182 1 23 (dk_at dksX1_count_4 9 rfl rfl)
theorem dX1_count_131 : decode cX1_count 131 = .ok (.ireturn, 1) := dk_172 (dk_at dksX1_count_4 12 rfl rfl)
theorem dX1_count_132 : decode cX1_count 132 = .ok (.aload_n 0, 1) := dk_42 (dk_at dksX1_count_4 13 rfl rfl)
theorem dX1_count_133 : decode cX1_count 133 = .ok (.iconst 1, 1) := dk_4 (dk_at dksX1_count_4 14 rfl rfl)
theorem dX1_count_134 : decode cX1_count 134 = .ok (.invokevirtual 279, 3) := dk_182 1 23 (dk_at dksX1_count_4 15 rfl rfl)
theorem dX1_count_137 : decode cX1_count 137 = .ok (.ireturn, 1) := dk_172 (dk_at dksX1_count_4 18 rfl rfl)
theorem dX1_count_138 : decode cX1_count 138 = .ok (.aload_n 0, 1) := dk_42 (dk_at dksX1_count_4 19 rfl rfl)
theorem dX1_count_139 : decode cX1_count 139 = .ok (.iconst 1, 1) := dk_4 (dk_at dksX1_count_4 20 rfl rfl)
theorem dX1_count_140 : decode cX1_count 140 = .ok (.invokevirtual 282, 3) := dk_182 1 26 (dk_at dksX1_count_4 21 rfl rfl)
theorem dX1_count_143 : decode cX1_count 143 = .ok (.ireturn, 1) := dk_172 (dk_at dksX1_count_5 0 rfl rfl)
theorem dX1_count_144 : decode cX1_count 144 = .ok (.aload_n 0, 1) := dk_42 (dk_at dksX1_count_5 1 rfl rfl)
theorem dX1_count_145 : decode cX1_count 145 = .ok (.iconst 2, 1) := dk_5 (dk_at dksX1_count_5 2 rfl rfl)
theorem dX1_count_146 : decode cX1_count 146 = .ok (.invokevirtual 282, 3) := dk_182 1 26 (dk_at dksX1_count_5 3 rfl rfl)
theorem dX1_count_149 : decode cX1_count 149 = .ok (.ireturn, 1) := dk_172 (dk_at dksX1_count_5 6 rfl rfl)
theorem dX1_count_150 : decode cX1_count 150 = .ok (.aload_n 0, 1) := dk_42 (dk_at dksX1_count_5 7 rfl rfl)
theorem dX1_count_151 : decode cX1_count 151 = .ok (.iconst 3, 1) := dk_6 (dk_at dksX1_count_5 8 rfl rfl)
theorem dX1_count_152 : decode cX1_count 152 = .ok (.invokevirtual 282, 3) := dk_182 1 26 (dk_at dksX1_count_5 9 rfl rfl)
theorem dX1_count_155 : decode cX1_count 155 = .ok (.ireturn, 1) := dk_172 (dk_at dksX1_count_5 12 rfl rfl)
theorem dX1_count_156 : decode cX1_count 156 = .ok (.aload_n 0, 1) := dk_42 (dk_at dksX1_count_5 13 rfl rfl)
theorem dX1_count_157 : decode cX1_count 157 = .ok (.iconst 4, 1) := dk_7 (dk_at dksX1_count_5 14 rfl rfl)
theorem dX1_count_158 : decode cX1_count 158 = .ok (.invokevirtual 282, 3) := dk_182 1 26 (dk_at dksX1_count_5 15 rfl rfl)
theorem dX1_count_161 : decode cX1_count 161 = .ok (.ireturn, 1) := dk_172 (dk_at dksX1_count_5 18 rfl rfl)
theorem dX1_count_162 : decode cX1_count 162 = .ok (.aload_n 0, 1) := dk_42 (dk_at dksX1_count_5 19 rfl rfl)
theorem dX1_count_163 : decode cX1_count 163 = .ok (.getfield 89, 3) := dk_180 0 89 (dk_at dksX1_count_5 20 rfl rfl)
theorem dX1_count_166 : decode cX1_count 166 = .ok (.ireturn, 1) := dk_172 (dk_at dksX1_count_5 23 rfl rfl)
theorem dX1_count_167 : decode cX1_count 167 = .ok (.aload_n 0, 1) := dk_42 (dk_at dksX1_count_6 0 rfl rfl)
theorem dX1_count_168 : decode cX1_count 168 = .ok (.getfield 92, 3) := dk_180 0 92 (dk_at dksX1_count_6 1 rfl rfl)
theorem dX1_count_171 : decode cX1_count 171 = .ok (.ireturn, 1) := dk_172 (dk_at dksX1_count_6 4 rfl rfl)
theorem dX1_count_172 : decode cX1_count 172 = .ok (.iconst (-1), 1) := dk_2 (dk_at dksX1_count_6 5 rfl rfl)
theorem dX1_count_173 : decode cX1_count 173 = .ok (.ireturn, 1) := dk_172 (dk_at dksX1_count_6 6 rfl rfl)
abbrev cX1_persons : ByteArray := prog_1_method_43_code
def yX1_persons : MethodName := ⟨RX1, "persons", "(Z)I"⟩
def dkwX1_persons_3 : List UInt8 := [96, 61, 132, 3, 1, 167, 255, 184, 28, 172]
abbrev dktX1_persons_3 : List UInt8 := dkwX1_persons_3 ++ []
def dkwX1_persons_2 : List UInt8 := [180, 0, 28, 180, 1, 17, 29, 182, 0, 146, 192, 0, 173, 180, 0, 226, 198, 0, 7, 4, 167, 0, 4, 3]
abbrev dktX1_persons_2 : List UInt8 := dkwX1_persons_2 ++ dktX1_persons_3
def dkwX1_persons_1 : List UInt8 := [180, 0, 28, 180, 1, 17, 29, 182, 0, 146, 192, 0, 173, 180, 0, 222, 153, 0, 30, 167, 0, 23, 42]
abbrev dktX1_persons_1 : List UInt8 := dkwX1_persons_1 ++ dktX1_persons_2
def dkwX1_persons_0 : List UInt8 := [3, 61, 3, 62, 29, 42, 180, 0, 28, 180, 1, 17, 182, 0, 140, 162, 0, 64, 28, 27, 153, 0, 26, 42]
abbrev dktX1_persons_0 : List UInt8 := dkwX1_persons_0 ++ dktX1_persons_1
theorem dksX1_persons_0 : cX1_persons.data.toList.drop 0 = dktX1_persons_0 := by decide +kernel
theorem dksX1_persons_1 : cX1_persons.data.toList.drop 24 = dktX1_persons_1 := dk_seg dksX1_persons_0 24 rfl rfl
theorem dksX1_persons_2 : cX1_persons.data.toList.drop 47 = dktX1_persons_2 := dk_seg dksX1_persons_1 23 rfl rfl
theorem dksX1_persons_3 : cX1_persons.data.toList.drop 71 = dktX1_persons_3 := dk_seg dksX1_persons_2 24 rfl rfl
theorem dX1_persons_0 : decode cX1_persons 0 = .ok (.iconst 0, 1) := dk_3 (dk_at dksX1_persons_0 0 rfl rfl)
theorem dX1_persons_1 : decode cX1_persons 1 = .ok (.istore_n 2, 1) := dk_61 (dk_at dksX1_persons_0 1 rfl rfl)
theorem dX1_persons_2 : decode cX1_persons 2 = .ok (.iconst 0, 1) := dk_3 (dk_at dksX1_persons_0 2 rfl rfl)
theorem dX1_persons_3 : decode cX1_persons 3 = .ok (.istore_n 3, 1) := dk_62 (dk_at dksX1_persons_0 3 rfl rfl)
theorem dX1_persons_4 : decode cX1_persons 4 = .ok (.iload_n 3, 1) := dk_29 (dk_at dksX1_persons_0 4 rfl rfl)
theorem dX1_persons_5 : decode cX1_persons 5 = .ok (.aload_n 0, 1) := dk_42 (dk_at dksX1_persons_0 5 rfl rfl)
theorem dX1_persons_6 : decode cX1_persons 6 = .ok (.getfield 28, 3) := dk_180 0 28 (dk_at dksX1_persons_0 6 rfl rfl)
theorem dX1_persons_9 : decode cX1_persons 9 = .ok (.getfield 273, 3) := dk_180 1 17 (dk_at dksX1_persons_0 9 rfl rfl)
theorem dX1_persons_12 : decode cX1_persons 12 = .ok (.invokevirtual 140, 3) := dk_182 0 140 (dk_at dksX1_persons_0 12 rfl rfl)
theorem dX1_persons_15 : decode cX1_persons 15 = .ok (.if_icmp .ge 64, 3) := dk_162 0 64 (dk_at dksX1_persons_0 15 rfl rfl)
theorem dX1_persons_18 : decode cX1_persons 18 = .ok (.iload_n 2, 1) := dk_28 (dk_at dksX1_persons_0 18 rfl rfl)
theorem dX1_persons_19 : decode cX1_persons 19 = .ok (.iload_n 1, 1) := dk_27 (dk_at dksX1_persons_0 19 rfl rfl)
theorem dX1_persons_20 : decode cX1_persons 20 = .ok (.ifCond .eq 26, 3) := dk_153 0 26 (dk_at dksX1_persons_0 20 rfl rfl)
theorem dX1_persons_23 : decode cX1_persons 23 = .ok (.aload_n 0, 1) := dk_42 (dk_at dksX1_persons_0 23 rfl rfl)
theorem dX1_persons_24 : decode cX1_persons 24 = .ok (.getfield 28, 3) := dk_180 0 28 (dk_at dksX1_persons_1 0 rfl rfl)
theorem dX1_persons_27 : decode cX1_persons 27 = .ok (.getfield 273, 3) := dk_180 1 17 (dk_at dksX1_persons_1 3 rfl rfl)
theorem dX1_persons_30 : decode cX1_persons 30 = .ok (.iload_n 3, 1) := dk_29 (dk_at dksX1_persons_1 6 rfl rfl)
theorem dX1_persons_31 : decode cX1_persons 31 = .ok (.invokevirtual 146, 3) := dk_182 0 146 (dk_at dksX1_persons_1 7 rfl rfl)
theorem dX1_persons_34 : decode cX1_persons 34 = .ok (.checkcast 173, 3) := dk_192 0 173 (dk_at dksX1_persons_1 10 rfl rfl)
theorem dX1_persons_37 : decode cX1_persons 37 = .ok (.getfield 222, 3) := dk_180 0 222 (dk_at dksX1_persons_1 13 rfl rfl)
theorem dX1_persons_40 : decode cX1_persons 40 = .ok (.ifCond .eq 30, 3) := dk_153 0 30 (dk_at dksX1_persons_1 16 rfl rfl)
theorem dX1_persons_43 : decode cX1_persons 43 = .ok (.goto 23, 3) := dk_167 0 23 (dk_at dksX1_persons_1 19 rfl rfl)
theorem dX1_persons_46 : decode cX1_persons 46 = .ok (.aload_n 0, 1) := dk_42 (dk_at dksX1_persons_1 22 rfl rfl)
theorem dX1_persons_47 : decode cX1_persons 47 = .ok (.getfield 28, 3) := dk_180 0 28 (dk_at dksX1_persons_2 0 rfl rfl)
theorem dX1_persons_50 : decode cX1_persons 50 = .ok (.getfield 273, 3) := dk_180 1 17 (dk_at dksX1_persons_2 3 rfl rfl)
theorem dX1_persons_53 : decode cX1_persons 53 = .ok (.iload_n 3, 1) := dk_29 (dk_at dksX1_persons_2 6 rfl rfl)
theorem dX1_persons_54 : decode cX1_persons 54 = .ok (.invokevirtual 146, 3) := dk_182 0 146 (dk_at dksX1_persons_2 7 rfl rfl)
theorem dX1_persons_57 : decode cX1_persons 57 = .ok (.checkcast 173, 3) := dk_192 0 173 (dk_at dksX1_persons_2 10 rfl rfl)
theorem dX1_persons_60 : decode cX1_persons 60 = .ok (.getfield 226, 3) := dk_180 0 226 (dk_at dksX1_persons_2 13 rfl rfl)
theorem dX1_persons_63 : decode cX1_persons 63 = .ok (.ifnull 7, 3) := dk_198 0 7 (dk_at dksX1_persons_2 16 rfl rfl)
theorem dX1_persons_66 : decode cX1_persons 66 = .ok (.iconst 1, 1) := dk_4 (dk_at dksX1_persons_2 19 rfl rfl)
theorem dX1_persons_67 : decode cX1_persons 67 = .ok (.goto 4, 3) := dk_167 0 4 (dk_at dksX1_persons_2 20 rfl rfl)
theorem dX1_persons_70 : decode cX1_persons 70 = .ok (.iconst 0, 1) := dk_3 (dk_at dksX1_persons_2 23 rfl rfl)
theorem dX1_persons_71 : decode cX1_persons 71 = .ok (.iadd, 1) := dk_96 (dk_at dksX1_persons_3 0 rfl rfl)
theorem dX1_persons_72 : decode cX1_persons 72 = .ok (.istore_n 2, 1) := dk_61 (dk_at dksX1_persons_3 1 rfl rfl)
theorem dX1_persons_73 : decode cX1_persons 73 = .ok (.iinc 3 1, 3) := dk_132 3 1 (dk_at dksX1_persons_3 2 rfl rfl)
theorem dX1_persons_76 : decode cX1_persons 76 = .ok (.goto (-72), 3) := dk_167 255 184 (dk_at dksX1_persons_3 5 rfl rfl)
theorem dX1_persons_79 : decode cX1_persons 79 = .ok (.iload_n 2, 1) := dk_28 (dk_at dksX1_persons_3 8 rfl rfl)
theorem dX1_persons_80 : decode cX1_persons 80 = .ok (.ireturn, 1) := dk_172 (dk_at dksX1_persons_3 9 rfl rfl)
abbrev cX1_states : ByteArray := prog_1_method_42_code
def yX1_states : MethodName := ⟨RX1, "states", "(I)I"⟩
def dkwX1_states_2 : List UInt8 := [132, 3, 1, 167, 255, 210, 28, 172]
abbrev dktX1_states_2 : List UInt8 := dkwX1_states_2 ++ []
def dkwX1_states_1 : List UInt8 := [180, 1, 14, 29, 182, 0, 146, 192, 0, 41, 180, 0, 110, 27, 160, 0, 7, 4, 167, 0, 4, 3, 96, 61]
abbrev dktX1_states_1 : List UInt8 := dkwX1_states_1 ++ dktX1_states_2
def dkwX1_states_0 : List UInt8 := [3, 61, 3, 62, 29, 42, 180, 0, 28, 180, 1, 14, 182, 0, 140, 162, 0, 38, 28, 42, 180, 0, 28]
abbrev dktX1_states_0 : List UInt8 := dkwX1_states_0 ++ dktX1_states_1
theorem dksX1_states_0 : cX1_states.data.toList.drop 0 = dktX1_states_0 := by decide +kernel
theorem dksX1_states_1 : cX1_states.data.toList.drop 23 = dktX1_states_1 := dk_seg dksX1_states_0 23 rfl rfl
theorem dksX1_states_2 : cX1_states.data.toList.drop 47 = dktX1_states_2 := dk_seg dksX1_states_1 24 rfl rfl
theorem dX1_states_0 : decode cX1_states 0 = .ok (.iconst 0, 1) := dk_3 (dk_at dksX1_states_0 0 rfl rfl)
theorem dX1_states_1 : decode cX1_states 1 = .ok (.istore_n 2, 1) := dk_61 (dk_at dksX1_states_0 1 rfl rfl)
theorem dX1_states_2 : decode cX1_states 2 = .ok (.iconst 0, 1) := dk_3 (dk_at dksX1_states_0 2 rfl rfl)
theorem dX1_states_3 : decode cX1_states 3 = .ok (.istore_n 3, 1) := dk_62 (dk_at dksX1_states_0 3 rfl rfl)
theorem dX1_states_4 : decode cX1_states 4 = .ok (.iload_n 3, 1) := dk_29 (dk_at dksX1_states_0 4 rfl rfl)
theorem dX1_states_5 : decode cX1_states 5 = .ok (.aload_n 0, 1) := dk_42 (dk_at dksX1_states_0 5 rfl rfl)
theorem dX1_states_6 : decode cX1_states 6 = .ok (.getfield 28, 3) := dk_180 0 28 (dk_at dksX1_states_0 6 rfl rfl)
theorem dX1_states_9 : decode cX1_states 9 = .ok (.getfield 270, 3) := dk_180 1 14 (dk_at dksX1_states_0 9 rfl rfl)
theorem dX1_states_12 : decode cX1_states 12 = .ok (.invokevirtual 140, 3) := dk_182 0 140 (dk_at dksX1_states_0 12 rfl rfl)
theorem dX1_states_15 : decode cX1_states 15 = .ok (.if_icmp .ge 38, 3) := dk_162 0 38 (dk_at dksX1_states_0 15 rfl rfl)
theorem dX1_states_18 : decode cX1_states 18 = .ok (.iload_n 2, 1) := dk_28 (dk_at dksX1_states_0 18 rfl rfl)
theorem dX1_states_19 : decode cX1_states 19 = .ok (.aload_n 0, 1) := dk_42 (dk_at dksX1_states_0 19 rfl rfl)
theorem dX1_states_20 : decode cX1_states 20 = .ok (.getfield 28, 3) := dk_180 0 28 (dk_at dksX1_states_0 20 rfl rfl)
theorem dX1_states_23 : decode cX1_states 23 = .ok (.getfield 270, 3) := dk_180 1 14 (dk_at dksX1_states_1 0 rfl rfl)
theorem dX1_states_26 : decode cX1_states 26 = .ok (.iload_n 3, 1) := dk_29 (dk_at dksX1_states_1 3 rfl rfl)
theorem dX1_states_27 : decode cX1_states 27 = .ok (.invokevirtual 146, 3) := dk_182 0 146 (dk_at dksX1_states_1 4 rfl rfl)
theorem dX1_states_30 : decode cX1_states 30 = .ok (.checkcast 41, 3) := dk_192 0 41 (dk_at dksX1_states_1 7 rfl rfl)
theorem dX1_states_33 : decode cX1_states 33 = .ok (.getfield 110, 3) := dk_180 0 110 (dk_at dksX1_states_1 10 rfl rfl)
theorem dX1_states_36 : decode cX1_states 36 = .ok (.iload_n 1, 1) := dk_27 (dk_at dksX1_states_1 13 rfl rfl)
theorem dX1_states_37 : decode cX1_states 37 = .ok (.if_icmp .ne 7, 3) := dk_160 0 7 (dk_at dksX1_states_1 14 rfl rfl)
theorem dX1_states_40 : decode cX1_states 40 = .ok (.iconst 1, 1) := dk_4 (dk_at dksX1_states_1 17 rfl rfl)
theorem dX1_states_41 : decode cX1_states 41 = .ok (.goto 4, 3) := dk_167 0 4 (dk_at dksX1_states_1 18 rfl rfl)
theorem dX1_states_44 : decode cX1_states 44 = .ok (.iconst 0, 1) := dk_3 (dk_at dksX1_states_1 21 rfl rfl)
theorem dX1_states_45 : decode cX1_states 45 = .ok (.iadd, 1) := dk_96 (dk_at dksX1_states_1 22 rfl rfl)
theorem dX1_states_46 : decode cX1_states 46 = .ok (.istore_n 2, 1) := dk_61 (dk_at dksX1_states_1 23 rfl rfl)
theorem dX1_states_47 : decode cX1_states 47 = .ok (.iinc 3 1, 3) := dk_132 3 1 (dk_at dksX1_states_2 0 rfl rfl)
theorem dX1_states_50 : decode cX1_states 50 = .ok (.goto (-46), 3) := dk_167 255 210 (dk_at dksX1_states_2 3 rfl rfl)
theorem dX1_states_53 : decode cX1_states 53 = .ok (.iload_n 2, 1) := dk_28 (dk_at dksX1_states_2 6 rfl rfl)
theorem dX1_states_54 : decode cX1_states 54 = .ok (.ireturn, 1) := dk_172 (dk_at dksX1_states_2 7 rfl rfl)
abbrev cX1_look : ByteArray := prog_1_method_37_code
def yX1_look : MethodName := ⟨RX1, "look", "(II)I"⟩
def dkwX1_look_7 : List UInt8 := [182, 0, 211, 172]
abbrev dktX1_look_7 : List UInt8 := dkwX1_look_7 ++ []
def dkwX1_look_6 : List UInt8 := [180, 0, 200, 172, 45, 180, 0, 203, 172, 45, 180, 0, 205, 172, 45, 180, 0, 208, 182, 0, 140, 172, 45]
abbrev dktX1_look_6 : List UInt8 := dkwX1_look_6 ++ dktX1_look_7
def dkwX1_look_5 : List UInt8 := [184, 0, 187, 172, 45, 180, 0, 110, 5, 160, 0, 10, 45, 180, 0, 197, 167, 0, 4, 3, 172, 45]
abbrev dktX1_look_5 : List UInt8 := dkwX1_look_5 ++ dktX1_look_6
def dkwX1_look_4 : List UInt8 := [159, 0, 11, 45, 180, 0, 110, 5, 160, 0, 10, 45, 180, 0, 191, 167, 0, 4, 3, 172, 45, 180, 0, 194]
abbrev dktX1_look_4 : List UInt8 := dkwX1_look_4 ++ dktX1_look_5
def dkwX1_look_3 : List UInt8 := [45, 182, 0, 180, 172, 45, 180, 0, 110, 172, 45, 180, 0, 183, 184, 0, 187, 172, 45, 180, 0, 110, 4]
abbrev dktX1_look_3 : List UInt8 := dkwX1_look_3 ++ dktX1_look_4
def dkwX1_look_2 : List UInt8 := [170, 0, 0, 0, 0, 0, 0, 147, 0, 0, 0, 0, 0, 0, 0, 9, 0, 0, 0, 56, 0, 0, 0, 61, 0, 0, 0, 66, 0, 0, 0, 74, 0, 0, 0, 99, 0, 0, 0, 107, 0, 0, 0, 124, 0, 0, 0, 129, 0, 0, 0, 134, 0, 0, 0, 139]
abbrev dktX1_look_2 : List UInt8 := dkwX1_look_2 ++ dktX1_look_3
def dkwX1_look_1 : List UInt8 := [187, 0, 177, 89, 183, 0, 179, 191, 28]
abbrev dktX1_look_1 : List UInt8 := dkwX1_look_1 ++ dktX1_look_2
def dkwX1_look_0 : List UInt8 := [42, 180, 0, 28, 27, 182, 0, 106, 78, 45, 198, 0, 13, 28, 155, 0, 9, 28, 16, 10, 164, 0, 11]
abbrev dktX1_look_0 : List UInt8 := dkwX1_look_0 ++ dktX1_look_1
theorem dksX1_look_0 : cX1_look.data.toList.drop 0 = dktX1_look_0 := by decide +kernel
theorem dksX1_look_1 : cX1_look.data.toList.drop 23 = dktX1_look_1 := dk_seg dksX1_look_0 23 rfl rfl
theorem dksX1_look_2 : cX1_look.data.toList.drop 32 = dktX1_look_2 := dk_seg dksX1_look_1 9 rfl rfl
theorem dksX1_look_3 : cX1_look.data.toList.drop 88 = dktX1_look_3 := dk_seg dksX1_look_2 56 rfl rfl
theorem dksX1_look_4 : cX1_look.data.toList.drop 111 = dktX1_look_4 := dk_seg dksX1_look_3 23 rfl rfl
theorem dksX1_look_5 : cX1_look.data.toList.drop 135 = dktX1_look_5 := dk_seg dksX1_look_4 24 rfl rfl
theorem dksX1_look_6 : cX1_look.data.toList.drop 157 = dktX1_look_6 := dk_seg dksX1_look_5 22 rfl rfl
theorem dksX1_look_7 : cX1_look.data.toList.drop 180 = dktX1_look_7 := dk_seg dksX1_look_6 23 rfl rfl
theorem dX1_look_0 : decode cX1_look 0 = .ok (.aload_n 0, 1) := dk_42 (dk_at dksX1_look_0 0 rfl rfl)
theorem dX1_look_1 : decode cX1_look 1 = .ok (.getfield 28, 3) := dk_180 0 28 (dk_at dksX1_look_0 1 rfl rfl)
theorem dX1_look_4 : decode cX1_look 4 = .ok (.iload_n 1, 1) := dk_27 (dk_at dksX1_look_0 4 rfl rfl)
theorem dX1_look_5 : decode cX1_look 5 = .ok (.invokevirtual 106, 3) := dk_182 0 106 (dk_at dksX1_look_0 5 rfl rfl)
theorem dX1_look_8 : decode cX1_look 8 = .ok (.astore_n 3, 1) := dk_78 (dk_at dksX1_look_0 8 rfl rfl)
theorem dX1_look_9 : decode cX1_look 9 = .ok (.aload_n 3, 1) := dk_45 (dk_at dksX1_look_0 9 rfl rfl)
theorem dX1_look_10 : decode cX1_look 10 = .ok (.ifnull 13, 3) := dk_198 0 13 (dk_at dksX1_look_0 10 rfl rfl)
theorem dX1_look_13 : decode cX1_look 13 = .ok (.iload_n 2, 1) := dk_28 (dk_at dksX1_look_0 13 rfl rfl)
theorem dX1_look_14 : decode cX1_look 14 = .ok (.ifCond .lt 9, 3) := dk_155 0 9 (dk_at dksX1_look_0 14 rfl rfl)
theorem dX1_look_17 : decode cX1_look 17 = .ok (.iload_n 2, 1) := dk_28 (dk_at dksX1_look_0 17 rfl rfl)
theorem dX1_look_18 : decode cX1_look 18 = .ok (.bipush 10, 2) := dk_16 10 (dk_at dksX1_look_0 18 rfl rfl)
theorem dX1_look_20 : decode cX1_look 20 = .ok (.if_icmp .le 11, 3) := dk_164 0 11 (dk_at dksX1_look_0 20 rfl rfl)
theorem dX1_look_23 : decode cX1_look 23 = .ok (.new 177, 3) := dk_187 0 177 (dk_at dksX1_look_1 0 rfl rfl)
theorem dX1_look_26 : decode cX1_look 26 = .ok (.dup, 1) := dk_89 (dk_at dksX1_look_1 3 rfl rfl)
theorem dX1_look_27 : decode cX1_look 27 = .ok (.invokespecial 179, 3) := dk_183 0 179 (dk_at dksX1_look_1 4 rfl rfl)
theorem dX1_look_30 : decode cX1_look 30 = .ok (.athrow, 1) := dk_191 (dk_at dksX1_look_1 7 rfl rfl)
theorem dX1_look_31 : decode cX1_look 31 = .ok (.iload_n 2, 1) := dk_28 (dk_at dksX1_look_1 8 rfl rfl)
theorem dX1_look_32 : decode cX1_look 32 = .ok (.tableswitch 147 0 9 #[56, 61, 66, 74, 99, 107, 124, 129, 134, 139], 56) := by decide +kernel
theorem dX1_look_88 : decode cX1_look 88 = .ok (.aload_n 3, 1) := dk_45 (dk_at dksX1_look_3 0 rfl rfl)
theorem dX1_look_89 : decode cX1_look 89 = .ok (.invokevirtual 180, 3) := dk_182 0 180 (dk_at dksX1_look_3 1 rfl rfl)
theorem dX1_look_92 : decode cX1_look 92 = .ok (.ireturn, 1) := dk_172 (dk_at dksX1_look_3 4 rfl rfl)
theorem dX1_look_93 : decode cX1_look 93 = .ok (.aload_n 3, 1) := dk_45 (dk_at dksX1_look_3 5 rfl rfl)
theorem dX1_look_94 : decode cX1_look 94 = .ok (.getfield 110, 3) := dk_180 0 110 (dk_at dksX1_look_3 6 rfl rfl)
theorem dX1_look_97 : decode cX1_look 97 = .ok (.ireturn, 1) := dk_172 (dk_at dksX1_look_3 9 rfl rfl)
theorem dX1_look_98 : decode cX1_look 98 = .ok (.aload_n 3, 1) := dk_45 (dk_at dksX1_look_3 10 rfl rfl)
theorem dX1_look_99 : decode cX1_look 99 = .ok (.getfield 183, 3) := dk_180 0 183 (dk_at dksX1_look_3 11 rfl rfl)
theorem dX1_look_102 : decode cX1_look 102 = .ok (.invokestatic 187, 3) := dk_184 0 187 (dk_at dksX1_look_3 14 rfl rfl)
theorem dX1_look_105 : decode cX1_look 105 = .ok (.ireturn, 1) := dk_172 (dk_at dksX1_look_3 17 rfl rfl)
theorem dX1_look_106 : decode cX1_look 106 = .ok (.aload_n 3, 1) := dk_45 (dk_at dksX1_look_3 18 rfl rfl)
theorem dX1_look_107 : decode cX1_look 107 = .ok (.getfield 110, 3) := dk_180 0 110 (dk_at dksX1_look_3 19 rfl rfl)
theorem dX1_look_110 : decode cX1_look 110 = .ok (.iconst 1, 1) := dk_4 (dk_at dksX1_look_3 22 rfl rfl)
theorem dX1_look_111 : decode cX1_look 111 = .ok (.if_icmp .eq 11, 3) := dk_159 0 11 (dk_at dksX1_look_4 0 rfl rfl)
theorem dX1_look_114 : decode cX1_look 114 = .ok (.aload_n 3, 1) := dk_45 (dk_at dksX1_look_4 3 rfl rfl)
theorem dX1_look_115 : decode cX1_look 115 = .ok (.getfield 110, 3) := dk_180 0 110 (dk_at dksX1_look_4 4 rfl rfl)
theorem dX1_look_118 : decode cX1_look 118 = .ok (.iconst 2, 1) := dk_5 (dk_at dksX1_look_4 7 rfl rfl)
theorem dX1_look_119 : decode cX1_look 119 = .ok (.if_icmp .ne 10, 3) := dk_160 0 10 (dk_at dksX1_look_4 8 rfl rfl)
theorem dX1_look_122 : decode cX1_look 122 = .ok (.aload_n 3, 1) := dk_45 (dk_at dksX1_look_4 11 rfl rfl)
theorem dX1_look_123 : decode cX1_look 123 = .ok (.getfield 191, 3) := dk_180 0 191 (dk_at dksX1_look_4 12 rfl rfl)
theorem dX1_look_126 : decode cX1_look 126 = .ok (.goto 4, 3) := dk_167 0 4 (dk_at dksX1_look_4 15 rfl rfl)
theorem dX1_look_129 : decode cX1_look 129 = .ok (.iconst 0, 1) := dk_3 (dk_at dksX1_look_4 18 rfl rfl)
theorem dX1_look_130 : decode cX1_look 130 = .ok (.ireturn, 1) := dk_172 (dk_at dksX1_look_4 19 rfl rfl)
theorem dX1_look_131 : decode cX1_look 131 = .ok (.aload_n 3, 1) := dk_45 (dk_at dksX1_look_4 20 rfl rfl)
theorem dX1_look_132 : decode cX1_look 132 = .ok (.getfield 194, 3) := dk_180 0 194 (dk_at dksX1_look_4 21 rfl rfl)
theorem dX1_look_135 : decode cX1_look 135 = .ok (.invokestatic 187, 3) := dk_184 0 187 (dk_at dksX1_look_5 0 rfl rfl)
theorem dX1_look_138 : decode cX1_look 138 = .ok (.ireturn, 1) := dk_172 (dk_at dksX1_look_5 3 rfl rfl)
theorem dX1_look_139 : decode cX1_look 139 = .ok (.aload_n 3, 1) := dk_45 (dk_at dksX1_look_5 4 rfl rfl)
theorem dX1_look_140 : decode cX1_look 140 = .ok (.getfield 110, 3) := dk_180 0 110 (dk_at dksX1_look_5 5 rfl rfl)
theorem dX1_look_143 : decode cX1_look 143 = .ok (.iconst 2, 1) := dk_5 (dk_at dksX1_look_5 8 rfl rfl)
theorem dX1_look_144 : decode cX1_look 144 = .ok (.if_icmp .ne 10, 3) := dk_160 0 10 (dk_at dksX1_look_5 9 rfl rfl)
theorem dX1_look_147 : decode cX1_look 147 = .ok (.aload_n 3, 1) := dk_45 (dk_at dksX1_look_5 12 rfl rfl)
theorem dX1_look_148 : decode cX1_look 148 = .ok (.getfield 197, 3) := dk_180 0 197 (dk_at dksX1_look_5 13 rfl rfl)
theorem dX1_look_151 : decode cX1_look 151 = .ok (.goto 4, 3) := dk_167 0 4 (dk_at dksX1_look_5 16 rfl rfl)
theorem dX1_look_154 : decode cX1_look 154 = .ok (.iconst 0, 1) := dk_3 (dk_at dksX1_look_5 19 rfl rfl)
theorem dX1_look_155 : decode cX1_look 155 = .ok (.ireturn, 1) := dk_172 (dk_at dksX1_look_5 20 rfl rfl)
theorem dX1_look_156 : decode cX1_look 156 = .ok (.aload_n 3, 1) := dk_45 (dk_at dksX1_look_5 21 rfl rfl)
theorem dX1_look_157 : decode cX1_look 157 = .ok (.getfield 200, 3) := dk_180 0 200 (dk_at dksX1_look_6 0 rfl rfl)
theorem dX1_look_160 : decode cX1_look 160 = .ok (.ireturn, 1) := dk_172 (dk_at dksX1_look_6 3 rfl rfl)
theorem dX1_look_161 : decode cX1_look 161 = .ok (.aload_n 3, 1) := dk_45 (dk_at dksX1_look_6 4 rfl rfl)
theorem dX1_look_162 : decode cX1_look 162 = .ok (.getfield 203, 3) := dk_180 0 203 (dk_at dksX1_look_6 5 rfl rfl)
theorem dX1_look_165 : decode cX1_look 165 = .ok (.ireturn, 1) := dk_172 (dk_at dksX1_look_6 8 rfl rfl)
theorem dX1_look_166 : decode cX1_look 166 = .ok (.aload_n 3, 1) := dk_45 (dk_at dksX1_look_6 9 rfl rfl)
theorem dX1_look_167 : decode cX1_look 167 = .ok (.getfield 205, 3) := dk_180 0 205 (dk_at dksX1_look_6 10 rfl rfl)
theorem dX1_look_170 : decode cX1_look 170 = .ok (.ireturn, 1) := dk_172 (dk_at dksX1_look_6 13 rfl rfl)
theorem dX1_look_171 : decode cX1_look 171 = .ok (.aload_n 3, 1) := dk_45 (dk_at dksX1_look_6 14 rfl rfl)
theorem dX1_look_172 : decode cX1_look 172 = .ok (.getfield 208, 3) := dk_180 0 208 (dk_at dksX1_look_6 15 rfl rfl)
theorem dX1_look_175 : decode cX1_look 175 = .ok (.invokevirtual 140, 3) := dk_182 0 140 (dk_at dksX1_look_6 18 rfl rfl)
theorem dX1_look_178 : decode cX1_look 178 = .ok (.ireturn, 1) := dk_172 (dk_at dksX1_look_6 21 rfl rfl)
theorem dX1_look_179 : decode cX1_look 179 = .ok (.aload_n 3, 1) := dk_45 (dk_at dksX1_look_6 22 rfl rfl)
theorem dX1_look_180 : decode cX1_look 180 = .ok (.invokevirtual 211, 3) := dk_182 0 211 (dk_at dksX1_look_7 0 rfl rfl)
theorem dX1_look_183 : decode cX1_look 183 = .ok (.ireturn, 1) := dk_172 (dk_at dksX1_look_7 3 rfl rfl)
abbrev cX1_of : ByteArray := prog_1_method_39_code
def yX1_of : MethodName := ⟨RX1, "of", "(II)I"⟩
def dkwX1_of_7 : List UInt8 := [172, 45, 180, 0, 253, 184, 0, 187, 172]
abbrev dktX1_of_7 : List UInt8 := dkwX1_of_7 ++ []
def dkwX1_of_6 : List UInt8 := [180, 0, 242, 172, 45, 180, 0, 244, 172, 45, 180, 0, 247, 184, 0, 187, 172, 45, 180, 0, 250, 184, 0, 187]
abbrev dktX1_of_6 : List UInt8 := dkwX1_of_6 ++ dktX1_of_7
def dkwX1_of_5 : List UInt8 := [180, 0, 226, 180, 0, 232, 172, 45, 180, 0, 233, 172, 45, 180, 0, 236, 172, 45, 180, 0, 239, 172, 45]
abbrev dktX1_of_5 : List UInt8 := dkwX1_of_5 ++ dktX1_of_6
def dkwX1_of_4 : List UInt8 := [180, 0, 229, 153, 0, 7, 4, 167, 0, 4, 3, 172, 45, 180, 0, 226, 199, 0, 7, 2, 167, 0, 10, 45]
abbrev dktX1_of_4 : List UInt8 := dkwX1_of_4 ++ dktX1_of_5
def dkwX1_of_3 : List UInt8 := [45, 180, 0, 222, 153, 0, 7, 6, 167, 0, 26, 45, 180, 0, 226, 198, 0, 7, 5, 167, 0, 15, 45]
abbrev dktX1_of_3 : List UInt8 := dkwX1_of_3 ++ dktX1_of_4
def dkwX1_of_2 : List UInt8 := [170, 0, 0, 0, 0, 0, 0, 147, 0, 0, 0, 0, 0, 0, 0, 8, 0, 0, 0, 52, 0, 0, 0, 87, 0, 0, 0, 106, 0, 0, 0, 111, 0, 0, 0, 116, 0, 0, 0, 121, 0, 0, 0, 126, 0, 0, 0, 131, 0, 0, 0, 139]
abbrev dktX1_of_2 : List UInt8 := dkwX1_of_2 ++ dktX1_of_3
def dkwX1_of_1 : List UInt8 := [187, 0, 177, 89, 183, 0, 179, 191, 28]
abbrev dktX1_of_1 : List UInt8 := dkwX1_of_1 ++ dktX1_of_2
def dkwX1_of_0 : List UInt8 := [42, 180, 0, 28, 27, 182, 0, 218, 78, 45, 198, 0, 13, 28, 155, 0, 9, 28, 16, 9, 164, 0, 11]
abbrev dktX1_of_0 : List UInt8 := dkwX1_of_0 ++ dktX1_of_1
theorem dksX1_of_0 : cX1_of.data.toList.drop 0 = dktX1_of_0 := by decide +kernel
theorem dksX1_of_1 : cX1_of.data.toList.drop 23 = dktX1_of_1 := dk_seg dksX1_of_0 23 rfl rfl
theorem dksX1_of_2 : cX1_of.data.toList.drop 32 = dktX1_of_2 := dk_seg dksX1_of_1 9 rfl rfl
theorem dksX1_of_3 : cX1_of.data.toList.drop 84 = dktX1_of_3 := dk_seg dksX1_of_2 52 rfl rfl
theorem dksX1_of_4 : cX1_of.data.toList.drop 107 = dktX1_of_4 := dk_seg dksX1_of_3 23 rfl rfl
theorem dksX1_of_5 : cX1_of.data.toList.drop 131 = dktX1_of_5 := dk_seg dksX1_of_4 24 rfl rfl
theorem dksX1_of_6 : cX1_of.data.toList.drop 154 = dktX1_of_6 := dk_seg dksX1_of_5 23 rfl rfl
theorem dksX1_of_7 : cX1_of.data.toList.drop 178 = dktX1_of_7 := dk_seg dksX1_of_6 24 rfl rfl
theorem dX1_of_0 : decode cX1_of 0 = .ok (.aload_n 0, 1) := dk_42 (dk_at dksX1_of_0 0 rfl rfl)
theorem dX1_of_1 : decode cX1_of 1 = .ok (.getfield 28, 3) := dk_180 0 28 (dk_at dksX1_of_0 1 rfl rfl)
theorem dX1_of_4 : decode cX1_of 4 = .ok (.iload_n 1, 1) := dk_27 (dk_at dksX1_of_0 4 rfl rfl)
theorem dX1_of_5 : decode cX1_of 5 = .ok (.invokevirtual 218, 3) := dk_182 0 218 (dk_at dksX1_of_0 5 rfl rfl)
theorem dX1_of_8 : decode cX1_of 8 = .ok (.astore_n 3, 1) := dk_78 (dk_at dksX1_of_0 8 rfl rfl)
theorem dX1_of_9 : decode cX1_of 9 = .ok (.aload_n 3, 1) := dk_45 (dk_at dksX1_of_0 9 rfl rfl)
theorem dX1_of_10 : decode cX1_of 10 = .ok (.ifnull 13, 3) := dk_198 0 13 (dk_at dksX1_of_0 10 rfl rfl)
theorem dX1_of_13 : decode cX1_of 13 = .ok (.iload_n 2, 1) := dk_28 (dk_at dksX1_of_0 13 rfl rfl)
theorem dX1_of_14 : decode cX1_of 14 = .ok (.ifCond .lt 9, 3) := dk_155 0 9 (dk_at dksX1_of_0 14 rfl rfl)
theorem dX1_of_17 : decode cX1_of 17 = .ok (.iload_n 2, 1) := dk_28 (dk_at dksX1_of_0 17 rfl rfl)
theorem dX1_of_18 : decode cX1_of 18 = .ok (.bipush 9, 2) := dk_16 9 (dk_at dksX1_of_0 18 rfl rfl)
theorem dX1_of_20 : decode cX1_of 20 = .ok (.if_icmp .le 11, 3) := dk_164 0 11 (dk_at dksX1_of_0 20 rfl rfl)
theorem dX1_of_23 : decode cX1_of 23 = .ok (.new 177, 3) := dk_187 0 177 (dk_at dksX1_of_1 0 rfl rfl)
theorem dX1_of_26 : decode cX1_of 26 = .ok (.dup, 1) := dk_89 (dk_at dksX1_of_1 3 rfl rfl)
theorem dX1_of_27 : decode cX1_of 27 = .ok (.invokespecial 179, 3) := dk_183 0 179 (dk_at dksX1_of_1 4 rfl rfl)
theorem dX1_of_30 : decode cX1_of 30 = .ok (.athrow, 1) := dk_191 (dk_at dksX1_of_1 7 rfl rfl)
theorem dX1_of_31 : decode cX1_of 31 = .ok (.iload_n 2, 1) := dk_28 (dk_at dksX1_of_1 8 rfl rfl)
theorem dX1_of_32 : decode cX1_of 32 = .ok (.tableswitch 147 0 8 #[52, 87, 106, 111, 116, 121, 126, 131, 139], 52) := by decide +kernel
theorem dX1_of_84 : decode cX1_of 84 = .ok (.aload_n 3, 1) := dk_45 (dk_at dksX1_of_3 0 rfl rfl)
theorem dX1_of_85 : decode cX1_of 85 = .ok (.getfield 222, 3) := dk_180 0 222 (dk_at dksX1_of_3 1 rfl rfl)
theorem dX1_of_88 : decode cX1_of 88 = .ok (.ifCond .eq 7, 3) := dk_153 0 7 (dk_at dksX1_of_3 4 rfl rfl)
theorem dX1_of_91 : decode cX1_of 91 = .ok (.iconst 3, 1) := dk_6 (dk_at dksX1_of_3 7 rfl rfl)
theorem dX1_of_92 : decode cX1_of 92 = .ok (.goto 26, 3) := dk_167 0 26 (dk_at dksX1_of_3 8 rfl rfl)
theorem dX1_of_95 : decode cX1_of 95 = .ok (.aload_n 3, 1) := dk_45 (dk_at dksX1_of_3 11 rfl rfl)
theorem dX1_of_96 : decode cX1_of 96 = .ok (.getfield 226, 3) := dk_180 0 226 (dk_at dksX1_of_3 12 rfl rfl)
theorem dX1_of_99 : decode cX1_of 99 = .ok (.ifnull 7, 3) := dk_198 0 7 (dk_at dksX1_of_3 15 rfl rfl)
theorem dX1_of_102 : decode cX1_of 102 = .ok (.iconst 2, 1) := dk_5 (dk_at dksX1_of_3 18 rfl rfl)
theorem dX1_of_103 : decode cX1_of 103 = .ok (.goto 15, 3) := dk_167 0 15 (dk_at dksX1_of_3 19 rfl rfl)
theorem dX1_of_106 : decode cX1_of 106 = .ok (.aload_n 3, 1) := dk_45 (dk_at dksX1_of_3 22 rfl rfl)
theorem dX1_of_107 : decode cX1_of 107 = .ok (.getfield 229, 3) := dk_180 0 229 (dk_at dksX1_of_4 0 rfl rfl)
theorem dX1_of_110 : decode cX1_of 110 = .ok (.ifCond .eq 7, 3) := dk_153 0 7 (dk_at dksX1_of_4 3 rfl rfl)
theorem dX1_of_113 : decode cX1_of 113 = .ok (.iconst 1, 1) := dk_4 (dk_at dksX1_of_4 6 rfl rfl)
theorem dX1_of_114 : decode cX1_of 114 = .ok (.goto 4, 3) := dk_167 0 4 (dk_at dksX1_of_4 7 rfl rfl)
theorem dX1_of_117 : decode cX1_of 117 = .ok (.iconst 0, 1) := dk_3 (dk_at dksX1_of_4 10 rfl rfl)
theorem dX1_of_118 : decode cX1_of 118 = .ok (.ireturn, 1) := dk_172 (dk_at dksX1_of_4 11 rfl rfl)
theorem dX1_of_119 : decode cX1_of 119 = .ok (.aload_n 3, 1) := dk_45 (dk_at dksX1_of_4 12 rfl rfl)
theorem dX1_of_120 : decode cX1_of 120 = .ok (.getfield 226, 3) := dk_180 0 226 (dk_at dksX1_of_4 13 rfl rfl)
theorem dX1_of_123 : decode cX1_of 123 = .ok (.ifnonnull 7, 3) := dk_199 0 7 (dk_at dksX1_of_4 16 rfl rfl)
theorem dX1_of_126 : decode cX1_of 126 = .ok (.iconst (-1), 1) := dk_2 (dk_at dksX1_of_4 19 rfl rfl)
theorem dX1_of_127 : decode cX1_of 127 = .ok (.goto 10, 3) := dk_167 0 10 (dk_at dksX1_of_4 20 rfl rfl)
theorem dX1_of_130 : decode cX1_of 130 = .ok (.aload_n 3, 1) := dk_45 (dk_at dksX1_of_4 23 rfl rfl)
theorem dX1_of_131 : decode cX1_of 131 = .ok (.getfield 226, 3) := dk_180 0 226 (dk_at dksX1_of_5 0 rfl rfl)
theorem dX1_of_134 : decode cX1_of 134 = .ok (.getfield 232, 3) := dk_180 0 232 (dk_at dksX1_of_5 3 rfl rfl)
theorem dX1_of_137 : decode cX1_of 137 = .ok (.ireturn, 1) := dk_172 (dk_at dksX1_of_5 6 rfl rfl)
theorem dX1_of_138 : decode cX1_of 138 = .ok (.aload_n 3, 1) := dk_45 (dk_at dksX1_of_5 7 rfl rfl)
theorem dX1_of_139 : decode cX1_of 139 = .ok (.getfield 233, 3) := dk_180 0 233 (dk_at dksX1_of_5 8 rfl rfl)
theorem dX1_of_142 : decode cX1_of 142 = .ok (.ireturn, 1) := dk_172 (dk_at dksX1_of_5 11 rfl rfl)
theorem dX1_of_143 : decode cX1_of 143 = .ok (.aload_n 3, 1) := dk_45 (dk_at dksX1_of_5 12 rfl rfl)
theorem dX1_of_144 : decode cX1_of 144 = .ok (.getfield 236, 3) := dk_180 0 236 (dk_at dksX1_of_5 13 rfl rfl)
theorem dX1_of_147 : decode cX1_of 147 = .ok (.ireturn, 1) := dk_172 (dk_at dksX1_of_5 16 rfl rfl)
theorem dX1_of_148 : decode cX1_of 148 = .ok (.aload_n 3, 1) := dk_45 (dk_at dksX1_of_5 17 rfl rfl)
theorem dX1_of_149 : decode cX1_of 149 = .ok (.getfield 239, 3) := dk_180 0 239 (dk_at dksX1_of_5 18 rfl rfl)
theorem dX1_of_152 : decode cX1_of 152 = .ok (.ireturn, 1) := dk_172 (dk_at dksX1_of_5 21 rfl rfl)
theorem dX1_of_153 : decode cX1_of 153 = .ok (.aload_n 3, 1) := dk_45 (dk_at dksX1_of_5 22 rfl rfl)
theorem dX1_of_154 : decode cX1_of 154 = .ok (.getfield 242, 3) := dk_180 0 242 (dk_at dksX1_of_6 0 rfl rfl)
theorem dX1_of_157 : decode cX1_of 157 = .ok (.ireturn, 1) := dk_172 (dk_at dksX1_of_6 3 rfl rfl)
theorem dX1_of_158 : decode cX1_of 158 = .ok (.aload_n 3, 1) := dk_45 (dk_at dksX1_of_6 4 rfl rfl)
theorem dX1_of_159 : decode cX1_of 159 = .ok (.getfield 244, 3) := dk_180 0 244 (dk_at dksX1_of_6 5 rfl rfl)
theorem dX1_of_162 : decode cX1_of 162 = .ok (.ireturn, 1) := dk_172 (dk_at dksX1_of_6 8 rfl rfl)
theorem dX1_of_163 : decode cX1_of 163 = .ok (.aload_n 3, 1) := dk_45 (dk_at dksX1_of_6 9 rfl rfl)
theorem dX1_of_164 : decode cX1_of 164 = .ok (.getfield 247, 3) := dk_180 0 247 (dk_at dksX1_of_6 10 rfl rfl)
theorem dX1_of_167 : decode cX1_of 167 = .ok (.invokestatic 187, 3) := dk_184 0 187 (dk_at dksX1_of_6 13 rfl rfl)
theorem dX1_of_170 : decode cX1_of 170 = .ok (.ireturn, 1) := dk_172 (dk_at dksX1_of_6 16 rfl rfl)
theorem dX1_of_171 : decode cX1_of 171 = .ok (.aload_n 3, 1) := dk_45 (dk_at dksX1_of_6 17 rfl rfl)
theorem dX1_of_172 : decode cX1_of 172 = .ok (.getfield 250, 3) := dk_180 0 250 (dk_at dksX1_of_6 18 rfl rfl)
theorem dX1_of_175 : decode cX1_of 175 = .ok (.invokestatic 187, 3) := dk_184 0 187 (dk_at dksX1_of_6 21 rfl rfl)
theorem dX1_of_178 : decode cX1_of 178 = .ok (.ireturn, 1) := dk_172 (dk_at dksX1_of_7 0 rfl rfl)
theorem dX1_of_179 : decode cX1_of 179 = .ok (.aload_n 3, 1) := dk_45 (dk_at dksX1_of_7 1 rfl rfl)
theorem dX1_of_180 : decode cX1_of 180 = .ok (.getfield 253, 3) := dk_180 0 253 (dk_at dksX1_of_7 2 rfl rfl)
theorem dX1_of_183 : decode cX1_of 183 = .ok (.invokestatic 187, 3) := dk_184 0 187 (dk_at dksX1_of_7 5 rfl rfl)
theorem dX1_of_186 : decode cX1_of 186 = .ok (.ireturn, 1) := dk_172 (dk_at dksX1_of_7 8 rfl rfl)
theorem q87 : (Jvm.Cond.initialized "ChurchyardBook") ∈ lw_all := lw_g (lw_at lw_m1 1 rfl) rfl
theorem q125 : (Jvm.Cond.instantiable "ChurchyardBook" (8 : Nat)) ∈ lw_all := lw_g (lw_at lw_m1 39 rfl) rfl
theorem q127 : (Jvm.Cond.instanceMethod ({ cls := "ChurchyardBook", name := "<init>", desc := "()V" } : Jvm.MethodName)) ∈ lw_all := lw_g (lw_at lw_m1 41 rfl) rfl
theorem q128 : (Jvm.Cond.code ({ cls := "ChurchyardBook", name := "<init>", desc := "()V" } : Jvm.MethodName) prog_1_method_1_code (1 : Nat) (Option.none : Option Jvm.ClassFile.FieldType)) ∈ lw_all := lw_g (lw_at lw_m1 42 rfl) rfl
theorem q129 : (Jvm.Cond.methodLink "ChurchyardBook" (1 : Nat) ({ cls := "java/lang/Object", name := "<init>", desc := "()V" } : Jvm.MethodName)) ∈ lw_all := lw_g (lw_at lw_m1 43 rfl) rfl
theorem q132 : (Jvm.Cond.classLink "ChurchyardBook" (7 : Nat) "ChurchyardBook$Tree") ∈ lw_all := lw_g (lw_at lw_m1 46 rfl) rfl
theorem q134 : (Jvm.Cond.methodLinkNest "ChurchyardBook" (9 : Nat) ({ cls := "ChurchyardBook$Tree", name := "<init>", desc := "()V" } : Jvm.MethodName) "ChurchyardBook") ∈ lw_tbl := lw_at lw_m1 48 rfl
theorem q142 : (Jvm.Cond.classLink "ChurchyardBook" (16 : Nat) "ChurchyardBook$Way") ∈ lw_all := lw_g (lw_at lw_m1 56 rfl) rfl
theorem q144 : (Jvm.Cond.methodLinkNest "ChurchyardBook" (18 : Nat) ({ cls := "ChurchyardBook$Way", name := "<init>", desc := "()V" } : Jvm.MethodName) "ChurchyardBook") ∈ lw_tbl := lw_at lw_m1 58 rfl
theorem q149 : (Jvm.Cond.classLink "ChurchyardBook" (23 : Nat) "ChurchyardBook$Book") ∈ lw_all := lw_g (lw_at lw_m1 63 rfl) rfl
theorem q151 : (Jvm.Cond.methodLinkNest "ChurchyardBook" (25 : Nat) ({ cls := "ChurchyardBook$Book", name := "<init>", desc := "(LChurchyardBook;)V" } : Jvm.MethodName) "ChurchyardBook") ∈ lw_tbl := lw_at lw_m1 65 rfl
theorem q189 : (Jvm.Cond.fieldLink "ChurchyardBook" (136 : Nat) "ChurchyardBook$Book" "fields" "Ljava/util/ArrayList;") ∈ lw_all := lw_g (lw_at lw_m1 103 rfl) rfl
theorem q191 : (Jvm.Cond.fieldLink "ChurchyardBook" (270 : Nat) "ChurchyardBook$Book" "graves" "Ljava/util/ArrayList;") ∈ lw_all := lw_g (lw_at lw_m1 105 rfl) rfl
theorem q193 : (Jvm.Cond.fieldLink "ChurchyardBook" (273 : Nat) "ChurchyardBook$Book" "persons" "Ljava/util/ArrayList;") ∈ lw_all := lw_g (lw_at lw_m1 107 rfl) rfl
theorem q195 : (Jvm.Cond.fieldLink "ChurchyardBook" (117 : Nat) "ChurchyardBook$Book" "today" "I") ∈ lw_all := lw_g (lw_at lw_m1 109 rfl) rfl
theorem q197 : (Jvm.Cond.fieldLink "ChurchyardBook" (276 : Nat) "ChurchyardBook$Book" "prices" "I") ∈ lw_all := lw_g (lw_at lw_m1 111 rfl) rfl
theorem q212 : (Jvm.Cond.fieldLink "ChurchyardBook" (10 : Nat) "ChurchyardBook" "tree" "LChurchyardBook$Tree;") ∈ lw_all := lw_g (lw_at lw_m1 126 rfl) rfl
theorem q214 : (Jvm.Cond.fieldLink "ChurchyardBook" (19 : Nat) "ChurchyardBook" "way" "LChurchyardBook$Way;") ∈ lw_all := lw_g (lw_at lw_m1 128 rfl) rfl
theorem q216 : (Jvm.Cond.fieldLink "ChurchyardBook" (28 : Nat) "ChurchyardBook" "book" "LChurchyardBook$Book;") ∈ lw_all := lw_g (lw_at lw_m1 130 rfl) rfl
theorem q217 : (Jvm.Cond.fieldLink "ChurchyardBook" (32 : Nat) "ChurchyardBook" "acts" "[I") ∈ lw_all := lw_g (lw_at lw_m1 131 rfl) rfl
theorem q218 : (Jvm.Cond.fieldLink "ChurchyardBook" (68 : Nat) "ChurchyardBook" "many" "I") ∈ lw_all := lw_g (lw_at lw_m1 132 rfl) rfl
theorem q219 : (Jvm.Cond.fieldLink "ChurchyardBook" (36 : Nat) "ChurchyardBook" "tape" "[I") ∈ lw_all := lw_g (lw_at lw_m1 133 rfl) rfl
theorem q220 : (Jvm.Cond.fieldLink "ChurchyardBook" (89 : Nat) "ChurchyardBook" "taped" "I") ∈ lw_all := lw_g (lw_at lw_m1 134 rfl) rfl
theorem q221 : (Jvm.Cond.fieldLink "ChurchyardBook" (92 : Nat) "ChurchyardBook" "tries" "I") ∈ lw_all := lw_g (lw_at lw_m1 135 rfl) rfl
theorem q222 : (Jvm.Cond.laysFinal "ChurchyardBook" "ChurchyardBook" "tree" "LChurchyardBook$Tree;") ∈ lw_all := lw_g (lw_at lw_m1 136 rfl) rfl
theorem q223 : (Jvm.Cond.soleField "ChurchyardBook" "tree") ∈ lw_all := lw_g (lw_at lw_m1 137 rfl) rfl
theorem q224 : (Jvm.Cond.laysFinal "ChurchyardBook" "ChurchyardBook" "way" "LChurchyardBook$Way;") ∈ lw_all := lw_g (lw_at lw_m1 138 rfl) rfl
theorem q225 : (Jvm.Cond.soleField "ChurchyardBook" "way") ∈ lw_all := lw_g (lw_at lw_m1 139 rfl) rfl
theorem q226 : (Jvm.Cond.lays "ChurchyardBook" "ChurchyardBook" "book" "LChurchyardBook$Book;") ∈ lw_all := lw_g (lw_at lw_m1 140 rfl) rfl
theorem q227 : (Jvm.Cond.soleField "ChurchyardBook" "book") ∈ lw_all := lw_g (lw_at lw_m1 141 rfl) rfl
theorem q228 : (Jvm.Cond.laysFinal "ChurchyardBook" "ChurchyardBook" "acts" "[I") ∈ lw_all := lw_g (lw_at lw_m1 142 rfl) rfl
theorem q229 : (Jvm.Cond.soleField "ChurchyardBook" "acts") ∈ lw_all := lw_g (lw_at lw_m1 143 rfl) rfl
theorem q230 : (Jvm.Cond.lays "ChurchyardBook" "ChurchyardBook" "many" "I") ∈ lw_all := lw_g (lw_at lw_m1 144 rfl) rfl
theorem q231 : (Jvm.Cond.soleField "ChurchyardBook" "many") ∈ lw_all := lw_g (lw_at lw_m1 145 rfl) rfl
theorem q232 : (Jvm.Cond.laysFinal "ChurchyardBook" "ChurchyardBook" "tape" "[I") ∈ lw_all := lw_g (lw_at lw_m1 146 rfl) rfl
theorem q233 : (Jvm.Cond.soleField "ChurchyardBook" "tape") ∈ lw_all := lw_g (lw_at lw_m1 147 rfl) rfl
theorem q234 : (Jvm.Cond.lays "ChurchyardBook" "ChurchyardBook" "taped" "I") ∈ lw_all := lw_g (lw_at lw_m1 148 rfl) rfl
theorem q235 : (Jvm.Cond.soleField "ChurchyardBook" "taped") ∈ lw_all := lw_g (lw_at lw_m1 149 rfl) rfl
theorem q236 : (Jvm.Cond.lays "ChurchyardBook" "ChurchyardBook" "tries" "I") ∈ lw_all := lw_g (lw_at lw_m1 150 rfl) rfl
theorem q237 : (Jvm.Cond.soleField "ChurchyardBook" "tries") ∈ lw_all := lw_g (lw_at lw_m1 151 rfl) rfl
theorem q238 : (Jvm.Cond.superclass "ChurchyardBook" "java/lang/Object") ∈ lw_all := lw_g (lw_at lw_m1 152 rfl) rfl
theorem q241 : (Jvm.Cond.instanceMethod ({ cls := "ChurchyardBook", name := "feed", desc := "(IIIIII)I" } : Jvm.MethodName)) ∈ lw_all := lw_g (lw_at lw_m1 155 rfl) rfl
theorem q242 : (Jvm.Cond.selects "ChurchyardBook" ({ cls := "ChurchyardBook", name := "feed", desc := "(IIIIII)I" } : Jvm.MethodName) ({ cls := "ChurchyardBook", name := "feed", desc := "(IIIIII)I" } : Jvm.MethodName)) ∈ lw_all := lw_g (lw_at lw_m1 156 rfl) rfl
theorem q243 : (Jvm.Cond.code ({ cls := "ChurchyardBook", name := "feed", desc := "(IIIIII)I" } : Jvm.MethodName) prog_1_method_9_code (7 : Nat) (Option.some Jvm.ClassFile.FieldType.int)) ∈ lw_all := lw_g (lw_at lw_m1 157 rfl) rfl
theorem q244 : (Jvm.Cond.methodLink "ChurchyardBook" (76 : Nat) ({ cls := "ChurchyardBook", name := "write", desc := "([IIIIIIII)V" } : Jvm.MethodName)) ∈ lw_all := lw_g (lw_at lw_m1 158 rfl) rfl
theorem q245 : (Jvm.Cond.static ({ cls := "ChurchyardBook", name := "write", desc := "([IIIIIIII)V" } : Jvm.MethodName)) ∈ lw_all := lw_g (lw_at lw_m1 159 rfl) rfl
theorem q246 : (Jvm.Cond.code ({ cls := "ChurchyardBook", name := "write", desc := "([IIIIIIII)V" } : Jvm.MethodName) prog_1_method_7_code (9 : Nat) (Option.none : Option Jvm.ClassFile.FieldType)) ∈ lw_all := lw_g (lw_at lw_m1 160 rfl) rfl
theorem q247 : (Jvm.Cond.methodLink "ChurchyardBook" (83 : Nat) ({ cls := "java/lang/System", name := "arraycopy", desc := "(Ljava/lang/Object;ILjava/lang/Object;II)V" } : Jvm.MethodName)) ∈ lw_all := lw_g (lw_at lw_m1 161 rfl) rfl
theorem q251 : (Jvm.Cond.instanceMethod ({ cls := "ChurchyardBook", name := "check", desc := "()I" } : Jvm.MethodName)) ∈ lw_all := lw_g (lw_at lw_m1 165 rfl) rfl
theorem q252 : (Jvm.Cond.selects "ChurchyardBook" ({ cls := "ChurchyardBook", name := "check", desc := "()I" } : Jvm.MethodName) ({ cls := "ChurchyardBook", name := "check", desc := "()I" } : Jvm.MethodName)) ∈ lw_all := lw_g (lw_at lw_m1 166 rfl) rfl
theorem q253 : (Jvm.Cond.code ({ cls := "ChurchyardBook", name := "check", desc := "()I" } : Jvm.MethodName) prog_1_method_10_code (2 : Nat) (Option.some Jvm.ClassFile.FieldType.int)) ∈ lw_all := lw_g (lw_at lw_m1 167 rfl) rfl
theorem q254 : (Jvm.Cond.methodLink "ChurchyardBook" (95 : Nat) ({ cls := "ChurchyardBook", name := "firstRefused", desc := "(LChurchyardBook$Book;[II)I" } : Jvm.MethodName)) ∈ lw_all := lw_g (lw_at lw_m1 168 rfl) rfl
theorem q255 : (Jvm.Cond.privateMethod ({ cls := "ChurchyardBook", name := "firstRefused", desc := "(LChurchyardBook$Book;[II)I" } : Jvm.MethodName)) ∈ lw_tbl := lw_at lw_m1 169 rfl
theorem q256 : (Jvm.Cond.instanceMethod ({ cls := "ChurchyardBook", name := "firstRefused", desc := "(LChurchyardBook$Book;[II)I" } : Jvm.MethodName)) ∈ lw_all := lw_g (lw_at lw_m1 170 rfl) rfl
theorem q257 : (Jvm.Cond.codeWith ({ cls := "ChurchyardBook", name := "firstRefused", desc := "(LChurchyardBook$Book;[II)I" } : Jvm.MethodName) prog_1_method_8_code (6 : Nat) (Option.some Jvm.ClassFile.FieldType.int) [((9 : Nat), (67 : Nat), (70 : Nat), (63 : Nat))]) ∈ lw_all := lw_g (lw_at lw_m1 171 rfl) rfl
theorem q258 : (Jvm.Cond.classLink "ChurchyardBook" (63 : Nat) "ChurchyardBook$Refused") ∈ lw_all := lw_g (lw_at lw_m1 172 rfl) rfl
theorem q259 : (Jvm.Cond.methodLink "ChurchyardBook" (72 : Nat) ({ cls := "ChurchyardBook$Book", name := "works", desc := "(IIIIII)I" } : Jvm.MethodName)) ∈ lw_all := lw_g (lw_at lw_m1 173 rfl) rfl
theorem q264 : (Jvm.Cond.static ({ cls := "ChurchyardBook", name := "need", desc := "(ZI)V" } : Jvm.MethodName)) ∈ lw_all := lw_g (lw_at lw_m1 178 rfl) rfl
theorem q265 : (Jvm.Cond.code ({ cls := "ChurchyardBook", name := "need", desc := "(ZI)V" } : Jvm.MethodName) prog_1_method_5_code (2 : Nat) (Option.none : Option Jvm.ClassFile.FieldType)) ∈ lw_all := lw_g (lw_at lw_m1 179 rfl) rfl
theorem q321 : (Jvm.Cond.methodLink "ChurchyardBook" (65 : Nat) ({ cls := "ChurchyardBook$Refused", name := "<init>", desc := "(I)V" } : Jvm.MethodName)) ∈ lw_all := lw_g (lw_at lw_m1 235 rfl) rfl
theorem q329 : (Jvm.Cond.fieldLink "ChurchyardBook" (80 : Nat) "ChurchyardBook$Refused" "answer" "I") ∈ lw_all := lw_g (lw_at lw_m2 3 rfl) rfl
theorem q366 : (Jvm.Cond.fieldLink "ChurchyardBook" (153 : Nat) "ChurchyardBook$Field" "rows" "[[LChurchyardBook$Place;") ∈ lw_all := lw_g (lw_at lw_m2 40 rfl) rfl
theorem q368 : (Jvm.Cond.fieldLink "ChurchyardBook" (152 : Nat) "ChurchyardBook$Field" "many" "I") ∈ lw_all := lw_g (lw_at lw_m2 42 rfl) rfl
theorem q408 : (Jvm.Cond.selects "ChurchyardBook" ({ cls := "java/lang/Object", name := "getClass", desc := "()Ljava/lang/Class;" } : Jvm.MethodName) ({ cls := "java/lang/Object", name := "getClass", desc := "()Ljava/lang/Class;" } : Jvm.MethodName)) ∈ lw_all := lw_g (lw_at lw_m2 82 rfl) rfl
theorem q490 : (Jvm.Cond.static ({ cls := "ChurchyardBook", name := "newRow", desc := "(II)[LChurchyardBook$Place;" } : Jvm.MethodName)) ∈ lw_all := lw_g (lw_at lw_m2 164 rfl) rfl
theorem q491 : (Jvm.Cond.code ({ cls := "ChurchyardBook", name := "newRow", desc := "(II)[LChurchyardBook$Place;" } : Jvm.MethodName) prog_1_method_2_code (2 : Nat) (Option.some (Jvm.ClassFile.FieldType.array (Jvm.ClassFile.FieldType.object "ChurchyardBook$Place")))) ∈ lw_all := lw_g (lw_at lw_m2 165 rfl) rfl
theorem q492 : (Jvm.Cond.classLink "ChurchyardBook" (39 : Nat) "ChurchyardBook$Place") ∈ lw_all := lw_g (lw_at lw_m2 166 rfl) rfl
theorem q493 : (Jvm.Cond.classLink "ChurchyardBook" (41 : Nat) "ChurchyardBook$Grave") ∈ lw_all := lw_g (lw_at lw_m2 167 rfl) rfl
theorem q495 : (Jvm.Cond.classLink "ChurchyardBook" (43 : Nat) "ChurchyardBook$Wall") ∈ lw_all := lw_g (lw_at lw_m2 169 rfl) rfl
theorem q497 : (Jvm.Cond.classLink "ChurchyardBook" (45 : Nat) "ChurchyardBook$Deep") ∈ lw_all := lw_g (lw_at lw_m2 171 rfl) rfl
theorem q629 : (Jvm.Cond.static ({ cls := "ChurchyardBook", name := "isWide", desc := "(II)Z" } : Jvm.MethodName)) ∈ lw_all := lw_g (lw_at lw_m3 63 rfl) rfl
theorem q630 : (Jvm.Cond.code ({ cls := "ChurchyardBook", name := "isWide", desc := "(II)Z" } : Jvm.MethodName) prog_1_method_4_code (2 : Nat) (Option.some Jvm.ClassFile.FieldType.boolean)) ∈ lw_all := lw_g (lw_at lw_m3 64 rfl) rfl
theorem q641 : (Jvm.Cond.static ({ cls := "ChurchyardBook", name := "newGrave", desc := "(IIIIIII)LChurchyardBook$Grave;" } : Jvm.MethodName)) ∈ lw_all := lw_g (lw_at lw_m3 75 rfl) rfl
theorem q642 : (Jvm.Cond.code ({ cls := "ChurchyardBook", name := "newGrave", desc := "(IIIIIII)LChurchyardBook$Grave;" } : Jvm.MethodName) prog_1_method_3_code (7 : Nat) (Option.some (Jvm.ClassFile.FieldType.object "ChurchyardBook$Grave"))) ∈ lw_all := lw_g (lw_at lw_m3 76 rfl) rfl
theorem q643 : (Jvm.Cond.classLink "ChurchyardBook" (47 : Nat) "ChurchyardBook$Single") ∈ lw_all := lw_g (lw_at lw_m3 77 rfl) rfl
theorem q645 : (Jvm.Cond.methodLink "ChurchyardBook" (49 : Nat) ({ cls := "ChurchyardBook$Single", name := "<init>", desc := "(IIIIII)V" } : Jvm.MethodName)) ∈ lw_all := lw_g (lw_at lw_m3 79 rfl) rfl
theorem q656 : (Jvm.Cond.fieldLink "ChurchyardBook" (232 : Nat) "ChurchyardBook$Grave" "number" "I") ∈ lw_all := lw_g (lw_at lw_m3 90 rfl) rfl
theorem q658 : (Jvm.Cond.fieldLink "ChurchyardBook" (200 : Nat) "ChurchyardBook$Grave" "field" "I") ∈ lw_all := lw_g (lw_at lw_m3 92 rfl) rfl
theorem q661 : (Jvm.Cond.fieldLink "ChurchyardBook" (203 : Nat) "ChurchyardBook$Grave" "row" "I") ∈ lw_all := lw_g (lw_at lw_m3 95 rfl) rfl
theorem q664 : (Jvm.Cond.fieldLink "ChurchyardBook" (205 : Nat) "ChurchyardBook$Grave" "place" "I") ∈ lw_all := lw_g (lw_at lw_m3 98 rfl) rfl
theorem q673 : (Jvm.Cond.fieldLink "ChurchyardBook" (110 : Nat) "ChurchyardBook$Grave" "state" "I") ∈ lw_all := lw_g (lw_at lw_m3 107 rfl) rfl
theorem q676 : (Jvm.Cond.fieldLink "ChurchyardBook" (183 : Nat) "ChurchyardBook$Grave" "holder" "LChurchyardBook$Person;") ∈ lw_all := lw_g (lw_at lw_m3 110 rfl) rfl
theorem q679 : (Jvm.Cond.fieldLink "ChurchyardBook" (191 : Nat) "ChurchyardBook$Grave" "to" "I") ∈ lw_all := lw_g (lw_at lw_m3 113 rfl) rfl
theorem q682 : (Jvm.Cond.fieldLink "ChurchyardBook" (194 : Nat) "ChurchyardBook$Grave" "offered" "LChurchyardBook$Person;") ∈ lw_all := lw_g (lw_at lw_m3 116 rfl) rfl
theorem q684 : (Jvm.Cond.fieldLink "ChurchyardBook" (197 : Nat) "ChurchyardBook$Grave" "date" "I") ∈ lw_all := lw_g (lw_at lw_m3 118 rfl) rfl
theorem q687 : (Jvm.Cond.fieldLink "ChurchyardBook" (265 : Nat) "ChurchyardBook$Grave" "order" "Ljava/util/ArrayList;") ∈ lw_all := lw_g (lw_at lw_m3 121 rfl) rfl
theorem q690 : (Jvm.Cond.fieldLink "ChurchyardBook" (268 : Nat) "ChurchyardBook$Grave" "at" "I") ∈ lw_all := lw_g (lw_at lw_m3 124 rfl) rfl
theorem q700 : (Jvm.Cond.fieldLink "ChurchyardBook" (208 : Nat) "ChurchyardBook$Grave" "lying" "Ljava/util/ArrayList;") ∈ lw_all := lw_g (lw_at lw_m3 134 rfl) rfl
theorem q736 : (Jvm.Cond.methodLink "ChurchyardBook" (52 : Nat) ({ cls := "ChurchyardBook$Deep", name := "<init>", desc := "(IIIIII)V" } : Jvm.MethodName)) ∈ lw_all := lw_g (lw_at lw_m3 170 rfl) rfl
theorem q757 : (Jvm.Cond.classLink "ChurchyardBook" (53 : Nat) "ChurchyardBook$Family") ∈ lw_all := lw_g (lw_at lw_m3 191 rfl) rfl
theorem q759 : (Jvm.Cond.methodLink "ChurchyardBook" (55 : Nat) ({ cls := "ChurchyardBook$Family", name := "<init>", desc := "(IIIIII)V" } : Jvm.MethodName)) ∈ lw_all := lw_g (lw_at lw_m3 193 rfl) rfl
theorem q781 : (Jvm.Cond.methodLink "ChurchyardBook" (56 : Nat) ({ cls := "ChurchyardBook$Wall", name := "<init>", desc := "(IIIIII)V" } : Jvm.MethodName)) ∈ lw_all := lw_g (lw_at lw_m3 215 rfl) rfl
theorem q802 : (Jvm.Cond.classLink "ChurchyardBook" (57 : Nat) "ChurchyardBook$Meadow") ∈ lw_all := lw_g (lw_at lw_m3 236 rfl) rfl
theorem q804 : (Jvm.Cond.methodLink "ChurchyardBook" (59 : Nat) ({ cls := "ChurchyardBook$Meadow", name := "<init>", desc := "(IIIIII)V" } : Jvm.MethodName)) ∈ lw_all := lw_g (lw_at lw_m3 238 rfl) rfl
theorem q825 : (Jvm.Cond.classLink "ChurchyardBook" (60 : Nat) "ChurchyardBook$Child") ∈ lw_all := lw_g (lw_at lw_m4 19 rfl) rfl
theorem q827 : (Jvm.Cond.methodLink "ChurchyardBook" (62 : Nat) ({ cls := "ChurchyardBook$Child", name := "<init>", desc := "(IIIIII)V" } : Jvm.MethodName)) ∈ lw_all := lw_g (lw_at lw_m4 21 rfl) rfl
theorem q864 : (Jvm.Cond.fieldLink "ChurchyardBook" (172 : Nat) "ChurchyardBook$Person" "number" "I") ∈ lw_all := lw_g (lw_at lw_m4 58 rfl) rfl
theorem q867 : (Jvm.Cond.fieldLink "ChurchyardBook" (244 : Nat) "ChurchyardBook$Person" "born" "I") ∈ lw_all := lw_g (lw_at lw_m4 61 rfl) rfl
theorem q870 : (Jvm.Cond.fieldLink "ChurchyardBook" (229 : Nat) "ChurchyardBook$Person" "isDead" "Z") ∈ lw_all := lw_g (lw_at lw_m4 64 rfl) rfl
theorem q871 : (Jvm.Cond.fieldLink "ChurchyardBook" (222 : Nat) "ChurchyardBook$Person" "isGone" "Z") ∈ lw_all := lw_g (lw_at lw_m4 65 rfl) rfl
theorem q875 : (Jvm.Cond.fieldLink "ChurchyardBook" (247 : Nat) "ChurchyardBook$Person" "wed" "LChurchyardBook$Person;") ∈ lw_all := lw_g (lw_at lw_m4 69 rfl) rfl
theorem q878 : (Jvm.Cond.fieldLink "ChurchyardBook" (250 : Nat) "ChurchyardBook$Person" "first" "LChurchyardBook$Person;") ∈ lw_all := lw_g (lw_at lw_m4 72 rfl) rfl
theorem q881 : (Jvm.Cond.fieldLink "ChurchyardBook" (253 : Nat) "ChurchyardBook$Person" "second" "LChurchyardBook$Person;") ∈ lw_all := lw_g (lw_at lw_m4 75 rfl) rfl
theorem q885 : (Jvm.Cond.fieldLink "ChurchyardBook" (242 : Nat) "ChurchyardBook$Person" "kind" "I") ∈ lw_all := lw_g (lw_at lw_m4 79 rfl) rfl
theorem q890 : (Jvm.Cond.fieldLink "ChurchyardBook" (239 : Nat) "ChurchyardBook$Person" "end" "I") ∈ lw_all := lw_g (lw_at lw_m4 84 rfl) rfl
theorem q893 : (Jvm.Cond.fieldLink "ChurchyardBook" (226 : Nat) "ChurchyardBook$Person" "grave" "LChurchyardBook$Grave;") ∈ lw_all := lw_g (lw_at lw_m4 87 rfl) rfl
theorem q897 : (Jvm.Cond.fieldLink "ChurchyardBook" (233 : Nat) "ChurchyardBook$Person" "column" "I") ∈ lw_all := lw_g (lw_at lw_m4 91 rfl) rfl
theorem q901 : (Jvm.Cond.fieldLink "ChurchyardBook" (236 : Nat) "ChurchyardBook$Person" "depth" "I") ∈ lw_all := lw_g (lw_at lw_m4 95 rfl) rfl
theorem q903 : (Jvm.Cond.fieldLink "ChurchyardBook" (256 : Nat) "ChurchyardBook$Person" "stays" "Ljava/util/ArrayList;") ∈ lw_all := lw_g (lw_at lw_m4 97 rfl) rfl
theorem q1039 : (Jvm.Cond.selects "ChurchyardBook" ({ cls := "java/lang/Object", name := "equals", desc := "(Ljava/lang/Object;)Z" } : Jvm.MethodName) ({ cls := "java/lang/Object", name := "equals", desc := "(Ljava/lang/Object;)Z" } : Jvm.MethodName)) ∈ lw_all := lw_g (lw_at lw_m4 233 rfl) rfl
theorem q1318 : (Jvm.Cond.fieldLink "ChurchyardBook" (261 : Nat) "ChurchyardBook$Stay" "day" "I") ∈ lw_all := lw_g (lw_at lw_m6 32 rfl) rfl
theorem q1320 : (Jvm.Cond.fieldLink "ChurchyardBook" (264 : Nat) "ChurchyardBook$Stay" "grave" "LChurchyardBook$Grave;") ∈ lw_all := lw_g (lw_at lw_m6 34 rfl) rfl
theorem q1434 : (Jvm.Cond.instanceMethod ({ cls := "ChurchyardBook", name := "load", desc := "()I" } : Jvm.MethodName)) ∈ lw_all := lw_g (lw_at lw_m6 148 rfl) rfl
theorem q1435 : (Jvm.Cond.selects "ChurchyardBook" ({ cls := "ChurchyardBook", name := "load", desc := "()I" } : Jvm.MethodName) ({ cls := "ChurchyardBook", name := "load", desc := "()I" } : Jvm.MethodName)) ∈ lw_all := lw_g (lw_at lw_m6 149 rfl) rfl
theorem q1436 : (Jvm.Cond.code ({ cls := "ChurchyardBook", name := "load", desc := "()I" } : Jvm.MethodName) prog_1_method_11_code (3 : Nat) (Option.some Jvm.ClassFile.FieldType.int)) ∈ lw_all := lw_g (lw_at lw_m6 150 rfl) rfl
theorem q1438 : (Jvm.Cond.instanceMethod ({ cls := "ChurchyardBook", name := "undo", desc := "()I" } : Jvm.MethodName)) ∈ lw_all := lw_g (lw_at lw_m6 152 rfl) rfl
theorem q1439 : (Jvm.Cond.selects "ChurchyardBook" ({ cls := "ChurchyardBook", name := "undo", desc := "()I" } : Jvm.MethodName) ({ cls := "ChurchyardBook", name := "undo", desc := "()I" } : Jvm.MethodName)) ∈ lw_all := lw_g (lw_at lw_m6 153 rfl) rfl
theorem q1440 : (Jvm.Cond.code ({ cls := "ChurchyardBook", name := "undo", desc := "()I" } : Jvm.MethodName) prog_1_method_12_code (2 : Nat) (Option.some Jvm.ClassFile.FieldType.int)) ∈ lw_all := lw_g (lw_at lw_m6 154 rfl) rfl
theorem q1442 : (Jvm.Cond.instanceMethod ({ cls := "ChurchyardBook", name := "act", desc := "(II)I" } : Jvm.MethodName)) ∈ lw_all := lw_g (lw_at lw_m6 156 rfl) rfl
theorem q1443 : (Jvm.Cond.selects "ChurchyardBook" ({ cls := "ChurchyardBook", name := "act", desc := "(II)I" } : Jvm.MethodName) ({ cls := "ChurchyardBook", name := "act", desc := "(II)I" } : Jvm.MethodName)) ∈ lw_all := lw_g (lw_at lw_m6 157 rfl) rfl
theorem q1444 : (Jvm.Cond.code ({ cls := "ChurchyardBook", name := "act", desc := "(II)I" } : Jvm.MethodName) prog_1_method_13_code (3 : Nat) (Option.some Jvm.ClassFile.FieldType.int)) ∈ lw_all := lw_g (lw_at lw_m6 158 rfl) rfl
theorem q1446 : (Jvm.Cond.instanceMethod ({ cls := "ChurchyardBook", name := "field", desc := "(I)I" } : Jvm.MethodName)) ∈ lw_all := lw_g (lw_at lw_m6 160 rfl) rfl
theorem q1447 : (Jvm.Cond.selects "ChurchyardBook" ({ cls := "ChurchyardBook", name := "field", desc := "(I)I" } : Jvm.MethodName) ({ cls := "ChurchyardBook", name := "field", desc := "(I)I" } : Jvm.MethodName)) ∈ lw_all := lw_g (lw_at lw_m6 161 rfl) rfl
theorem q1448 : (Jvm.Cond.code ({ cls := "ChurchyardBook", name := "field", desc := "(I)I" } : Jvm.MethodName) prog_1_method_14_code (2 : Nat) (Option.some Jvm.ClassFile.FieldType.int)) ∈ lw_all := lw_g (lw_at lw_m6 162 rfl) rfl
theorem q1449 : (Jvm.Cond.methodLink "ChurchyardBook" (99 : Nat) ({ cls := "ChurchyardBook", name := "does", desc := "(IIIIII)I" } : Jvm.MethodName)) ∈ lw_all := lw_g (lw_at lw_m6 163 rfl) rfl
theorem q1450 : (Jvm.Cond.privateMethod ({ cls := "ChurchyardBook", name := "does", desc := "(IIIIII)I" } : Jvm.MethodName)) ∈ lw_tbl := lw_at lw_m6 164 rfl
theorem q1451 : (Jvm.Cond.instanceMethod ({ cls := "ChurchyardBook", name := "does", desc := "(IIIIII)I" } : Jvm.MethodName)) ∈ lw_all := lw_g (lw_at lw_m6 165 rfl) rfl
theorem q1452 : (Jvm.Cond.codeWith ({ cls := "ChurchyardBook", name := "does", desc := "(IIIIII)I" } : Jvm.MethodName) prog_1_method_6_code (8 : Nat) (Option.some Jvm.ClassFile.FieldType.int) [((13 : Nat), (63 : Nat), (64 : Nat), (63 : Nat))]) ∈ lw_all := lw_g (lw_at lw_m6 166 rfl) rfl
theorem q1454 : (Jvm.Cond.instanceMethod ({ cls := "ChurchyardBook", name := "row", desc := "(III)I" } : Jvm.MethodName)) ∈ lw_all := lw_g (lw_at lw_m6 168 rfl) rfl
theorem q1455 : (Jvm.Cond.selects "ChurchyardBook" ({ cls := "ChurchyardBook", name := "row", desc := "(III)I" } : Jvm.MethodName) ({ cls := "ChurchyardBook", name := "row", desc := "(III)I" } : Jvm.MethodName)) ∈ lw_all := lw_g (lw_at lw_m6 169 rfl) rfl
theorem q1456 : (Jvm.Cond.code ({ cls := "ChurchyardBook", name := "row", desc := "(III)I" } : Jvm.MethodName) prog_1_method_15_code (4 : Nat) (Option.some Jvm.ClassFile.FieldType.int)) ∈ lw_all := lw_g (lw_at lw_m6 170 rfl) rfl
theorem q1458 : (Jvm.Cond.instanceMethod ({ cls := "ChurchyardBook", name := "tear", desc := "(II)I" } : Jvm.MethodName)) ∈ lw_all := lw_g (lw_at lw_m6 172 rfl) rfl
theorem q1459 : (Jvm.Cond.selects "ChurchyardBook" ({ cls := "ChurchyardBook", name := "tear", desc := "(II)I" } : Jvm.MethodName) ({ cls := "ChurchyardBook", name := "tear", desc := "(II)I" } : Jvm.MethodName)) ∈ lw_all := lw_g (lw_at lw_m6 173 rfl) rfl
theorem q1460 : (Jvm.Cond.code ({ cls := "ChurchyardBook", name := "tear", desc := "(II)I" } : Jvm.MethodName) prog_1_method_16_code (3 : Nat) (Option.some Jvm.ClassFile.FieldType.int)) ∈ lw_all := lw_g (lw_at lw_m6 174 rfl) rfl
theorem q1462 : (Jvm.Cond.instanceMethod ({ cls := "ChurchyardBook", name := "place", desc := "(IIII)I" } : Jvm.MethodName)) ∈ lw_all := lw_g (lw_at lw_m6 176 rfl) rfl
theorem q1463 : (Jvm.Cond.selects "ChurchyardBook" ({ cls := "ChurchyardBook", name := "place", desc := "(IIII)I" } : Jvm.MethodName) ({ cls := "ChurchyardBook", name := "place", desc := "(IIII)I" } : Jvm.MethodName)) ∈ lw_all := lw_g (lw_at lw_m6 177 rfl) rfl
theorem q1464 : (Jvm.Cond.code ({ cls := "ChurchyardBook", name := "place", desc := "(IIII)I" } : Jvm.MethodName) prog_1_method_17_code (5 : Nat) (Option.some Jvm.ClassFile.FieldType.int)) ∈ lw_all := lw_g (lw_at lw_m6 178 rfl) rfl
theorem q1466 : (Jvm.Cond.instanceMethod ({ cls := "ChurchyardBook", name := "grave", desc := "(IIIII)I" } : Jvm.MethodName)) ∈ lw_all := lw_g (lw_at lw_m6 180 rfl) rfl
theorem q1467 : (Jvm.Cond.selects "ChurchyardBook" ({ cls := "ChurchyardBook", name := "grave", desc := "(IIIII)I" } : Jvm.MethodName) ({ cls := "ChurchyardBook", name := "grave", desc := "(IIIII)I" } : Jvm.MethodName)) ∈ lw_all := lw_g (lw_at lw_m6 181 rfl) rfl
theorem q1468 : (Jvm.Cond.code ({ cls := "ChurchyardBook", name := "grave", desc := "(IIIII)I" } : Jvm.MethodName) prog_1_method_18_code (6 : Nat) (Option.some Jvm.ClassFile.FieldType.int)) ∈ lw_all := lw_g (lw_at lw_m6 182 rfl) rfl
theorem q1470 : (Jvm.Cond.instanceMethod ({ cls := "ChurchyardBook", name := "person", desc := "(I)I" } : Jvm.MethodName)) ∈ lw_all := lw_g (lw_at lw_m6 184 rfl) rfl
theorem q1471 : (Jvm.Cond.selects "ChurchyardBook" ({ cls := "ChurchyardBook", name := "person", desc := "(I)I" } : Jvm.MethodName) ({ cls := "ChurchyardBook", name := "person", desc := "(I)I" } : Jvm.MethodName)) ∈ lw_all := lw_g (lw_at lw_m6 185 rfl) rfl
theorem q1472 : (Jvm.Cond.code ({ cls := "ChurchyardBook", name := "person", desc := "(I)I" } : Jvm.MethodName) prog_1_method_19_code (2 : Nat) (Option.some Jvm.ClassFile.FieldType.int)) ∈ lw_all := lw_g (lw_at lw_m6 186 rfl) rfl
theorem q1474 : (Jvm.Cond.instanceMethod ({ cls := "ChurchyardBook", name := "kin", desc := "(III)I" } : Jvm.MethodName)) ∈ lw_all := lw_g (lw_at lw_m6 188 rfl) rfl
theorem q1475 : (Jvm.Cond.selects "ChurchyardBook" ({ cls := "ChurchyardBook", name := "kin", desc := "(III)I" } : Jvm.MethodName) ({ cls := "ChurchyardBook", name := "kin", desc := "(III)I" } : Jvm.MethodName)) ∈ lw_all := lw_g (lw_at lw_m6 189 rfl) rfl
theorem q1476 : (Jvm.Cond.code ({ cls := "ChurchyardBook", name := "kin", desc := "(III)I" } : Jvm.MethodName) prog_1_method_20_code (4 : Nat) (Option.some Jvm.ClassFile.FieldType.int)) ∈ lw_all := lw_g (lw_at lw_m6 190 rfl) rfl
theorem q1478 : (Jvm.Cond.instanceMethod ({ cls := "ChurchyardBook", name := "paper", desc := "(II)I" } : Jvm.MethodName)) ∈ lw_all := lw_g (lw_at lw_m6 192 rfl) rfl
theorem q1479 : (Jvm.Cond.selects "ChurchyardBook" ({ cls := "ChurchyardBook", name := "paper", desc := "(II)I" } : Jvm.MethodName) ({ cls := "ChurchyardBook", name := "paper", desc := "(II)I" } : Jvm.MethodName)) ∈ lw_all := lw_g (lw_at lw_m6 193 rfl) rfl
theorem q1480 : (Jvm.Cond.code ({ cls := "ChurchyardBook", name := "paper", desc := "(II)I" } : Jvm.MethodName) prog_1_method_21_code (3 : Nat) (Option.some Jvm.ClassFile.FieldType.int)) ∈ lw_all := lw_g (lw_at lw_m6 194 rfl) rfl
theorem q1482 : (Jvm.Cond.instanceMethod ({ cls := "ChurchyardBook", name := "right", desc := "(III)I" } : Jvm.MethodName)) ∈ lw_all := lw_g (lw_at lw_m6 196 rfl) rfl
theorem q1483 : (Jvm.Cond.selects "ChurchyardBook" ({ cls := "ChurchyardBook", name := "right", desc := "(III)I" } : Jvm.MethodName) ({ cls := "ChurchyardBook", name := "right", desc := "(III)I" } : Jvm.MethodName)) ∈ lw_all := lw_g (lw_at lw_m6 197 rfl) rfl
theorem q1484 : (Jvm.Cond.code ({ cls := "ChurchyardBook", name := "right", desc := "(III)I" } : Jvm.MethodName) prog_1_method_22_code (4 : Nat) (Option.some Jvm.ClassFile.FieldType.int)) ∈ lw_all := lw_g (lw_at lw_m6 198 rfl) rfl
theorem q1486 : (Jvm.Cond.instanceMethod ({ cls := "ChurchyardBook", name := "longer", desc := "(II)I" } : Jvm.MethodName)) ∈ lw_all := lw_g (lw_at lw_m6 200 rfl) rfl
theorem q1487 : (Jvm.Cond.selects "ChurchyardBook" ({ cls := "ChurchyardBook", name := "longer", desc := "(II)I" } : Jvm.MethodName) ({ cls := "ChurchyardBook", name := "longer", desc := "(II)I" } : Jvm.MethodName)) ∈ lw_all := lw_g (lw_at lw_m6 201 rfl) rfl
theorem q1488 : (Jvm.Cond.code ({ cls := "ChurchyardBook", name := "longer", desc := "(II)I" } : Jvm.MethodName) prog_1_method_23_code (3 : Nat) (Option.some Jvm.ClassFile.FieldType.int)) ∈ lw_all := lw_g (lw_at lw_m6 202 rfl) rfl
theorem q1490 : (Jvm.Cond.instanceMethod ({ cls := "ChurchyardBook", name := "agree", desc := "(III)I" } : Jvm.MethodName)) ∈ lw_all := lw_g (lw_at lw_m6 204 rfl) rfl
theorem q1491 : (Jvm.Cond.selects "ChurchyardBook" ({ cls := "ChurchyardBook", name := "agree", desc := "(III)I" } : Jvm.MethodName) ({ cls := "ChurchyardBook", name := "agree", desc := "(III)I" } : Jvm.MethodName)) ∈ lw_all := lw_g (lw_at lw_m6 205 rfl) rfl
theorem q1492 : (Jvm.Cond.code ({ cls := "ChurchyardBook", name := "agree", desc := "(III)I" } : Jvm.MethodName) prog_1_method_24_code (4 : Nat) (Option.some Jvm.ClassFile.FieldType.int)) ∈ lw_all := lw_g (lw_at lw_m6 206 rfl) rfl
theorem q1494 : (Jvm.Cond.instanceMethod ({ cls := "ChurchyardBook", name := "dies", desc := "(I)I" } : Jvm.MethodName)) ∈ lw_all := lw_g (lw_at lw_m6 208 rfl) rfl
theorem q1495 : (Jvm.Cond.selects "ChurchyardBook" ({ cls := "ChurchyardBook", name := "dies", desc := "(I)I" } : Jvm.MethodName) ({ cls := "ChurchyardBook", name := "dies", desc := "(I)I" } : Jvm.MethodName)) ∈ lw_all := lw_g (lw_at lw_m6 209 rfl) rfl
theorem q1496 : (Jvm.Cond.code ({ cls := "ChurchyardBook", name := "dies", desc := "(I)I" } : Jvm.MethodName) prog_1_method_25_code (2 : Nat) (Option.some Jvm.ClassFile.FieldType.int)) ∈ lw_all := lw_g (lw_at lw_m6 210 rfl) rfl
theorem q1498 : (Jvm.Cond.instanceMethod ({ cls := "ChurchyardBook", name := "takes", desc := "(I)I" } : Jvm.MethodName)) ∈ lw_all := lw_g (lw_at lw_m6 212 rfl) rfl
theorem q1499 : (Jvm.Cond.selects "ChurchyardBook" ({ cls := "ChurchyardBook", name := "takes", desc := "(I)I" } : Jvm.MethodName) ({ cls := "ChurchyardBook", name := "takes", desc := "(I)I" } : Jvm.MethodName)) ∈ lw_all := lw_g (lw_at lw_m6 213 rfl) rfl
theorem q1500 : (Jvm.Cond.code ({ cls := "ChurchyardBook", name := "takes", desc := "(I)I" } : Jvm.MethodName) prog_1_method_26_code (2 : Nat) (Option.some Jvm.ClassFile.FieldType.int)) ∈ lw_all := lw_g (lw_at lw_m6 214 rfl) rfl
theorem q1502 : (Jvm.Cond.instanceMethod ({ cls := "ChurchyardBook", name := "refuses", desc := "(I)I" } : Jvm.MethodName)) ∈ lw_all := lw_g (lw_at lw_m6 216 rfl) rfl
theorem q1503 : (Jvm.Cond.selects "ChurchyardBook" ({ cls := "ChurchyardBook", name := "refuses", desc := "(I)I" } : Jvm.MethodName) ({ cls := "ChurchyardBook", name := "refuses", desc := "(I)I" } : Jvm.MethodName)) ∈ lw_all := lw_g (lw_at lw_m6 217 rfl) rfl
theorem q1504 : (Jvm.Cond.code ({ cls := "ChurchyardBook", name := "refuses", desc := "(I)I" } : Jvm.MethodName) prog_1_method_27_code (2 : Nat) (Option.some Jvm.ClassFile.FieldType.int)) ∈ lw_all := lw_g (lw_at lw_m6 218 rfl) rfl
theorem q1506 : (Jvm.Cond.instanceMethod ({ cls := "ChurchyardBook", name := "bury", desc := "(IIII)I" } : Jvm.MethodName)) ∈ lw_all := lw_g (lw_at lw_m6 220 rfl) rfl
theorem q1507 : (Jvm.Cond.selects "ChurchyardBook" ({ cls := "ChurchyardBook", name := "bury", desc := "(IIII)I" } : Jvm.MethodName) ({ cls := "ChurchyardBook", name := "bury", desc := "(IIII)I" } : Jvm.MethodName)) ∈ lw_all := lw_g (lw_at lw_m6 221 rfl) rfl
theorem q1508 : (Jvm.Cond.code ({ cls := "ChurchyardBook", name := "bury", desc := "(IIII)I" } : Jvm.MethodName) prog_1_method_28_code (5 : Nat) (Option.some Jvm.ClassFile.FieldType.int)) ∈ lw_all := lw_g (lw_at lw_m6 222 rfl) rfl
theorem q1510 : (Jvm.Cond.instanceMethod ({ cls := "ChurchyardBook", name := "move", desc := "(IIII)I" } : Jvm.MethodName)) ∈ lw_all := lw_g (lw_at lw_m6 224 rfl) rfl
theorem q1511 : (Jvm.Cond.selects "ChurchyardBook" ({ cls := "ChurchyardBook", name := "move", desc := "(IIII)I" } : Jvm.MethodName) ({ cls := "ChurchyardBook", name := "move", desc := "(IIII)I" } : Jvm.MethodName)) ∈ lw_all := lw_g (lw_at lw_m6 225 rfl) rfl
theorem q1512 : (Jvm.Cond.code ({ cls := "ChurchyardBook", name := "move", desc := "(IIII)I" } : Jvm.MethodName) prog_1_method_29_code (5 : Nat) (Option.some Jvm.ClassFile.FieldType.int)) ∈ lw_all := lw_g (lw_at lw_m6 226 rfl) rfl
theorem q1514 : (Jvm.Cond.instanceMethod ({ cls := "ChurchyardBook", name := "clear", desc := "(I)I" } : Jvm.MethodName)) ∈ lw_all := lw_g (lw_at lw_m6 228 rfl) rfl
theorem q1515 : (Jvm.Cond.selects "ChurchyardBook" ({ cls := "ChurchyardBook", name := "clear", desc := "(I)I" } : Jvm.MethodName) ({ cls := "ChurchyardBook", name := "clear", desc := "(I)I" } : Jvm.MethodName)) ∈ lw_all := lw_g (lw_at lw_m6 229 rfl) rfl
theorem q1516 : (Jvm.Cond.code ({ cls := "ChurchyardBook", name := "clear", desc := "(I)I" } : Jvm.MethodName) prog_1_method_30_code (2 : Nat) (Option.some Jvm.ClassFile.FieldType.int)) ∈ lw_all := lw_g (lw_at lw_m6 230 rfl) rfl
theorem q1518 : (Jvm.Cond.instanceMethod ({ cls := "ChurchyardBook", name := "turn", desc := "(I)I" } : Jvm.MethodName)) ∈ lw_all := lw_g (lw_at lw_m6 232 rfl) rfl
theorem q1519 : (Jvm.Cond.selects "ChurchyardBook" ({ cls := "ChurchyardBook", name := "turn", desc := "(I)I" } : Jvm.MethodName) ({ cls := "ChurchyardBook", name := "turn", desc := "(I)I" } : Jvm.MethodName)) ∈ lw_all := lw_g (lw_at lw_m6 233 rfl) rfl
theorem q1520 : (Jvm.Cond.code ({ cls := "ChurchyardBook", name := "turn", desc := "(I)I" } : Jvm.MethodName) prog_1_method_31_code (2 : Nat) (Option.some Jvm.ClassFile.FieldType.int)) ∈ lw_all := lw_g (lw_at lw_m6 234 rfl) rfl
theorem q1522 : (Jvm.Cond.instanceMethod ({ cls := "ChurchyardBook", name := "why", desc := "(IIII)I" } : Jvm.MethodName)) ∈ lw_all := lw_g (lw_at lw_m6 236 rfl) rfl
theorem q1523 : (Jvm.Cond.selects "ChurchyardBook" ({ cls := "ChurchyardBook", name := "why", desc := "(IIII)I" } : Jvm.MethodName) ({ cls := "ChurchyardBook", name := "why", desc := "(IIII)I" } : Jvm.MethodName)) ∈ lw_all := lw_g (lw_at lw_m6 237 rfl) rfl
theorem q1524 : (Jvm.Cond.code ({ cls := "ChurchyardBook", name := "why", desc := "(IIII)I" } : Jvm.MethodName) prog_1_method_32_code (5 : Nat) (Option.some Jvm.ClassFile.FieldType.int)) ∈ lw_all := lw_g (lw_at lw_m6 238 rfl) rfl
theorem q1525 : (Jvm.Cond.methodLink "ChurchyardBook" (102 : Nat) ({ cls := "ChurchyardBook$Book", name := "why", desc := "(IIII)I" } : Jvm.MethodName)) ∈ lw_all := lw_g (lw_at lw_m6 239 rfl) rfl
theorem q1527 : (Jvm.Cond.instanceMethod ({ cls := "ChurchyardBook", name := "plan", desc := "(III)I" } : Jvm.MethodName)) ∈ lw_all := lw_g (lw_at lw_m7 1 rfl) rfl
theorem q1528 : (Jvm.Cond.selects "ChurchyardBook" ({ cls := "ChurchyardBook", name := "plan", desc := "(III)I" } : Jvm.MethodName) ({ cls := "ChurchyardBook", name := "plan", desc := "(III)I" } : Jvm.MethodName)) ∈ lw_all := lw_g (lw_at lw_m7 2 rfl) rfl
theorem q1529 : (Jvm.Cond.code ({ cls := "ChurchyardBook", name := "plan", desc := "(III)I" } : Jvm.MethodName) prog_1_method_33_code (5 : Nat) (Option.some Jvm.ClassFile.FieldType.int)) ∈ lw_all := lw_g (lw_at lw_m7 3 rfl) rfl
theorem q1530 : (Jvm.Cond.methodLink "ChurchyardBook" (106 : Nat) ({ cls := "ChurchyardBook$Book", name := "grave", desc := "(I)LChurchyardBook$Grave;" } : Jvm.MethodName)) ∈ lw_all := lw_g (lw_at lw_m7 4 rfl) rfl
theorem q1531 : (Jvm.Cond.methodLink "ChurchyardBook" (124 : Nat) ({ cls := "ChurchyardBook$Grave", name := "plan", desc := "(III)I" } : Jvm.MethodName)) ∈ lw_all := lw_g (lw_at lw_m7 5 rfl) rfl
theorem q1590 : (Jvm.Cond.instanceMethod ({ cls := "ChurchyardBook", name := "free", desc := "(III)I" } : Jvm.MethodName)) ∈ lw_all := lw_g (lw_at lw_m7 64 rfl) rfl
theorem q1591 : (Jvm.Cond.selects "ChurchyardBook" ({ cls := "ChurchyardBook", name := "free", desc := "(III)I" } : Jvm.MethodName) ({ cls := "ChurchyardBook", name := "free", desc := "(III)I" } : Jvm.MethodName)) ∈ lw_all := lw_g (lw_at lw_m7 65 rfl) rfl
theorem q1592 : (Jvm.Cond.code ({ cls := "ChurchyardBook", name := "free", desc := "(III)I" } : Jvm.MethodName) prog_1_method_34_code (11 : Nat) (Option.some Jvm.ClassFile.FieldType.int)) ∈ lw_all := lw_g (lw_at lw_m7 66 rfl) rfl
theorem q1593 : (Jvm.Cond.methodLink "ChurchyardBook" (128 : Nat) ({ cls := "ChurchyardBook", name := "isWide", desc := "(II)Z" } : Jvm.MethodName)) ∈ lw_all := lw_g (lw_at lw_m7 67 rfl) rfl
theorem q1594 : (Jvm.Cond.methodLink "ChurchyardBook" (132 : Nat) ({ cls := "ChurchyardBook", name := "newGrave", desc := "(IIIIIII)LChurchyardBook$Grave;" } : Jvm.MethodName)) ∈ lw_all := lw_g (lw_at lw_m7 68 rfl) rfl
theorem q1595 : (Jvm.Cond.methodLink "ChurchyardBook" (140 : Nat) ({ cls := "java/util/ArrayList", name := "size", desc := "()I" } : Jvm.MethodName)) ∈ lw_all := lw_g (lw_at lw_m7 69 rfl) rfl
theorem q1596 : (Jvm.Cond.methodLink "ChurchyardBook" (146 : Nat) ({ cls := "java/util/ArrayList", name := "get", desc := "(I)Ljava/lang/Object;" } : Jvm.MethodName)) ∈ lw_all := lw_g (lw_at lw_m7 70 rfl) rfl
theorem q1597 : (Jvm.Cond.classLink "ChurchyardBook" (150 : Nat) "ChurchyardBook$Field") ∈ lw_all := lw_g (lw_at lw_m7 71 rfl) rfl
theorem q1598 : (Jvm.Cond.methodLink "ChurchyardBook" (157 : Nat) ({ cls := "ChurchyardBook$Book", name := "isFree", desc := "([LChurchyardBook$Place;IIILChurchyardBook$Grave;)Z" } : Jvm.MethodName)) ∈ lw_all := lw_g (lw_at lw_m7 72 rfl) rfl
theorem q1612 : (Jvm.Cond.instanceMethod ({ cls := "ChurchyardBook", name := "spot", desc := "(III)I" } : Jvm.MethodName)) ∈ lw_all := lw_g (lw_at lw_m7 86 rfl) rfl
theorem q1613 : (Jvm.Cond.selects "ChurchyardBook" ({ cls := "ChurchyardBook", name := "spot", desc := "(III)I" } : Jvm.MethodName) ({ cls := "ChurchyardBook", name := "spot", desc := "(III)I" } : Jvm.MethodName)) ∈ lw_all := lw_g (lw_at lw_m7 87 rfl) rfl
theorem q1614 : (Jvm.Cond.codeWith ({ cls := "ChurchyardBook", name := "spot", desc := "(III)I" } : Jvm.MethodName) prog_1_method_35_code (5 : Nat) (Option.some Jvm.ClassFile.FieldType.int) [((0 : Nat), (33 : Nat), (34 : Nat), (63 : Nat))]) ∈ lw_all := lw_g (lw_at lw_m7 88 rfl) rfl
theorem q1615 : (Jvm.Cond.methodLink "ChurchyardBook" (161 : Nat) ({ cls := "ChurchyardBook$Book", name := "row", desc := "(II)[LChurchyardBook$Place;" } : Jvm.MethodName)) ∈ lw_all := lw_g (lw_at lw_m7 89 rfl) rfl
theorem q1616 : (Jvm.Cond.methodLink "ChurchyardBook" (165 : Nat) ({ cls := "ChurchyardBook$Book", name := "at", desc := "([LChurchyardBook$Place;I)LChurchyardBook$Place;" } : Jvm.MethodName)) ∈ lw_all := lw_g (lw_at lw_m7 90 rfl) rfl
theorem q1617 : (Jvm.Cond.methodLink "ChurchyardBook" (169 : Nat) ({ cls := "ChurchyardBook$Place", name := "what", desc := "()I" } : Jvm.MethodName)) ∈ lw_all := lw_g (lw_at lw_m7 91 rfl) rfl
theorem q1635 : (Jvm.Cond.instanceMethod ({ cls := "ChurchyardBook", name := "who", desc := "(III)I" } : Jvm.MethodName)) ∈ lw_all := lw_g (lw_at lw_m7 109 rfl) rfl
theorem q1636 : (Jvm.Cond.selects "ChurchyardBook" ({ cls := "ChurchyardBook", name := "who", desc := "(III)I" } : Jvm.MethodName) ({ cls := "ChurchyardBook", name := "who", desc := "(III)I" } : Jvm.MethodName)) ∈ lw_all := lw_g (lw_at lw_m7 110 rfl) rfl
theorem q1637 : (Jvm.Cond.code ({ cls := "ChurchyardBook", name := "who", desc := "(III)I" } : Jvm.MethodName) prog_1_method_38_code (5 : Nat) (Option.some Jvm.ClassFile.FieldType.int)) ∈ lw_all := lw_g (lw_at lw_m7 111 rfl) rfl
theorem q1638 : (Jvm.Cond.classLink "ChurchyardBook" (173 : Nat) "ChurchyardBook$Person") ∈ lw_all := lw_g (lw_at lw_m7 112 rfl) rfl
theorem q1639 : (Jvm.Cond.methodLink "ChurchyardBook" (214 : Nat) ({ cls := "ChurchyardBook$Grave", name := "in", desc := "(II)LChurchyardBook$Person;" } : Jvm.MethodName)) ∈ lw_all := lw_g (lw_at lw_m7 113 rfl) rfl
theorem q1640 : (Jvm.Cond.methodLink "ChurchyardBook" (187 : Nat) ({ cls := "ChurchyardBook", name := "numberOf", desc := "(LChurchyardBook$Person;)I" } : Jvm.MethodName)) ∈ lw_all := lw_g (lw_at lw_m7 114 rfl) rfl
theorem q1641 : (Jvm.Cond.static ({ cls := "ChurchyardBook", name := "numberOf", desc := "(LChurchyardBook$Person;)I" } : Jvm.MethodName)) ∈ lw_all := lw_g (lw_at lw_m7 115 rfl) rfl
theorem q1642 : (Jvm.Cond.code ({ cls := "ChurchyardBook", name := "numberOf", desc := "(LChurchyardBook$Person;)I" } : Jvm.MethodName) prog_1_method_36_code (1 : Nat) (Option.some Jvm.ClassFile.FieldType.int)) ∈ lw_all := lw_g (lw_at lw_m7 116 rfl) rfl
theorem q1644 : (Jvm.Cond.instanceMethod ({ cls := "ChurchyardBook", name := "where", desc := "(II)I" } : Jvm.MethodName)) ∈ lw_all := lw_g (lw_at lw_m7 118 rfl) rfl
theorem q1645 : (Jvm.Cond.selects "ChurchyardBook" ({ cls := "ChurchyardBook", name := "where", desc := "(II)I" } : Jvm.MethodName) ({ cls := "ChurchyardBook", name := "where", desc := "(II)I" } : Jvm.MethodName)) ∈ lw_all := lw_g (lw_at lw_m7 119 rfl) rfl
theorem q1646 : (Jvm.Cond.code ({ cls := "ChurchyardBook", name := "where", desc := "(II)I" } : Jvm.MethodName) prog_1_method_40_code (6 : Nat) (Option.some Jvm.ClassFile.FieldType.int)) ∈ lw_all := lw_g (lw_at lw_m7 120 rfl) rfl
theorem q1647 : (Jvm.Cond.methodLink "ChurchyardBook" (218 : Nat) ({ cls := "ChurchyardBook$Book", name := "person", desc := "(I)LChurchyardBook$Person;" } : Jvm.MethodName)) ∈ lw_all := lw_g (lw_at lw_m7 121 rfl) rfl
theorem q1648 : (Jvm.Cond.classLink "ChurchyardBook" (259 : Nat) "ChurchyardBook$Stay") ∈ lw_all := lw_g (lw_at lw_m7 122 rfl) rfl
theorem q1650 : (Jvm.Cond.instanceMethod ({ cls := "ChurchyardBook", name := "order", desc := "(II)I" } : Jvm.MethodName)) ∈ lw_all := lw_g (lw_at lw_m7 124 rfl) rfl
theorem q1651 : (Jvm.Cond.selects "ChurchyardBook" ({ cls := "ChurchyardBook", name := "order", desc := "(II)I" } : Jvm.MethodName) ({ cls := "ChurchyardBook", name := "order", desc := "(II)I" } : Jvm.MethodName)) ∈ lw_all := lw_g (lw_at lw_m7 125 rfl) rfl
theorem q1652 : (Jvm.Cond.code ({ cls := "ChurchyardBook", name := "order", desc := "(II)I" } : Jvm.MethodName) prog_1_method_41_code (4 : Nat) (Option.some Jvm.ClassFile.FieldType.int)) ∈ lw_all := lw_g (lw_at lw_m7 126 rfl) rfl
theorem q1654 : (Jvm.Cond.instanceMethod ({ cls := "ChurchyardBook", name := "count", desc := "(I)I" } : Jvm.MethodName)) ∈ lw_all := lw_g (lw_at lw_m7 128 rfl) rfl
theorem q1655 : (Jvm.Cond.selects "ChurchyardBook" ({ cls := "ChurchyardBook", name := "count", desc := "(I)I" } : Jvm.MethodName) ({ cls := "ChurchyardBook", name := "count", desc := "(I)I" } : Jvm.MethodName)) ∈ lw_all := lw_g (lw_at lw_m7 129 rfl) rfl
theorem q1656 : (Jvm.Cond.code ({ cls := "ChurchyardBook", name := "count", desc := "(I)I" } : Jvm.MethodName) prog_1_method_44_code (2 : Nat) (Option.some Jvm.ClassFile.FieldType.int)) ∈ lw_all := lw_g (lw_at lw_m7 130 rfl) rfl
theorem q1657 : (Jvm.Cond.methodLink "ChurchyardBook" (279 : Nat) ({ cls := "ChurchyardBook", name := "persons", desc := "(Z)I" } : Jvm.MethodName)) ∈ lw_all := lw_g (lw_at lw_m7 131 rfl) rfl
theorem q1658 : (Jvm.Cond.privateMethod ({ cls := "ChurchyardBook", name := "persons", desc := "(Z)I" } : Jvm.MethodName)) ∈ lw_tbl := lw_at lw_m7 132 rfl
theorem q1659 : (Jvm.Cond.instanceMethod ({ cls := "ChurchyardBook", name := "persons", desc := "(Z)I" } : Jvm.MethodName)) ∈ lw_all := lw_g (lw_at lw_m7 133 rfl) rfl
theorem q1660 : (Jvm.Cond.code ({ cls := "ChurchyardBook", name := "persons", desc := "(Z)I" } : Jvm.MethodName) prog_1_method_43_code (4 : Nat) (Option.some Jvm.ClassFile.FieldType.int)) ∈ lw_all := lw_g (lw_at lw_m7 134 rfl) rfl
theorem q1661 : (Jvm.Cond.methodLink "ChurchyardBook" (282 : Nat) ({ cls := "ChurchyardBook", name := "states", desc := "(I)I" } : Jvm.MethodName)) ∈ lw_all := lw_g (lw_at lw_m7 135 rfl) rfl
theorem q1662 : (Jvm.Cond.privateMethod ({ cls := "ChurchyardBook", name := "states", desc := "(I)I" } : Jvm.MethodName)) ∈ lw_tbl := lw_at lw_m7 136 rfl
theorem q1663 : (Jvm.Cond.instanceMethod ({ cls := "ChurchyardBook", name := "states", desc := "(I)I" } : Jvm.MethodName)) ∈ lw_all := lw_g (lw_at lw_m7 137 rfl) rfl
theorem q1664 : (Jvm.Cond.code ({ cls := "ChurchyardBook", name := "states", desc := "(I)I" } : Jvm.MethodName) prog_1_method_42_code (4 : Nat) (Option.some Jvm.ClassFile.FieldType.int)) ∈ lw_all := lw_g (lw_at lw_m7 138 rfl) rfl
theorem q1670 : (Jvm.Cond.instanceMethod ({ cls := "ChurchyardBook", name := "look", desc := "(II)I" } : Jvm.MethodName)) ∈ lw_all := lw_g (lw_at lw_m7 144 rfl) rfl
theorem q1671 : (Jvm.Cond.selects "ChurchyardBook" ({ cls := "ChurchyardBook", name := "look", desc := "(II)I" } : Jvm.MethodName) ({ cls := "ChurchyardBook", name := "look", desc := "(II)I" } : Jvm.MethodName)) ∈ lw_all := lw_g (lw_at lw_m7 145 rfl) rfl
theorem q1672 : (Jvm.Cond.code ({ cls := "ChurchyardBook", name := "look", desc := "(II)I" } : Jvm.MethodName) prog_1_method_37_code (4 : Nat) (Option.some Jvm.ClassFile.FieldType.int)) ∈ lw_all := lw_g (lw_at lw_m7 146 rfl) rfl
theorem q1673 : (Jvm.Cond.classLink "ChurchyardBook" (177 : Nat) "java/util/NoSuchElementException") ∈ lw_all := lw_g (lw_at lw_m7 147 rfl) rfl
theorem q1682 : (Jvm.Cond.methodLink "ChurchyardBook" (179 : Nat) ({ cls := "java/util/NoSuchElementException", name := "<init>", desc := "()V" } : Jvm.MethodName)) ∈ lw_all := lw_g (lw_at lw_m7 156 rfl) rfl
theorem q1688 : (Jvm.Cond.methodLink "ChurchyardBook" (180 : Nat) ({ cls := "ChurchyardBook$Grave", name := "kind", desc := "()I" } : Jvm.MethodName)) ∈ lw_all := lw_g (lw_at lw_m7 162 rfl) rfl
theorem q1689 : (Jvm.Cond.methodLink "ChurchyardBook" (211 : Nat) ({ cls := "ChurchyardBook$Grave", name := "greatestEnd", desc := "()I" } : Jvm.MethodName)) ∈ lw_all := lw_g (lw_at lw_m7 163 rfl) rfl
theorem q1704 : (Jvm.Cond.instanceMethod ({ cls := "ChurchyardBook", name := "of", desc := "(II)I" } : Jvm.MethodName)) ∈ lw_all := lw_g (lw_at lw_m7 178 rfl) rfl
theorem q1705 : (Jvm.Cond.selects "ChurchyardBook" ({ cls := "ChurchyardBook", name := "of", desc := "(II)I" } : Jvm.MethodName) ({ cls := "ChurchyardBook", name := "of", desc := "(II)I" } : Jvm.MethodName)) ∈ lw_all := lw_g (lw_at lw_m7 179 rfl) rfl
theorem q1706 : (Jvm.Cond.code ({ cls := "ChurchyardBook", name := "of", desc := "(II)I" } : Jvm.MethodName) prog_1_method_39_code (4 : Nat) (Option.some Jvm.ClassFile.FieldType.int)) ∈ lw_all := lw_g (lw_at lw_m7 180 rfl) rfl
theorem q2260 : (Jvm.Cond.castable "ChurchyardBook" "java/lang/Object") ∈ lw_tbl := lw_at lw_m10 14 rfl
theorem in_X1 : ∀ w ∈ wsX10, w ∈ lw_all := lw_in wsX10 [222, 224, 226, 228, 230, 232, 234, 236] (by decide +kernel) (by decide +kernel)
