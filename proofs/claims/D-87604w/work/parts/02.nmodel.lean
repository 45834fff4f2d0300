/-! ChurchyardBookModel -/
set_option maxRecDepth 100000
def RX6 : String := "ChurchyardBookModel"
def TX6 : u_T := fun k => match k with
  | 0 => ("ChurchyardBookModel", "thrown", "I", false)
  | 1 => ("ChurchyardBookModel", "today", "I", false)
  | 2 => ("ChurchyardBookModel", "fields", "I", false)
  | 3 => ("ChurchyardBookModel", "ground", "[I", true)
  | 4 => ("ChurchyardBookModel", "rows", "[I", true)
  | 5 => ("ChurchyardBookModel", "rowSort", "[I", true)
  | 6 => ("ChurchyardBookModel", "rowMany", "[I", true)
  | 7 => ("ChurchyardBookModel", "missing", "[Z", true)
  | 8 => ("ChurchyardBookModel", "spots", "[I", true)
  | 9 => ("ChurchyardBookModel", "graves", "I", false)
  | 10 => ("ChurchyardBookModel", "gKind", "[I", true)
  | 11 => ("ChurchyardBookModel", "gState", "[I", true)
  | 12 => ("ChurchyardBookModel", "gHolder", "[I", true)
  | 13 => ("ChurchyardBookModel", "gTo", "[I", true)
  | 14 => ("ChurchyardBookModel", "gOffered", "[I", true)
  | 15 => ("ChurchyardBookModel", "gDate", "[I", true)
  | 16 => ("ChurchyardBookModel", "gRow", "[I", true)
  | 17 => ("ChurchyardBookModel", "gPlace", "[I", true)
  | 18 => ("ChurchyardBookModel", "gWide", "[I", true)
  | 19 => ("ChurchyardBookModel", "gFrom", "[I", true)
  | 20 => ("ChurchyardBookModel", "agreed", "[Z", true)
  | 21 => ("ChurchyardBookModel", "heirs", "[I", true)
  | 22 => ("ChurchyardBookModel", "heirMany", "[I", true)
  | 23 => ("ChurchyardBookModel", "heirAt", "[I", true)
  | 24 => ("ChurchyardBookModel", "lies", "[I", true)
  | 25 => ("ChurchyardBookModel", "field0", "[I", true)
  | 26 => ("ChurchyardBookModel", "fieldMany", "[I", true)
  | 27 => ("ChurchyardBookModel", "persons", "I", false)
  | 28 => ("ChurchyardBookModel", "born", "[I", true)
  | 29 => ("ChurchyardBookModel", "dead", "[Z", true)
  | 30 => ("ChurchyardBookModel", "state", "[I", true)
  | 31 => ("ChurchyardBookModel", "inGrave", "[I", true)
  | 32 => ("ChurchyardBookModel", "column", "[I", true)
  | 33 => ("ChurchyardBookModel", "depth", "[I", true)
  | 34 => ("ChurchyardBookModel", "end", "[I", true)
  | 35 => ("ChurchyardBookModel", "buriedAs", "[I", true)
  | 36 => ("ChurchyardBookModel", "wed", "[I", true)
  | 37 => ("ChurchyardBookModel", "parentA", "[I", true)
  | 38 => ("ChurchyardBookModel", "parentB", "[I", true)
  | 39 => ("ChurchyardBookModel", "paperOf", "[I", true)
  | 40 => ("ChurchyardBookModel", "moves", "I", false)
  | 41 => ("ChurchyardBookModel", "moveWho", "[I", true)
  | 42 => ("ChurchyardBookModel", "moveDay", "[I", true)
  | 43 => ("ChurchyardBookModel", "moveTo", "[I", true)
  | 44 => ("ChurchyardBookModel", "paid", "I", false)
  | 45 => ("ChurchyardBookModel", "acts", "I", false)
  | 46 => ("ChurchyardBookModel", "written", "[I", true)
  | 47 => ("ChurchyardBookModel", "taped", "I", false)
  | 48 => ("ChurchyardBookModel", "tape", "[I", true)
  | _ => ("ChurchyardBookModel", "tried", "I", false)
def tyX6 : Nat → FieldType := fun k => match k with
  | 0 => .int
  | 1 => .int
  | 2 => .int
  | 3 => .array .int
  | 4 => .array .int
  | 5 => .array .int
  | 6 => .array .int
  | 7 => .array .boolean
  | 8 => .array .int
  | 9 => .int
  | 10 => .array .int
  | 11 => .array .int
  | 12 => .array .int
  | 13 => .array .int
  | 14 => .array .int
  | 15 => .array .int
  | 16 => .array .int
  | 17 => .array .int
  | 18 => .array .int
  | 19 => .array .int
  | 20 => .array .boolean
  | 21 => .array .int
  | 22 => .array .int
  | 23 => .array .int
  | 24 => .array .int
  | 25 => .array .int
  | 26 => .array .int
  | 27 => .int
  | 28 => .array .int
  | 29 => .array .boolean
  | 30 => .array .int
  | 31 => .array .int
  | 32 => .array .int
  | 33 => .array .int
  | 34 => .array .int
  | 35 => .array .int
  | 36 => .array .int
  | 37 => .array .int
  | 38 => .array .int
  | 39 => .array .int
  | 40 => .int
  | 41 => .array .int
  | 42 => .array .int
  | 43 => .array .int
  | 44 => .int
  | 45 => .int
  | 46 => .array .int
  | 47 => .int
  | 48 => .array .int
  | _ => .int
abbrev wsX60 : List Cond := u_ws RX6 TX6 50
set_option maxRecDepth 100000 in
theorem nmX6 : ∀ a, a < 50 → ∀ b, b < 50 → a ≠ b → (TX6 a).2.1 ≠ (TX6 b).2.1 := by decide +kernel
set_option maxRecDepth 100000 in
theorem tyX6_ok : ∀ k, k < 50 → parseFieldDescriptor (TX6 k).2.2.1 = some (tyX6 k) := by decide +kernel
abbrev cX6_init : ByteArray := prog_21_method_1_code
def yX6_init : MethodName := ⟨RX6, "<init>", "()V"⟩
def dkwX6_init_15 : List UInt8 := [181, 0, 122, 42, 17, 9, 96, 188, 10, 181, 0, 125, 42, 17, 9, 96, 188, 10, 181, 0, 128, 177]
abbrev dktX6_init_15 : List UInt8 := dkwX6_init_15 ++ []
def dkwX6_init_14 : List UInt8 := [17, 10, 40, 188, 10, 181, 0, 116, 42, 17, 10, 40, 188, 10, 181, 0, 119, 42, 17, 10, 40, 188, 10]
abbrev dktX6_init_14 : List UInt8 := dkwX6_init_14 ++ dktX6_init_15
def dkwX6_init_13 : List UInt8 := [181, 0, 107, 42, 17, 0, 150, 188, 10, 181, 0, 110, 42, 17, 0, 150, 188, 10, 181, 0, 113, 42]
abbrev dktX6_init_13 : List UInt8 := dkwX6_init_13 ++ dktX6_init_14
def dkwX6_init_12 : List UInt8 := [17, 0, 150, 188, 10, 181, 0, 101, 42, 17, 0, 150, 188, 10, 181, 0, 104, 42, 17, 0, 150, 188, 10]
abbrev dktX6_init_12 : List UInt8 := dkwX6_init_12 ++ dktX6_init_13
def dkwX6_init_11 : List UInt8 := [181, 0, 92, 42, 17, 0, 150, 188, 10, 181, 0, 95, 42, 17, 0, 150, 188, 10, 181, 0, 98, 42]
abbrev dktX6_init_11 : List UInt8 := dkwX6_init_11 ++ dktX6_init_12
def dkwX6_init_10 : List UInt8 := [17, 0, 150, 188, 10, 181, 0, 86, 42, 17, 0, 150, 188, 10, 181, 0, 89, 42, 17, 0, 150, 188, 10]
abbrev dktX6_init_10 : List UInt8 := dkwX6_init_10 ++ dktX6_init_11
def dkwX6_init_9 : List UInt8 := [181, 0, 77, 42, 17, 0, 150, 188, 10, 181, 0, 80, 42, 17, 0, 150, 188, 4, 181, 0, 83, 42]
abbrev dktX6_init_9 : List UInt8 := dkwX6_init_9 ++ dktX6_init_10
def dkwX6_init_8 : List UInt8 := [17, 4, 176, 188, 10, 181, 0, 71, 42, 17, 23, 112, 188, 10, 181, 0, 74, 42, 17, 0, 150, 188, 10]
abbrev dktX6_init_8 : List UInt8 := dkwX6_init_8 ++ dktX6_init_9
def dkwX6_init_7 : List UInt8 := [181, 0, 62, 42, 17, 0, 150, 188, 10, 181, 0, 65, 42, 17, 0, 150, 188, 10, 181, 0, 68, 42]
abbrev dktX6_init_7 : List UInt8 := dkwX6_init_7 ++ dktX6_init_8
def dkwX6_init_6 : List UInt8 := [17, 0, 150, 188, 10, 181, 0, 56, 42, 17, 87, 228, 188, 4, 181, 0, 59, 42, 17, 87, 228, 188, 10]
abbrev dktX6_init_6 : List UInt8 := dkwX6_init_6 ++ dktX6_init_7
def dkwX6_init_5 : List UInt8 := [181, 0, 47, 42, 17, 0, 150, 188, 10, 181, 0, 50, 42, 17, 0, 150, 188, 10, 181, 0, 53, 42]
abbrev dktX6_init_5 : List UInt8 := dkwX6_init_5 ++ dktX6_init_6
def dkwX6_init_4 : List UInt8 := [17, 0, 150, 188, 10, 181, 0, 41, 42, 17, 0, 150, 188, 10, 181, 0, 44, 42, 17, 0, 150, 188, 10]
abbrev dktX6_init_4 : List UInt8 := dkwX6_init_4 ++ dktX6_init_5
def dkwX6_init_3 : List UInt8 := [181, 0, 32, 42, 17, 0, 150, 188, 10, 181, 0, 35, 42, 17, 0, 150, 188, 10, 181, 0, 38, 42]
abbrev dktX6_init_3 : List UInt8 := dkwX6_init_3 ++ dktX6_init_4
def dkwX6_init_2 : List UInt8 := [17, 11, 64, 188, 10, 181, 0, 26, 42, 17, 0, 150, 188, 10, 181, 0, 29, 42, 17, 0, 150, 188, 10]
abbrev dktX6_init_2 : List UInt8 := dkwX6_init_2 ++ dktX6_init_3
def dkwX6_init_1 : List UInt8 := [188, 10, 181, 0, 16, 42, 16, 96, 188, 10, 181, 0, 19, 42, 16, 96, 188, 4, 181, 0, 22, 42]
abbrev dktX6_init_1 : List UInt8 := dkwX6_init_1 ++ dktX6_init_2
def dkwX6_init_0 : List UInt8 := [42, 183, 0, 1, 42, 16, 8, 188, 10, 181, 0, 7, 42, 16, 8, 188, 10, 181, 0, 13, 42, 16, 96]
abbrev dktX6_init_0 : List UInt8 := dkwX6_init_0 ++ dktX6_init_1
theorem dksX6_init_0 : cX6_init.data.toList.drop 0 = dktX6_init_0 := by decide +kernel
theorem dksX6_init_1 : cX6_init.data.toList.drop 23 = dktX6_init_1 := dk_seg dksX6_init_0 23 rfl rfl
theorem dksX6_init_2 : cX6_init.data.toList.drop 45 = dktX6_init_2 := dk_seg dksX6_init_1 22 rfl rfl
theorem dksX6_init_3 : cX6_init.data.toList.drop 68 = dktX6_init_3 := dk_seg dksX6_init_2 23 rfl rfl
theorem dksX6_init_4 : cX6_init.data.toList.drop 90 = dktX6_init_4 := dk_seg dksX6_init_3 22 rfl rfl
theorem dksX6_init_5 : cX6_init.data.toList.drop 113 = dktX6_init_5 := dk_seg dksX6_init_4 23 rfl rfl
theorem dksX6_init_6 : cX6_init.data.toList.drop 135 = dktX6_init_6 := dk_seg dksX6_init_5 22 rfl rfl
theorem dksX6_init_7 : cX6_init.data.toList.drop 158 = dktX6_init_7 := dk_seg dksX6_init_6 23 rfl rfl
theorem dksX6_init_8 : cX6_init.data.toList.drop 180 = dktX6_init_8 := dk_seg dksX6_init_7 22 rfl rfl
theorem dksX6_init_9 : cX6_init.data.toList.drop 203 = dktX6_init_9 := dk_seg dksX6_init_8 23 rfl rfl
theorem dksX6_init_10 : cX6_init.data.toList.drop 225 = dktX6_init_10 := dk_seg dksX6_init_9 22 rfl rfl
theorem dksX6_init_11 : cX6_init.data.toList.drop 248 = dktX6_init_11 := dk_seg dksX6_init_10 23 rfl rfl
theorem dksX6_init_12 : cX6_init.data.toList.drop 270 = dktX6_init_12 := dk_seg dksX6_init_11 22 rfl rfl
theorem dksX6_init_13 : cX6_init.data.toList.drop 293 = dktX6_init_13 := dk_seg dksX6_init_12 23 rfl rfl
theorem dksX6_init_14 : cX6_init.data.toList.drop 315 = dktX6_init_14 := dk_seg dksX6_init_13 22 rfl rfl
theorem dksX6_init_15 : cX6_init.data.toList.drop 338 = dktX6_init_15 := dk_seg dksX6_init_14 23 rfl rfl
theorem dX6_init_0 : decode cX6_init 0 = .ok (.aload_n 0, 1) := dk_42 (dk_at dksX6_init_0 0 rfl rfl)
theorem dX6_init_1 : decode cX6_init 1 = .ok (.invokespecial 1, 3) := dk_183 0 1 (dk_at dksX6_init_0 1 rfl rfl)
theorem dX6_init_4 : decode cX6_init 4 = .ok (.aload_n 0, 1) := dk_42 (dk_at dksX6_init_0 4 rfl rfl)
theorem dX6_init_5 : decode cX6_init 5 = .ok (.bipush 8, 2) := dk_16 8 (dk_at dksX6_init_0 5 rfl rfl)
theorem dX6_init_7 : decode cX6_init 7 = .ok (.newarray .int, 2) := dk_188_10 (dk_at dksX6_init_0 7 rfl rfl)
theorem dX6_init_9 : decode cX6_init 9 = .ok (.putfield 7, 3) := dk_181 0 7 (dk_at dksX6_init_0 9 rfl rfl)
theorem dX6_init_12 : decode cX6_init 12 = .ok (.aload_n 0, 1) := dk_42 (dk_at dksX6_init_0 12 rfl rfl)
theorem dX6_init_13 : decode cX6_init 13 = .ok (.bipush 8, 2) := dk_16 8 (dk_at dksX6_init_0 13 rfl rfl)
theorem dX6_init_15 : decode cX6_init 15 = .ok (.newarray .int, 2) := dk_188_10 (dk_at dksX6_init_0 15 rfl rfl)
theorem dX6_init_17 : decode cX6_init 17 = .ok (.putfield 13, 3) := dk_181 0 13 (dk_at dksX6_init_0 17 rfl rfl)
theorem dX6_init_20 : decode cX6_init 20 = .ok (.aload_n 0, 1) := dk_42 (dk_at dksX6_init_0 20 rfl rfl)
theorem dX6_init_21 : decode cX6_init 21 = .ok (.bipush 96, 2) := dk_16 96 (dk_at dksX6_init_0 21 rfl rfl)
theorem dX6_init_23 : decode cX6_init 23 = .ok (.newarray .int, 2) := dk_188_10 (dk_at dksX6_init_1 0 rfl rfl)
theorem dX6_init_25 : decode cX6_init 25 = .ok (.putfield 16, 3) := dk_181 0 16 (dk_at dksX6_init_1 2 rfl rfl)
theorem dX6_init_28 : decode cX6_init 28 = .ok (.aload_n 0, 1) := dk_42 (dk_at dksX6_init_1 5 rfl rfl)
theorem dX6_init_29 : decode cX6_init 29 = .ok (.bipush 96, 2) := dk_16 96 (dk_at dksX6_init_1 6 rfl rfl)
theorem dX6_init_31 : decode cX6_init 31 = .ok (.newarray .int, 2) := dk_188_10 (dk_at dksX6_init_1 8 rfl rfl)
theorem dX6_init_33 : decode cX6_init 33 = .ok (.putfield 19, 3) := dk_181 0 19 (dk_at dksX6_init_1 10 rfl rfl)
theorem dX6_init_36 : decode cX6_init 36 = .ok (.aload_n 0, 1) := dk_42 (dk_at dksX6_init_1 13 rfl rfl)
theorem dX6_init_37 : decode cX6_init 37 = .ok (.bipush 96, 2) := dk_16 96 (dk_at dksX6_init_1 14 rfl rfl)
theorem dX6_init_39 : decode cX6_init 39 = .ok (.newarray .boolean, 2) := dk_188_4 (dk_at dksX6_init_1 16 rfl rfl)
theorem dX6_init_41 : decode cX6_init 41 = .ok (.putfield 22, 3) := dk_181 0 22 (dk_at dksX6_init_1 18 rfl rfl)
theorem dX6_init_44 : decode cX6_init 44 = .ok (.aload_n 0, 1) := dk_42 (dk_at dksX6_init_1 21 rfl rfl)
theorem dX6_init_45 : decode cX6_init 45 = .ok (.sipush 2880, 3) := dk_17 11 64 (dk_at dksX6_init_2 0 rfl rfl)
theorem dX6_init_48 : decode cX6_init 48 = .ok (.newarray .int, 2) := dk_188_10 (dk_at dksX6_init_2 3 rfl rfl)
theorem dX6_init_50 : decode cX6_init 50 = .ok (.putfield 26, 3) := dk_181 0 26 (dk_at dksX6_init_2 5 rfl rfl)
theorem dX6_init_53 : decode cX6_init 53 = .ok (.aload_n 0, 1) := dk_42 (dk_at dksX6_init_2 8 rfl rfl)
theorem dX6_init_54 : decode cX6_init 54 = .ok (.sipush 150, 3) := dk_17 0 150 (dk_at dksX6_init_2 9 rfl rfl)
theorem dX6_init_57 : decode cX6_init 57 = .ok (.newarray .int, 2) := dk_188_10 (dk_at dksX6_init_2 12 rfl rfl)
theorem dX6_init_59 : decode cX6_init 59 = .ok (.putfield 29, 3) := dk_181 0 29 (dk_at dksX6_init_2 14 rfl rfl)
theorem dX6_init_62 : decode cX6_init 62 = .ok (.aload_n 0, 1) := dk_42 (dk_at dksX6_init_2 17 rfl rfl)
theorem dX6_init_63 : decode cX6_init 63 = .ok (.sipush 150, 3) := dk_17 0 150 (dk_at dksX6_init_2 18 rfl rfl)
theorem dX6_init_66 : decode cX6_init 66 = .ok (.newarray .int, 2) := dk_188_10 (dk_at dksX6_init_2 21 rfl rfl)
theorem dX6_init_68 : decode cX6_init 68 = .ok (.putfield 32, 3) := dk_181 0 32 (dk_at dksX6_init_3 0 rfl rfl)
theorem dX6_init_71 : decode cX6_init 71 = .ok (.aload_n 0, 1) := dk_42 (dk_at dksX6_init_3 3 rfl rfl)
theorem dX6_init_72 : decode cX6_init 72 = .ok (.sipush 150, 3) := dk_17 0 150 (dk_at dksX6_init_3 4 rfl rfl)
theorem dX6_init_75 : decode cX6_init 75 = .ok (.newarray .int, 2) := dk_188_10 (dk_at dksX6_init_3 7 rfl rfl)
theorem dX6_init_77 : decode cX6_init 77 = .ok (.putfield 35, 3) := dk_181 0 35 (dk_at dksX6_init_3 9 rfl rfl)
theorem dX6_init_80 : decode cX6_init 80 = .ok (.aload_n 0, 1) := dk_42 (dk_at dksX6_init_3 12 rfl rfl)
theorem dX6_init_81 : decode cX6_init 81 = .ok (.sipush 150, 3) := dk_17 0 150 (dk_at dksX6_init_3 13 rfl rfl)
theorem dX6_init_84 : decode cX6_init 84 = .ok (.newarray .int, 2) := dk_188_10 (dk_at dksX6_init_3 16 rfl rfl)
theorem dX6_init_86 : decode cX6_init 86 = .ok (.putfield 38, 3) := dk_181 0 38 (dk_at dksX6_init_3 18 rfl rfl)
theorem dX6_init_89 : decode cX6_init 89 = .ok (.aload_n 0, 1) := dk_42 (dk_at dksX6_init_3 21 rfl rfl)
theorem dX6_init_90 : decode cX6_init 90 = .ok (.sipush 150, 3) := dk_17 0 150 (dk_at dksX6_init_4 0 rfl rfl)
theorem dX6_init_93 : decode cX6_init 93 = .ok (.newarray .int, 2) := dk_188_10 (dk_at dksX6_init_4 3 rfl rfl)
theorem dX6_init_95 : decode cX6_init 95 = .ok (.putfield 41, 3) := dk_181 0 41 (dk_at dksX6_init_4 5 rfl rfl)
theorem dX6_init_98 : decode cX6_init 98 = .ok (.aload_n 0, 1) := dk_42 (dk_at dksX6_init_4 8 rfl rfl)
theorem dX6_init_99 : decode cX6_init 99 = .ok (.sipush 150, 3) := dk_17 0 150 (dk_at dksX6_init_4 9 rfl rfl)
theorem dX6_init_102 : decode cX6_init 102 = .ok (.newarray .int, 2) := dk_188_10 (dk_at dksX6_init_4 12 rfl rfl)
theorem dX6_init_104 : decode cX6_init 104 = .ok (.putfield 44, 3) := dk_181 0 44 (dk_at dksX6_init_4 14 rfl rfl)
theorem dX6_init_107 : decode cX6_init 107 = .ok (.aload_n 0, 1) := dk_42 (dk_at dksX6_init_4 17 rfl rfl)
theorem dX6_init_108 : decode cX6_init 108 = .ok (.sipush 150, 3) := dk_17 0 150 (dk_at dksX6_init_4 18 rfl rfl)
theorem dX6_init_111 : decode cX6_init 111 = .ok (.newarray .int, 2) := dk_188_10 (dk_at dksX6_init_4 21 rfl rfl)
theorem dX6_init_113 : decode cX6_init 113 = .ok (.putfield 47, 3) := dk_181 0 47 (dk_at dksX6_init_5 0 rfl rfl)
theorem dX6_init_116 : decode cX6_init 116 = .ok (.aload_n 0, 1) := dk_42 (dk_at dksX6_init_5 3 rfl rfl)
theorem dX6_init_117 : decode cX6_init 117 = .ok (.sipush 150, 3) := dk_17 0 150 (dk_at dksX6_init_5 4 rfl rfl)
theorem dX6_init_120 : decode cX6_init 120 = .ok (.newarray .int, 2) := dk_188_10 (dk_at dksX6_init_5 7 rfl rfl)
theorem dX6_init_122 : decode cX6_init 122 = .ok (.putfield 50, 3) := dk_181 0 50 (dk_at dksX6_init_5 9 rfl rfl)
theorem dX6_init_125 : decode cX6_init 125 = .ok (.aload_n 0, 1) := dk_42 (dk_at dksX6_init_5 12 rfl rfl)
theorem dX6_init_126 : decode cX6_init 126 = .ok (.sipush 150, 3) := dk_17 0 150 (dk_at dksX6_init_5 13 rfl rfl)
theorem dX6_init_129 : decode cX6_init 129 = .ok (.newarray .int, 2) := dk_188_10 (dk_at dksX6_init_5 16 rfl rfl)
theorem dX6_init_131 : decode cX6_init 131 = .ok (.putfield 53, 3) := dk_181 0 53 (dk_at dksX6_init_5 18 rfl rfl)
theorem dX6_init_134 : decode cX6_init 134 = .ok (.aload_n 0, 1) := dk_42 (dk_at dksX6_init_5 21 rfl rfl)
theorem dX6_init_135 : decode cX6_init 135 = .ok (.sipush 150, 3) := dk_17 0 150 (dk_at dksX6_init_6 0 rfl rfl)
theorem dX6_init_138 : decode cX6_init 138 = .ok (.newarray .int, 2) := dk_188_10 (dk_at dksX6_init_6 3 rfl rfl)
theorem dX6_init_140 : decode cX6_init 140 = .ok (.putfield 56, 3) := dk_181 0 56 (dk_at dksX6_init_6 5 rfl rfl)
theorem dX6_init_143 : decode cX6_init 143 = .ok (.aload_n 0, 1) := dk_42 (dk_at dksX6_init_6 8 rfl rfl)
theorem dX6_init_144 : decode cX6_init 144 = .ok (.sipush 22500, 3) := dk_17 87 228 (dk_at dksX6_init_6 9 rfl rfl)
theorem dX6_init_147 : decode cX6_init 147 = .ok (.newarray .boolean, 2) := dk_188_4 (dk_at dksX6_init_6 12 rfl rfl)
theorem dX6_init_149 : decode cX6_init 149 = .ok (.putfield 59, 3) := dk_181 0 59 (dk_at dksX6_init_6 14 rfl rfl)
theorem dX6_init_152 : decode cX6_init 152 = .ok (.aload_n 0, 1) := dk_42 (dk_at dksX6_init_6 17 rfl rfl)
theorem dX6_init_153 : decode cX6_init 153 = .ok (.sipush 22500, 3) := dk_17 87 228 (dk_at dksX6_init_6 18 rfl rfl)
theorem dX6_init_156 : decode cX6_init 156 = .ok (.newarray .int, 2) := dk_188_10 (dk_at dksX6_init_6 21 rfl rfl)
theorem dX6_init_158 : decode cX6_init 158 = .ok (.putfield 62, 3) := dk_181 0 62 (dk_at dksX6_init_7 0 rfl rfl)
theorem dX6_init_161 : decode cX6_init 161 = .ok (.aload_n 0, 1) := dk_42 (dk_at dksX6_init_7 3 rfl rfl)
theorem dX6_init_162 : decode cX6_init 162 = .ok (.sipush 150, 3) := dk_17 0 150 (dk_at dksX6_init_7 4 rfl rfl)
theorem dX6_init_165 : decode cX6_init 165 = .ok (.newarray .int, 2) := dk_188_10 (dk_at dksX6_init_7 7 rfl rfl)
theorem dX6_init_167 : decode cX6_init 167 = .ok (.putfield 65, 3) := dk_181 0 65 (dk_at dksX6_init_7 9 rfl rfl)
theorem dX6_init_170 : decode cX6_init 170 = .ok (.aload_n 0, 1) := dk_42 (dk_at dksX6_init_7 12 rfl rfl)
theorem dX6_init_171 : decode cX6_init 171 = .ok (.sipush 150, 3) := dk_17 0 150 (dk_at dksX6_init_7 13 rfl rfl)
theorem dX6_init_174 : decode cX6_init 174 = .ok (.newarray .int, 2) := dk_188_10 (dk_at dksX6_init_7 16 rfl rfl)
theorem dX6_init_176 : decode cX6_init 176 = .ok (.putfield 68, 3) := dk_181 0 68 (dk_at dksX6_init_7 18 rfl rfl)
theorem dX6_init_179 : decode cX6_init 179 = .ok (.aload_n 0, 1) := dk_42 (dk_at dksX6_init_7 21 rfl rfl)
theorem dX6_init_180 : decode cX6_init 180 = .ok (.sipush 1200, 3) := dk_17 4 176 (dk_at dksX6_init_8 0 rfl rfl)
theorem dX6_init_183 : decode cX6_init 183 = .ok (.newarray .int, 2) := dk_188_10 (dk_at dksX6_init_8 3 rfl rfl)
theorem dX6_init_185 : decode cX6_init 185 = .ok (.putfield 71, 3) := dk_181 0 71 (dk_at dksX6_init_8 5 rfl rfl)
theorem dX6_init_188 : decode cX6_init 188 = .ok (.aload_n 0, 1) := dk_42 (dk_at dksX6_init_8 8 rfl rfl)
theorem dX6_init_189 : decode cX6_init 189 = .ok (.sipush 6000, 3) := dk_17 23 112 (dk_at dksX6_init_8 9 rfl rfl)
theorem dX6_init_192 : decode cX6_init 192 = .ok (.newarray .int, 2) := dk_188_10 (dk_at dksX6_init_8 12 rfl rfl)
theorem dX6_init_194 : decode cX6_init 194 = .ok (.putfield 74, 3) := dk_181 0 74 (dk_at dksX6_init_8 14 rfl rfl)
theorem dX6_init_197 : decode cX6_init 197 = .ok (.aload_n 0, 1) := dk_42 (dk_at dksX6_init_8 17 rfl rfl)
theorem dX6_init_198 : decode cX6_init 198 = .ok (.sipush 150, 3) := dk_17 0 150 (dk_at dksX6_init_8 18 rfl rfl)
theorem dX6_init_201 : decode cX6_init 201 = .ok (.newarray .int, 2) := dk_188_10 (dk_at dksX6_init_8 21 rfl rfl)
theorem dX6_init_203 : decode cX6_init 203 = .ok (.putfield 77, 3) := dk_181 0 77 (dk_at dksX6_init_9 0 rfl rfl)
theorem dX6_init_206 : decode cX6_init 206 = .ok (.aload_n 0, 1) := dk_42 (dk_at dksX6_init_9 3 rfl rfl)
theorem dX6_init_207 : decode cX6_init 207 = .ok (.sipush 150, 3) := dk_17 0 150 (dk_at dksX6_init_9 4 rfl rfl)
theorem dX6_init_210 : decode cX6_init 210 = .ok (.newarray .int, 2) := dk_188_10 (dk_at dksX6_init_9 7 rfl rfl)
theorem dX6_init_212 : decode cX6_init 212 = .ok (.putfield 80, 3) := dk_181 0 80 (dk_at dksX6_init_9 9 rfl rfl)
theorem dX6_init_215 : decode cX6_init 215 = .ok (.aload_n 0, 1) := dk_42 (dk_at dksX6_init_9 12 rfl rfl)
theorem dX6_init_216 : decode cX6_init 216 = .ok (.sipush 150, 3) := dk_17 0 150 (dk_at dksX6_init_9 13 rfl rfl)
theorem dX6_init_219 : decode cX6_init 219 = .ok (.newarray .boolean, 2) := dk_188_4 (dk_at dksX6_init_9 16 rfl rfl)
theorem dX6_init_221 : decode cX6_init 221 = .ok (.putfield 83, 3) := dk_181 0 83 (dk_at dksX6_init_9 18 rfl rfl)
theorem dX6_init_224 : decode cX6_init 224 = .ok (.aload_n 0, 1) := dk_42 (dk_at dksX6_init_9 21 rfl rfl)
theorem dX6_init_225 : decode cX6_init 225 = .ok (.sipush 150, 3) := dk_17 0 150 (dk_at dksX6_init_10 0 rfl rfl)
theorem dX6_init_228 : decode cX6_init 228 = .ok (.newarray .int, 2) := dk_188_10 (dk_at dksX6_init_10 3 rfl rfl)
theorem dX6_init_230 : decode cX6_init 230 = .ok (.putfield 86, 3) := dk_181 0 86 (dk_at dksX6_init_10 5 rfl rfl)
theorem dX6_init_233 : decode cX6_init 233 = .ok (.aload_n 0, 1) := dk_42 (dk_at dksX6_init_10 8 rfl rfl)
theorem dX6_init_234 : decode cX6_init 234 = .ok (.sipush 150, 3) := dk_17 0 150 (dk_at dksX6_init_10 9 rfl rfl)
theorem dX6_init_237 : decode cX6_init 237 = .ok (.newarray .int, 2) := dk_188_10 (dk_at dksX6_init_10 12 rfl rfl)
theorem dX6_init_239 : decode cX6_init 239 = .ok (.putfield 89, 3) := dk_181 0 89 (dk_at dksX6_init_10 14 rfl rfl)
theorem dX6_init_242 : decode cX6_init 242 = .ok (.aload_n 0, 1) := dk_42 (dk_at dksX6_init_10 17 rfl rfl)
theorem dX6_init_243 : decode cX6_init 243 = .ok (.sipush 150, 3) := dk_17 0 150 (dk_at dksX6_init_10 18 rfl rfl)
theorem dX6_init_246 : decode cX6_init 246 = .ok (.newarray .int, 2) := dk_188_10 (dk_at dksX6_init_10 21 rfl rfl)
theorem dX6_init_248 : decode cX6_init 248 = .ok (.putfield 92, 3) := dk_181 0 92 (dk_at dksX6_init_11 0 rfl rfl)
theorem dX6_init_251 : decode cX6_init 251 = .ok (.aload_n 0, 1) := dk_42 (dk_at dksX6_init_11 3 rfl rfl)
theorem dX6_init_252 : decode cX6_init 252 = .ok (.sipush 150, 3) := dk_17 0 150 (dk_at dksX6_init_11 4 rfl rfl)
theorem dX6_init_255 : decode cX6_init 255 = .ok (.newarray .int, 2) := dk_188_10 (dk_at dksX6_init_11 7 rfl rfl)
theorem dX6_init_257 : decode cX6_init 257 = .ok (.putfield 95, 3) := dk_181 0 95 (dk_at dksX6_init_11 9 rfl rfl)
theorem dX6_init_260 : decode cX6_init 260 = .ok (.aload_n 0, 1) := dk_42 (dk_at dksX6_init_11 12 rfl rfl)
theorem dX6_init_261 : decode cX6_init 261 = .ok (.sipush 150, 3) := dk_17 0 150 (dk_at dksX6_init_11 13 rfl rfl)
theorem dX6_init_264 : decode cX6_init 264 = .ok (.newarray .int, 2) := dk_188_10 (dk_at dksX6_init_11 16 rfl rfl)
theorem dX6_init_266 : decode cX6_init 266 = .ok (.putfield 98, 3) := dk_181 0 98 (dk_at dksX6_init_11 18 rfl rfl)
theorem dX6_init_269 : decode cX6_init 269 = .ok (.aload_n 0, 1) := dk_42 (dk_at dksX6_init_11 21 rfl rfl)
theorem dX6_init_270 : decode cX6_init 270 = .ok (.sipush 150, 3) := dk_17 0 150 (dk_at dksX6_init_12 0 rfl rfl)
theorem dX6_init_273 : decode cX6_init 273 = .ok (.newarray .int, 2) := dk_188_10 (dk_at dksX6_init_12 3 rfl rfl)
theorem dX6_init_275 : decode cX6_init 275 = .ok (.putfield 101, 3) := dk_181 0 101 (dk_at dksX6_init_12 5 rfl rfl)
theorem dX6_init_278 : decode cX6_init 278 = .ok (.aload_n 0, 1) := dk_42 (dk_at dksX6_init_12 8 rfl rfl)
theorem dX6_init_279 : decode cX6_init 279 = .ok (.sipush 150, 3) := dk_17 0 150 (dk_at dksX6_init_12 9 rfl rfl)
theorem dX6_init_282 : decode cX6_init 282 = .ok (.newarray .int, 2) := dk_188_10 (dk_at dksX6_init_12 12 rfl rfl)
theorem dX6_init_284 : decode cX6_init 284 = .ok (.putfield 104, 3) := dk_181 0 104 (dk_at dksX6_init_12 14 rfl rfl)
theorem dX6_init_287 : decode cX6_init 287 = .ok (.aload_n 0, 1) := dk_42 (dk_at dksX6_init_12 17 rfl rfl)
theorem dX6_init_288 : decode cX6_init 288 = .ok (.sipush 150, 3) := dk_17 0 150 (dk_at dksX6_init_12 18 rfl rfl)
theorem dX6_init_291 : decode cX6_init 291 = .ok (.newarray .int, 2) := dk_188_10 (dk_at dksX6_init_12 21 rfl rfl)
theorem dX6_init_293 : decode cX6_init 293 = .ok (.putfield 107, 3) := dk_181 0 107 (dk_at dksX6_init_13 0 rfl rfl)
theorem dX6_init_296 : decode cX6_init 296 = .ok (.aload_n 0, 1) := dk_42 (dk_at dksX6_init_13 3 rfl rfl)
theorem dX6_init_297 : decode cX6_init 297 = .ok (.sipush 150, 3) := dk_17 0 150 (dk_at dksX6_init_13 4 rfl rfl)
theorem dX6_init_300 : decode cX6_init 300 = .ok (.newarray .int, 2) := dk_188_10 (dk_at dksX6_init_13 7 rfl rfl)
theorem dX6_init_302 : decode cX6_init 302 = .ok (.putfield 110, 3) := dk_181 0 110 (dk_at dksX6_init_13 9 rfl rfl)
theorem dX6_init_305 : decode cX6_init 305 = .ok (.aload_n 0, 1) := dk_42 (dk_at dksX6_init_13 12 rfl rfl)
theorem dX6_init_306 : decode cX6_init 306 = .ok (.sipush 150, 3) := dk_17 0 150 (dk_at dksX6_init_13 13 rfl rfl)
theorem dX6_init_309 : decode cX6_init 309 = .ok (.newarray .int, 2) := dk_188_10 (dk_at dksX6_init_13 16 rfl rfl)
theorem dX6_init_311 : decode cX6_init 311 = .ok (.putfield 113, 3) := dk_181 0 113 (dk_at dksX6_init_13 18 rfl rfl)
theorem dX6_init_314 : decode cX6_init 314 = .ok (.aload_n 0, 1) := dk_42 (dk_at dksX6_init_13 21 rfl rfl)
theorem dX6_init_315 : decode cX6_init 315 = .ok (.sipush 2600, 3) := dk_17 10 40 (dk_at dksX6_init_14 0 rfl rfl)
theorem dX6_init_318 : decode cX6_init 318 = .ok (.newarray .int, 2) := dk_188_10 (dk_at dksX6_init_14 3 rfl rfl)
theorem dX6_init_320 : decode cX6_init 320 = .ok (.putfield 116, 3) := dk_181 0 116 (dk_at dksX6_init_14 5 rfl rfl)
theorem dX6_init_323 : decode cX6_init 323 = .ok (.aload_n 0, 1) := dk_42 (dk_at dksX6_init_14 8 rfl rfl)
theorem dX6_init_324 : decode cX6_init 324 = .ok (.sipush 2600, 3) := dk_17 10 40 (dk_at dksX6_init_14 9 rfl rfl)
theorem dX6_init_327 : decode cX6_init 327 = .ok (.newarray .int, 2) := dk_188_10 (dk_at dksX6_init_14 12 rfl rfl)
theorem dX6_init_329 : decode cX6_init 329 = .ok (.putfield 119, 3) := dk_181 0 119 (dk_at dksX6_init_14 14 rfl rfl)
theorem dX6_init_332 : decode cX6_init 332 = .ok (.aload_n 0, 1) := dk_42 (dk_at dksX6_init_14 17 rfl rfl)
theorem dX6_init_333 : decode cX6_init 333 = .ok (.sipush 2600, 3) := dk_17 10 40 (dk_at dksX6_init_14 18 rfl rfl)
theorem dX6_init_336 : decode cX6_init 336 = .ok (.newarray .int, 2) := dk_188_10 (dk_at dksX6_init_14 21 rfl rfl)
theorem dX6_init_338 : decode cX6_init 338 = .ok (.putfield 122, 3) := dk_181 0 122 (dk_at dksX6_init_15 0 rfl rfl)
theorem dX6_init_341 : decode cX6_init 341 = .ok (.aload_n 0, 1) := dk_42 (dk_at dksX6_init_15 3 rfl rfl)
theorem dX6_init_342 : decode cX6_init 342 = .ok (.sipush 2400, 3) := dk_17 9 96 (dk_at dksX6_init_15 4 rfl rfl)
theorem dX6_init_345 : decode cX6_init 345 = .ok (.newarray .int, 2) := dk_188_10 (dk_at dksX6_init_15 7 rfl rfl)
theorem dX6_init_347 : decode cX6_init 347 = .ok (.putfield 125, 3) := dk_181 0 125 (dk_at dksX6_init_15 9 rfl rfl)
theorem dX6_init_350 : decode cX6_init 350 = .ok (.aload_n 0, 1) := dk_42 (dk_at dksX6_init_15 12 rfl rfl)
theorem dX6_init_351 : decode cX6_init 351 = .ok (.sipush 2400, 3) := dk_17 9 96 (dk_at dksX6_init_15 13 rfl rfl)
theorem dX6_init_354 : decode cX6_init 354 = .ok (.newarray .int, 2) := dk_188_10 (dk_at dksX6_init_15 16 rfl rfl)
theorem dX6_init_356 : decode cX6_init 356 = .ok (.putfield 128, 3) := dk_181 0 128 (dk_at dksX6_init_15 18 rfl rfl)
theorem dX6_init_359 : decode cX6_init 359 = .ok (.return_, 1) := dk_177 (dk_at dksX6_init_15 21 rfl rfl)
abbrev cX6_thrown : ByteArray := prog_21_method_2_code
def yX6_thrown : MethodName := ⟨RX6, "thrown", "()I"⟩
theorem dX6_thrown_0 : decode cX6_thrown 0 = .ok (.aload_n 0, 1) := by decide +kernel
theorem dX6_thrown_1 : decode cX6_thrown 1 = .ok (.getfield 131, 3) := by decide +kernel
theorem dX6_thrown_4 : decode cX6_thrown 4 = .ok (.ireturn, 1) := by decide +kernel
abbrev cX6_field : ByteArray := prog_21_method_57_code
def yX6_field : MethodName := ⟨RX6, "field", "(I)I"⟩
def dkwX6_field_0 : List UInt8 := [42, 4, 27, 3, 3, 3, 3, 182, 1, 74, 172]
abbrev dktX6_field_0 : List UInt8 := dkwX6_field_0 ++ []
theorem dksX6_field_0 : cX6_field.data.toList.drop 0 = dktX6_field_0 := by decide +kernel
theorem dX6_field_0 : decode cX6_field 0 = .ok (.aload_n 0, 1) := dk_42 (dk_at dksX6_field_0 0 rfl rfl)
theorem dX6_field_1 : decode cX6_field 1 = .ok (.iconst 1, 1) := dk_4 (dk_at dksX6_field_0 1 rfl rfl)
theorem dX6_field_2 : decode cX6_field 2 = .ok (.iload_n 1, 1) := dk_27 (dk_at dksX6_field_0 2 rfl rfl)
theorem dX6_field_3 : decode cX6_field 3 = .ok (.iconst 0, 1) := dk_3 (dk_at dksX6_field_0 3 rfl rfl)
theorem dX6_field_4 : decode cX6_field 4 = .ok (.iconst 0, 1) := dk_3 (dk_at dksX6_field_0 4 rfl rfl)
theorem dX6_field_5 : decode cX6_field 5 = .ok (.iconst 0, 1) := dk_3 (dk_at dksX6_field_0 5 rfl rfl)
theorem dX6_field_6 : decode cX6_field 6 = .ok (.iconst 0, 1) := dk_3 (dk_at dksX6_field_0 6 rfl rfl)
theorem dX6_field_7 : decode cX6_field 7 = .ok (.invokevirtual 330, 3) := dk_182 1 74 (dk_at dksX6_field_0 7 rfl rfl)
theorem dX6_field_10 : decode cX6_field 10 = .ok (.ireturn, 1) := dk_172 (dk_at dksX6_field_0 10 rfl rfl)
abbrev cX6_call : ByteArray := prog_21_method_53_code
def yX6_call : MethodName := ⟨RX6, "call", "(IIIIII)I"⟩
def dkwX6_call_5 : List UInt8 := [181, 1, 58, 21, 7, 172]
abbrev dktX6_call_5 : List UInt8 := dkwX6_call_5 ++ []
def dkwX6_call_4 : List UInt8 := [96, 21, 5, 79, 42, 180, 0, 125, 21, 8, 8, 96, 21, 6, 79, 42, 89, 180, 1, 58, 4, 96]
abbrev dktX6_call_4 : List UInt8 := dkwX6_call_4 ++ dktX6_call_5
def dkwX6_call_3 : List UInt8 := [21, 8, 5, 96, 29, 79, 42, 180, 0, 125, 21, 8, 6, 96, 21, 4, 79, 42, 180, 0, 125, 21, 8, 7]
abbrev dktX6_call_3 : List UInt8 := dkwX6_call_3 ++ dktX6_call_4
def dkwX6_call_2 : List UInt8 := [54, 8, 42, 180, 0, 125, 21, 8, 27, 79, 42, 180, 0, 125, 21, 8, 4, 96, 28, 79, 42, 180, 0, 125]
abbrev dktX6_call_2 : List UInt8 := dkwX6_call_2 ++ dktX6_call_3
def dkwX6_call_1 : List UInt8 := [21, 5, 21, 6, 182, 1, 61, 54, 7, 21, 7, 156, 0, 6, 21, 7, 172, 16, 6, 42, 180, 1, 58, 104]
abbrev dktX6_call_1 : List UInt8 := dkwX6_call_1 ++ dktX6_call_2
def dkwX6_call_0 : List UInt8 := [42, 3, 181, 0, 131, 42, 180, 1, 58, 17, 1, 144, 160, 0, 6, 16, 247, 172, 42, 27, 28, 29, 21, 4]
abbrev dktX6_call_0 : List UInt8 := dkwX6_call_0 ++ dktX6_call_1
theorem dksX6_call_0 : cX6_call.data.toList.drop 0 = dktX6_call_0 := by decide +kernel
theorem dksX6_call_1 : cX6_call.data.toList.drop 24 = dktX6_call_1 := dk_seg dksX6_call_0 24 rfl rfl
theorem dksX6_call_2 : cX6_call.data.toList.drop 48 = dktX6_call_2 := dk_seg dksX6_call_1 24 rfl rfl
theorem dksX6_call_3 : cX6_call.data.toList.drop 72 = dktX6_call_3 := dk_seg dksX6_call_2 24 rfl rfl
theorem dksX6_call_4 : cX6_call.data.toList.drop 96 = dktX6_call_4 := dk_seg dksX6_call_3 24 rfl rfl
theorem dksX6_call_5 : cX6_call.data.toList.drop 118 = dktX6_call_5 := dk_seg dksX6_call_4 22 rfl rfl
theorem dX6_call_0 : decode cX6_call 0 = .ok (.aload_n 0, 1) := dk_42 (dk_at dksX6_call_0 0 rfl rfl)
theorem dX6_call_1 : decode cX6_call 1 = .ok (.iconst 0, 1) := dk_3 (dk_at dksX6_call_0 1 rfl rfl)
theorem dX6_call_2 : decode cX6_call 2 = .ok (.putfield 131, 3) := dk_181 0 131 (dk_at dksX6_call_0 2 rfl rfl)
theorem dX6_call_5 : decode cX6_call 5 = .ok (.aload_n 0, 1) := dk_42 (dk_at dksX6_call_0 5 rfl rfl)
theorem dX6_call_6 : decode cX6_call 6 = .ok (.getfield 314, 3) := dk_180 1 58 (dk_at dksX6_call_0 6 rfl rfl)
theorem dX6_call_9 : decode cX6_call 9 = .ok (.sipush 400, 3) := dk_17 1 144 (dk_at dksX6_call_0 9 rfl rfl)
theorem dX6_call_12 : decode cX6_call 12 = .ok (.if_icmp .ne 6, 3) := dk_160 0 6 (dk_at dksX6_call_0 12 rfl rfl)
theorem dX6_call_15 : decode cX6_call 15 = .ok (.bipush (-9), 2) := dk_16 247 (dk_at dksX6_call_0 15 rfl rfl)
theorem dX6_call_17 : decode cX6_call 17 = .ok (.ireturn, 1) := dk_172 (dk_at dksX6_call_0 17 rfl rfl)
theorem dX6_call_18 : decode cX6_call 18 = .ok (.aload_n 0, 1) := dk_42 (dk_at dksX6_call_0 18 rfl rfl)
theorem dX6_call_19 : decode cX6_call 19 = .ok (.iload_n 1, 1) := dk_27 (dk_at dksX6_call_0 19 rfl rfl)
theorem dX6_call_20 : decode cX6_call 20 = .ok (.iload_n 2, 1) := dk_28 (dk_at dksX6_call_0 20 rfl rfl)
theorem dX6_call_21 : decode cX6_call 21 = .ok (.iload_n 3, 1) := dk_29 (dk_at dksX6_call_0 21 rfl rfl)
theorem dX6_call_22 : decode cX6_call 22 = .ok (.iload 4, 2) := dk_21 4 (dk_at dksX6_call_0 22 rfl rfl)
theorem dX6_call_24 : decode cX6_call 24 = .ok (.iload 5, 2) := dk_21 5 (dk_at dksX6_call_1 0 rfl rfl)
theorem dX6_call_26 : decode cX6_call 26 = .ok (.iload 6, 2) := dk_21 6 (dk_at dksX6_call_1 2 rfl rfl)
theorem dX6_call_28 : decode cX6_call 28 = .ok (.invokevirtual 317, 3) := dk_182 1 61 (dk_at dksX6_call_1 4 rfl rfl)
theorem dX6_call_31 : decode cX6_call 31 = .ok (.istore 7, 2) := dk_54 7 (dk_at dksX6_call_1 7 rfl rfl)
theorem dX6_call_33 : decode cX6_call 33 = .ok (.iload 7, 2) := dk_21 7 (dk_at dksX6_call_1 9 rfl rfl)
theorem dX6_call_35 : decode cX6_call 35 = .ok (.ifCond .ge 6, 3) := dk_156 0 6 (dk_at dksX6_call_1 11 rfl rfl)
theorem dX6_call_38 : decode cX6_call 38 = .ok (.iload 7, 2) := dk_21 7 (dk_at dksX6_call_1 14 rfl rfl)
theorem dX6_call_40 : decode cX6_call 40 = .ok (.ireturn, 1) := dk_172 (dk_at dksX6_call_1 16 rfl rfl)
theorem dX6_call_41 : decode cX6_call 41 = .ok (.bipush 6, 2) := dk_16 6 (dk_at dksX6_call_1 17 rfl rfl)
theorem dX6_call_43 : decode cX6_call 43 = .ok (.aload_n 0, 1) := dk_42 (dk_at dksX6_call_1 19 rfl rfl)
theorem dX6_call_44 : decode cX6_call 44 = .ok (.getfield 314, 3) := dk_180 1 58 (dk_at dksX6_call_1 20 rfl rfl)
theorem dX6_call_47 : decode cX6_call 47 = .ok (.imul, 1) := dk_104 (dk_at dksX6_call_1 23 rfl rfl)
theorem dX6_call_48 : decode cX6_call 48 = .ok (.istore 8, 2) := dk_54 8 (dk_at dksX6_call_2 0 rfl rfl)
theorem dX6_call_50 : decode cX6_call 50 = .ok (.aload_n 0, 1) := dk_42 (dk_at dksX6_call_2 2 rfl rfl)
theorem dX6_call_51 : decode cX6_call 51 = .ok (.getfield 125, 3) := dk_180 0 125 (dk_at dksX6_call_2 3 rfl rfl)
theorem dX6_call_54 : decode cX6_call 54 = .ok (.iload 8, 2) := dk_21 8 (dk_at dksX6_call_2 6 rfl rfl)
theorem dX6_call_56 : decode cX6_call 56 = .ok (.iload_n 1, 1) := dk_27 (dk_at dksX6_call_2 8 rfl rfl)
theorem dX6_call_57 : decode cX6_call 57 = .ok (.iastore, 1) := dk_79 (dk_at dksX6_call_2 9 rfl rfl)
theorem dX6_call_58 : decode cX6_call 58 = .ok (.aload_n 0, 1) := dk_42 (dk_at dksX6_call_2 10 rfl rfl)
theorem dX6_call_59 : decode cX6_call 59 = .ok (.getfield 125, 3) := dk_180 0 125 (dk_at dksX6_call_2 11 rfl rfl)
theorem dX6_call_62 : decode cX6_call 62 = .ok (.iload 8, 2) := dk_21 8 (dk_at dksX6_call_2 14 rfl rfl)
theorem dX6_call_64 : decode cX6_call 64 = .ok (.iconst 1, 1) := dk_4 (dk_at dksX6_call_2 16 rfl rfl)
theorem dX6_call_65 : decode cX6_call 65 = .ok (.iadd, 1) := dk_96 (dk_at dksX6_call_2 17 rfl rfl)
theorem dX6_call_66 : decode cX6_call 66 = .ok (.iload_n 2, 1) := dk_28 (dk_at dksX6_call_2 18 rfl rfl)
theorem dX6_call_67 : decode cX6_call 67 = .ok (.iastore, 1) := dk_79 (dk_at dksX6_call_2 19 rfl rfl)
theorem dX6_call_68 : decode cX6_call 68 = .ok (.aload_n 0, 1) := dk_42 (dk_at dksX6_call_2 20 rfl rfl)
theorem dX6_call_69 : decode cX6_call 69 = .ok (.getfield 125, 3) := dk_180 0 125 (dk_at dksX6_call_2 21 rfl rfl)
theorem dX6_call_72 : decode cX6_call 72 = .ok (.iload 8, 2) := dk_21 8 (dk_at dksX6_call_3 0 rfl rfl)
theorem dX6_call_74 : decode cX6_call 74 = .ok (.iconst 2, 1) := dk_5 (dk_at dksX6_call_3 2 rfl rfl)
theorem dX6_call_75 : decode cX6_call 75 = .ok (.iadd, 1) := dk_96 (dk_at dksX6_call_3 3 rfl rfl)
theorem dX6_call_76 : decode cX6_call 76 = .ok (.iload_n 3, 1) := dk_29 (dk_at dksX6_call_3 4 rfl rfl)
theorem dX6_call_77 : decode cX6_call 77 = .ok (.iastore, 1) := dk_79 (dk_at dksX6_call_3 5 rfl rfl)
theorem dX6_call_78 : decode cX6_call 78 = .ok (.aload_n 0, 1) := dk_42 (dk_at dksX6_call_3 6 rfl rfl)
theorem dX6_call_79 : decode cX6_call 79 = .ok (.getfield 125, 3) := dk_180 0 125 (dk_at dksX6_call_3 7 rfl rfl)
theorem dX6_call_82 : decode cX6_call 82 = .ok (.iload 8, 2) := dk_21 8 (dk_at dksX6_call_3 10 rfl rfl)
theorem dX6_call_84 : decode cX6_call 84 = .ok (.iconst 3, 1) := dk_6 (dk_at dksX6_call_3 12 rfl rfl)
theorem dX6_call_85 : decode cX6_call 85 = .ok (.iadd, 1) := dk_96 (dk_at dksX6_call_3 13 rfl rfl)
theorem dX6_call_86 : decode cX6_call 86 = .ok (.iload 4, 2) := dk_21 4 (dk_at dksX6_call_3 14 rfl rfl)
theorem dX6_call_88 : decode cX6_call 88 = .ok (.iastore, 1) := dk_79 (dk_at dksX6_call_3 16 rfl rfl)
theorem dX6_call_89 : decode cX6_call 89 = .ok (.aload_n 0, 1) := dk_42 (dk_at dksX6_call_3 17 rfl rfl)
theorem dX6_call_90 : decode cX6_call 90 = .ok (.getfield 125, 3) := dk_180 0 125 (dk_at dksX6_call_3 18 rfl rfl)
theorem dX6_call_93 : decode cX6_call 93 = .ok (.iload 8, 2) := dk_21 8 (dk_at dksX6_call_3 21 rfl rfl)
theorem dX6_call_95 : decode cX6_call 95 = .ok (.iconst 4, 1) := dk_7 (dk_at dksX6_call_3 23 rfl rfl)
theorem dX6_call_96 : decode cX6_call 96 = .ok (.iadd, 1) := dk_96 (dk_at dksX6_call_4 0 rfl rfl)
theorem dX6_call_97 : decode cX6_call 97 = .ok (.iload 5, 2) := dk_21 5 (dk_at dksX6_call_4 1 rfl rfl)
theorem dX6_call_99 : decode cX6_call 99 = .ok (.iastore, 1) := dk_79 (dk_at dksX6_call_4 3 rfl rfl)
theorem dX6_call_100 : decode cX6_call 100 = .ok (.aload_n 0, 1) := dk_42 (dk_at dksX6_call_4 4 rfl rfl)
theorem dX6_call_101 : decode cX6_call 101 = .ok (.getfield 125, 3) := dk_180 0 125 (dk_at dksX6_call_4 5 rfl rfl)
theorem dX6_call_104 : decode cX6_call 104 = .ok (.iload 8, 2) := dk_21 8 (dk_at dksX6_call_4 8 rfl rfl)
theorem dX6_call_106 : decode cX6_call 106 = .ok (.iconst 5, 1) := dk_8 (dk_at dksX6_call_4 10 rfl rfl)
theorem dX6_call_107 : decode cX6_call 107 = .ok (.iadd, 1) := dk_96 (dk_at dksX6_call_4 11 rfl rfl)
theorem dX6_call_108 : decode cX6_call 108 = .ok (.iload 6, 2) := dk_21 6 (dk_at dksX6_call_4 12 rfl rfl)
theorem dX6_call_110 : decode cX6_call 110 = .ok (.iastore, 1) := dk_79 (dk_at dksX6_call_4 14 rfl rfl)
theorem dX6_call_111 : decode cX6_call 111 = .ok (.aload_n 0, 1) := dk_42 (dk_at dksX6_call_4 15 rfl rfl)
theorem dX6_call_112 : decode cX6_call 112 = .ok (.dup, 1) := dk_89 (dk_at dksX6_call_4 16 rfl rfl)
theorem dX6_call_113 : decode cX6_call 113 = .ok (.getfield 314, 3) := dk_180 1 58 (dk_at dksX6_call_4 17 rfl rfl)
theorem dX6_call_116 : decode cX6_call 116 = .ok (.iconst 1, 1) := dk_4 (dk_at dksX6_call_4 20 rfl rfl)
theorem dX6_call_117 : decode cX6_call 117 = .ok (.iadd, 1) := dk_96 (dk_at dksX6_call_4 21 rfl rfl)
theorem dX6_call_118 : decode cX6_call 118 = .ok (.putfield 314, 3) := dk_181 1 58 (dk_at dksX6_call_5 0 rfl rfl)
theorem dX6_call_121 : decode cX6_call 121 = .ok (.iload 7, 2) := dk_21 7 (dk_at dksX6_call_5 3 rfl rfl)
theorem dX6_call_123 : decode cX6_call 123 = .ok (.ireturn, 1) := dk_172 (dk_at dksX6_call_5 5 rfl rfl)
abbrev cX6_does : ByteArray := prog_21_method_52_code
def yX6_does : MethodName := ⟨RX6, "does", "(IIIIII)I"⟩
def dkwX6_does_8 : List UInt8 := [28, 182, 1, 55, 172]
abbrev dktX6_does_8 : List UInt8 := dkwX6_does_8 ++ []
def dkwX6_does_7 : List UInt8 := [21, 5, 182, 1, 46, 172, 42, 28, 29, 21, 4, 21, 5, 182, 1, 49, 172, 42, 28, 182, 1, 52, 172, 42]
abbrev dktX6_does_7 : List UInt8 := dkwX6_does_7 ++ dktX6_does_8
def dkwX6_does_6 : List UInt8 := [182, 1, 39, 172, 42, 28, 4, 182, 1, 42, 172, 42, 28, 3, 182, 1, 42, 172, 42, 28, 29, 21, 4]
abbrev dktX6_does_6 : List UInt8 := dkwX6_does_6 ++ dktX6_does_7
def dkwX6_does_5 : List UInt8 := [21, 4, 182, 1, 30, 172, 42, 28, 29, 182, 1, 33, 172, 42, 28, 29, 21, 4, 182, 1, 36, 172, 42, 28]
abbrev dktX6_does_5 : List UInt8 := dkwX6_does_5 ++ dktX6_does_6
def dkwX6_does_4 : List UInt8 := [182, 1, 21, 172, 42, 28, 29, 21, 4, 182, 1, 24, 172, 42, 28, 29, 182, 1, 27, 172, 42, 28, 29]
abbrev dktX6_does_4 : List UInt8 := dkwX6_does_4 ++ dktX6_does_5
def dkwX6_does_3 : List UInt8 := [29, 21, 4, 21, 5, 182, 1, 14, 172, 42, 28, 29, 21, 4, 21, 5, 21, 6, 182, 1, 18, 172, 42, 28]
abbrev dktX6_does_3 : List UInt8 := dkwX6_does_3 ++ dktX6_does_4
def dkwX6_does_2 : List UInt8 := [42, 28, 182, 1, 5, 172, 42, 28, 29, 21, 4, 182, 1, 8, 172, 42, 28, 29, 182, 1, 11, 172, 42, 28]
abbrev dktX6_does_2 : List UInt8 := dkwX6_does_2 ++ dktX6_does_3
def dkwX6_does_1 : List UInt8 := [170, 0, 0, 0, 0, 0, 224, 0, 0, 0, 1, 0, 0, 0, 17, 0, 0, 0, 83, 0, 0, 0, 89, 0, 0, 0, 98, 0, 0, 0, 105, 0, 0, 0, 116, 0, 0, 0, 129, 0, 0, 0, 135, 0, 0, 0, 144, 0, 0, 0, 151, 0, 0, 0, 160, 0, 0, 0, 167, 0, 0, 0, 176, 0, 0, 0, 182, 0, 0, 0, 189, 0, 0, 0, 196, 0, 0, 0, 207, 0, 0, 0, 218]
abbrev dktX6_does_1 : List UInt8 := dkwX6_does_1 ++ dktX6_does_2
def dkwX6_does_0 : List UInt8 := [27]
abbrev dktX6_does_0 : List UInt8 := dkwX6_does_0 ++ dktX6_does_1
theorem dksX6_does_0 : cX6_does.data.toList.drop 0 = dktX6_does_0 := by decide +kernel
theorem dksX6_does_1 : cX6_does.data.toList.drop 1 = dktX6_does_1 := dk_seg dksX6_does_0 1 rfl rfl
theorem dksX6_does_2 : cX6_does.data.toList.drop 84 = dktX6_does_2 := dk_seg dksX6_does_1 83 rfl rfl
theorem dksX6_does_3 : cX6_does.data.toList.drop 108 = dktX6_does_3 := dk_seg dksX6_does_2 24 rfl rfl
theorem dksX6_does_4 : cX6_does.data.toList.drop 132 = dktX6_does_4 := dk_seg dksX6_does_3 24 rfl rfl
theorem dksX6_does_5 : cX6_does.data.toList.drop 155 = dktX6_does_5 := dk_seg dksX6_does_4 23 rfl rfl
theorem dksX6_does_6 : cX6_does.data.toList.drop 179 = dktX6_does_6 := dk_seg dksX6_does_5 24 rfl rfl
theorem dksX6_does_7 : cX6_does.data.toList.drop 202 = dktX6_does_7 := dk_seg dksX6_does_6 23 rfl rfl
theorem dksX6_does_8 : cX6_does.data.toList.drop 226 = dktX6_does_8 := dk_seg dksX6_does_7 24 rfl rfl
theorem dX6_does_0 : decode cX6_does 0 = .ok (.iload_n 1, 1) := dk_27 (dk_at dksX6_does_0 0 rfl rfl)
theorem dX6_does_1 : decode cX6_does 1 = .ok (.tableswitch 224 1 17 #[83, 89, 98, 105, 116, 129, 135, 144, 151, 160, 167, 176, 182, 189, 196, 207, 218], 83) := by decide +kernel
theorem dX6_does_84 : decode cX6_does 84 = .ok (.aload_n 0, 1) := dk_42 (dk_at dksX6_does_2 0 rfl rfl)
theorem dX6_does_85 : decode cX6_does 85 = .ok (.iload_n 2, 1) := dk_28 (dk_at dksX6_does_2 1 rfl rfl)
theorem dX6_does_86 : decode cX6_does 86 = .ok (.invokevirtual 261, 3) := dk_182 1 5 (dk_at dksX6_does_2 2 rfl rfl)
theorem dX6_does_89 : decode cX6_does 89 = .ok (.ireturn, 1) := dk_172 (dk_at dksX6_does_2 5 rfl rfl)
theorem dX6_does_90 : decode cX6_does 90 = .ok (.aload_n 0, 1) := dk_42 (dk_at dksX6_does_2 6 rfl rfl)
theorem dX6_does_91 : decode cX6_does 91 = .ok (.iload_n 2, 1) := dk_28 (dk_at dksX6_does_2 7 rfl rfl)
theorem dX6_does_92 : decode cX6_does 92 = .ok (.iload_n 3, 1) := dk_29 (dk_at dksX6_does_2 8 rfl rfl)
theorem dX6_does_93 : decode cX6_does 93 = .ok (.iload 4, 2) := dk_21 4 (dk_at dksX6_does_2 9 rfl rfl)
theorem dX6_does_95 : decode cX6_does 95 = .ok (.invokevirtual 264, 3) := dk_182 1 8 (dk_at dksX6_does_2 11 rfl rfl)
theorem dX6_does_98 : decode cX6_does 98 = .ok (.ireturn, 1) := dk_172 (dk_at dksX6_does_2 14 rfl rfl)
theorem dX6_does_99 : decode cX6_does 99 = .ok (.aload_n 0, 1) := dk_42 (dk_at dksX6_does_2 15 rfl rfl)
theorem dX6_does_100 : decode cX6_does 100 = .ok (.iload_n 2, 1) := dk_28 (dk_at dksX6_does_2 16 rfl rfl)
theorem dX6_does_101 : decode cX6_does 101 = .ok (.iload_n 3, 1) := dk_29 (dk_at dksX6_does_2 17 rfl rfl)
theorem dX6_does_102 : decode cX6_does 102 = .ok (.invokevirtual 267, 3) := dk_182 1 11 (dk_at dksX6_does_2 18 rfl rfl)
theorem dX6_does_105 : decode cX6_does 105 = .ok (.ireturn, 1) := dk_172 (dk_at dksX6_does_2 21 rfl rfl)
theorem dX6_does_106 : decode cX6_does 106 = .ok (.aload_n 0, 1) := dk_42 (dk_at dksX6_does_2 22 rfl rfl)
theorem dX6_does_107 : decode cX6_does 107 = .ok (.iload_n 2, 1) := dk_28 (dk_at dksX6_does_2 23 rfl rfl)
theorem dX6_does_108 : decode cX6_does 108 = .ok (.iload_n 3, 1) := dk_29 (dk_at dksX6_does_3 0 rfl rfl)
theorem dX6_does_109 : decode cX6_does 109 = .ok (.iload 4, 2) := dk_21 4 (dk_at dksX6_does_3 1 rfl rfl)
theorem dX6_does_111 : decode cX6_does 111 = .ok (.iload 5, 2) := dk_21 5 (dk_at dksX6_does_3 3 rfl rfl)
theorem dX6_does_113 : decode cX6_does 113 = .ok (.invokevirtual 270, 3) := dk_182 1 14 (dk_at dksX6_does_3 5 rfl rfl)
theorem dX6_does_116 : decode cX6_does 116 = .ok (.ireturn, 1) := dk_172 (dk_at dksX6_does_3 8 rfl rfl)
theorem dX6_does_117 : decode cX6_does 117 = .ok (.aload_n 0, 1) := dk_42 (dk_at dksX6_does_3 9 rfl rfl)
theorem dX6_does_118 : decode cX6_does 118 = .ok (.iload_n 2, 1) := dk_28 (dk_at dksX6_does_3 10 rfl rfl)
theorem dX6_does_119 : decode cX6_does 119 = .ok (.iload_n 3, 1) := dk_29 (dk_at dksX6_does_3 11 rfl rfl)
theorem dX6_does_120 : decode cX6_does 120 = .ok (.iload 4, 2) := dk_21 4 (dk_at dksX6_does_3 12 rfl rfl)
theorem dX6_does_122 : decode cX6_does 122 = .ok (.iload 5, 2) := dk_21 5 (dk_at dksX6_does_3 14 rfl rfl)
theorem dX6_does_124 : decode cX6_does 124 = .ok (.iload 6, 2) := dk_21 6 (dk_at dksX6_does_3 16 rfl rfl)
theorem dX6_does_126 : decode cX6_does 126 = .ok (.invokevirtual 274, 3) := dk_182 1 18 (dk_at dksX6_does_3 18 rfl rfl)
theorem dX6_does_129 : decode cX6_does 129 = .ok (.ireturn, 1) := dk_172 (dk_at dksX6_does_3 21 rfl rfl)
theorem dX6_does_130 : decode cX6_does 130 = .ok (.aload_n 0, 1) := dk_42 (dk_at dksX6_does_3 22 rfl rfl)
theorem dX6_does_131 : decode cX6_does 131 = .ok (.iload_n 2, 1) := dk_28 (dk_at dksX6_does_3 23 rfl rfl)
theorem dX6_does_132 : decode cX6_does 132 = .ok (.invokevirtual 277, 3) := dk_182 1 21 (dk_at dksX6_does_4 0 rfl rfl)
theorem dX6_does_135 : decode cX6_does 135 = .ok (.ireturn, 1) := dk_172 (dk_at dksX6_does_4 3 rfl rfl)
theorem dX6_does_136 : decode cX6_does 136 = .ok (.aload_n 0, 1) := dk_42 (dk_at dksX6_does_4 4 rfl rfl)
theorem dX6_does_137 : decode cX6_does 137 = .ok (.iload_n 2, 1) := dk_28 (dk_at dksX6_does_4 5 rfl rfl)
theorem dX6_does_138 : decode cX6_does 138 = .ok (.iload_n 3, 1) := dk_29 (dk_at dksX6_does_4 6 rfl rfl)
theorem dX6_does_139 : decode cX6_does 139 = .ok (.iload 4, 2) := dk_21 4 (dk_at dksX6_does_4 7 rfl rfl)
theorem dX6_does_141 : decode cX6_does 141 = .ok (.invokevirtual 280, 3) := dk_182 1 24 (dk_at dksX6_does_4 9 rfl rfl)
theorem dX6_does_144 : decode cX6_does 144 = .ok (.ireturn, 1) := dk_172 (dk_at dksX6_does_4 12 rfl rfl)
theorem dX6_does_145 : decode cX6_does 145 = .ok (.aload_n 0, 1) := dk_42 (dk_at dksX6_does_4 13 rfl rfl)
theorem dX6_does_146 : decode cX6_does 146 = .ok (.iload_n 2, 1) := dk_28 (dk_at dksX6_does_4 14 rfl rfl)
theorem dX6_does_147 : decode cX6_does 147 = .ok (.iload_n 3, 1) := dk_29 (dk_at dksX6_does_4 15 rfl rfl)
theorem dX6_does_148 : decode cX6_does 148 = .ok (.invokevirtual 283, 3) := dk_182 1 27 (dk_at dksX6_does_4 16 rfl rfl)
theorem dX6_does_151 : decode cX6_does 151 = .ok (.ireturn, 1) := dk_172 (dk_at dksX6_does_4 19 rfl rfl)
theorem dX6_does_152 : decode cX6_does 152 = .ok (.aload_n 0, 1) := dk_42 (dk_at dksX6_does_4 20 rfl rfl)
theorem dX6_does_153 : decode cX6_does 153 = .ok (.iload_n 2, 1) := dk_28 (dk_at dksX6_does_4 21 rfl rfl)
theorem dX6_does_154 : decode cX6_does 154 = .ok (.iload_n 3, 1) := dk_29 (dk_at dksX6_does_4 22 rfl rfl)
theorem dX6_does_155 : decode cX6_does 155 = .ok (.iload 4, 2) := dk_21 4 (dk_at dksX6_does_5 0 rfl rfl)
theorem dX6_does_157 : decode cX6_does 157 = .ok (.invokevirtual 286, 3) := dk_182 1 30 (dk_at dksX6_does_5 2 rfl rfl)
theorem dX6_does_160 : decode cX6_does 160 = .ok (.ireturn, 1) := dk_172 (dk_at dksX6_does_5 5 rfl rfl)
theorem dX6_does_161 : decode cX6_does 161 = .ok (.aload_n 0, 1) := dk_42 (dk_at dksX6_does_5 6 rfl rfl)
theorem dX6_does_162 : decode cX6_does 162 = .ok (.iload_n 2, 1) := dk_28 (dk_at dksX6_does_5 7 rfl rfl)
theorem dX6_does_163 : decode cX6_does 163 = .ok (.iload_n 3, 1) := dk_29 (dk_at dksX6_does_5 8 rfl rfl)
theorem dX6_does_164 : decode cX6_does 164 = .ok (.invokevirtual 289, 3) := dk_182 1 33 (dk_at dksX6_does_5 9 rfl rfl)
theorem dX6_does_167 : decode cX6_does 167 = .ok (.ireturn, 1) := dk_172 (dk_at dksX6_does_5 12 rfl rfl)
theorem dX6_does_168 : decode cX6_does 168 = .ok (.aload_n 0, 1) := dk_42 (dk_at dksX6_does_5 13 rfl rfl)
theorem dX6_does_169 : decode cX6_does 169 = .ok (.iload_n 2, 1) := dk_28 (dk_at dksX6_does_5 14 rfl rfl)
theorem dX6_does_170 : decode cX6_does 170 = .ok (.iload_n 3, 1) := dk_29 (dk_at dksX6_does_5 15 rfl rfl)
theorem dX6_does_171 : decode cX6_does 171 = .ok (.iload 4, 2) := dk_21 4 (dk_at dksX6_does_5 16 rfl rfl)
theorem dX6_does_173 : decode cX6_does 173 = .ok (.invokevirtual 292, 3) := dk_182 1 36 (dk_at dksX6_does_5 18 rfl rfl)
theorem dX6_does_176 : decode cX6_does 176 = .ok (.ireturn, 1) := dk_172 (dk_at dksX6_does_5 21 rfl rfl)
theorem dX6_does_177 : decode cX6_does 177 = .ok (.aload_n 0, 1) := dk_42 (dk_at dksX6_does_5 22 rfl rfl)
theorem dX6_does_178 : decode cX6_does 178 = .ok (.iload_n 2, 1) := dk_28 (dk_at dksX6_does_5 23 rfl rfl)
theorem dX6_does_179 : decode cX6_does 179 = .ok (.invokevirtual 295, 3) := dk_182 1 39 (dk_at dksX6_does_6 0 rfl rfl)
theorem dX6_does_182 : decode cX6_does 182 = .ok (.ireturn, 1) := dk_172 (dk_at dksX6_does_6 3 rfl rfl)
theorem dX6_does_183 : decode cX6_does 183 = .ok (.aload_n 0, 1) := dk_42 (dk_at dksX6_does_6 4 rfl rfl)
theorem dX6_does_184 : decode cX6_does 184 = .ok (.iload_n 2, 1) := dk_28 (dk_at dksX6_does_6 5 rfl rfl)
theorem dX6_does_185 : decode cX6_does 185 = .ok (.iconst 1, 1) := dk_4 (dk_at dksX6_does_6 6 rfl rfl)
theorem dX6_does_186 : decode cX6_does 186 = .ok (.invokevirtual 298, 3) := dk_182 1 42 (dk_at dksX6_does_6 7 rfl rfl)
theorem dX6_does_189 : decode cX6_does 189 = .ok (.ireturn, 1) := dk_172 (dk_at dksX6_does_6 10 rfl rfl)
theorem dX6_does_190 : decode cX6_does 190 = .ok (.aload_n 0, 1) := dk_42 (dk_at dksX6_does_6 11 rfl rfl)
theorem dX6_does_191 : decode cX6_does 191 = .ok (.iload_n 2, 1) := dk_28 (dk_at dksX6_does_6 12 rfl rfl)
theorem dX6_does_192 : decode cX6_does 192 = .ok (.iconst 0, 1) := dk_3 (dk_at dksX6_does_6 13 rfl rfl)
theorem dX6_does_193 : decode cX6_does 193 = .ok (.invokevirtual 298, 3) := dk_182 1 42 (dk_at dksX6_does_6 14 rfl rfl)
theorem dX6_does_196 : decode cX6_does 196 = .ok (.ireturn, 1) := dk_172 (dk_at dksX6_does_6 17 rfl rfl)
theorem dX6_does_197 : decode cX6_does 197 = .ok (.aload_n 0, 1) := dk_42 (dk_at dksX6_does_6 18 rfl rfl)
theorem dX6_does_198 : decode cX6_does 198 = .ok (.iload_n 2, 1) := dk_28 (dk_at dksX6_does_6 19 rfl rfl)
theorem dX6_does_199 : decode cX6_does 199 = .ok (.iload_n 3, 1) := dk_29 (dk_at dksX6_does_6 20 rfl rfl)
theorem dX6_does_200 : decode cX6_does 200 = .ok (.iload 4, 2) := dk_21 4 (dk_at dksX6_does_6 21 rfl rfl)
theorem dX6_does_202 : decode cX6_does 202 = .ok (.iload 5, 2) := dk_21 5 (dk_at dksX6_does_7 0 rfl rfl)
theorem dX6_does_204 : decode cX6_does 204 = .ok (.invokevirtual 302, 3) := dk_182 1 46 (dk_at dksX6_does_7 2 rfl rfl)
theorem dX6_does_207 : decode cX6_does 207 = .ok (.ireturn, 1) := dk_172 (dk_at dksX6_does_7 5 rfl rfl)
theorem dX6_does_208 : decode cX6_does 208 = .ok (.aload_n 0, 1) := dk_42 (dk_at dksX6_does_7 6 rfl rfl)
theorem dX6_does_209 : decode cX6_does 209 = .ok (.iload_n 2, 1) := dk_28 (dk_at dksX6_does_7 7 rfl rfl)
theorem dX6_does_210 : decode cX6_does 210 = .ok (.iload_n 3, 1) := dk_29 (dk_at dksX6_does_7 8 rfl rfl)
theorem dX6_does_211 : decode cX6_does 211 = .ok (.iload 4, 2) := dk_21 4 (dk_at dksX6_does_7 9 rfl rfl)
theorem dX6_does_213 : decode cX6_does 213 = .ok (.iload 5, 2) := dk_21 5 (dk_at dksX6_does_7 11 rfl rfl)
theorem dX6_does_215 : decode cX6_does 215 = .ok (.invokevirtual 305, 3) := dk_182 1 49 (dk_at dksX6_does_7 13 rfl rfl)
theorem dX6_does_218 : decode cX6_does 218 = .ok (.ireturn, 1) := dk_172 (dk_at dksX6_does_7 16 rfl rfl)
theorem dX6_does_219 : decode cX6_does 219 = .ok (.aload_n 0, 1) := dk_42 (dk_at dksX6_does_7 17 rfl rfl)
theorem dX6_does_220 : decode cX6_does 220 = .ok (.iload_n 2, 1) := dk_28 (dk_at dksX6_does_7 18 rfl rfl)
theorem dX6_does_221 : decode cX6_does 221 = .ok (.invokevirtual 308, 3) := dk_182 1 52 (dk_at dksX6_does_7 19 rfl rfl)
theorem dX6_does_224 : decode cX6_does 224 = .ok (.ireturn, 1) := dk_172 (dk_at dksX6_does_7 22 rfl rfl)
theorem dX6_does_225 : decode cX6_does 225 = .ok (.aload_n 0, 1) := dk_42 (dk_at dksX6_does_7 23 rfl rfl)
theorem dX6_does_226 : decode cX6_does 226 = .ok (.iload_n 2, 1) := dk_28 (dk_at dksX6_does_8 0 rfl rfl)
theorem dX6_does_227 : decode cX6_does 227 = .ok (.invokevirtual 311, 3) := dk_182 1 55 (dk_at dksX6_does_8 1 rfl rfl)
theorem dX6_does_230 : decode cX6_does 230 = .ok (.ireturn, 1) := dk_172 (dk_at dksX6_does_8 4 rfl rfl)
abbrev cX6_actField : ByteArray := prog_21_method_6_code
def yX6_actField : MethodName := ⟨RX6, "actField", "(I)I"⟩
def dkwX6_actField_2 : List UInt8 := [181, 0, 138, 42, 180, 0, 138, 4, 100, 172]
abbrev dktX6_actField_2 : List UInt8 := dkwX6_actField_2 ++ []
def dkwX6_actField_1 : List UInt8 := [42, 180, 0, 138, 27, 79, 42, 180, 0, 13, 42, 180, 0, 138, 3, 79, 42, 89, 180, 0, 138, 4, 96]
abbrev dktX6_actField_1 : List UInt8 := dkwX6_actField_1 ++ dktX6_actField_2
def dkwX6_actField_0 : List UInt8 := [27, 155, 0, 17, 27, 5, 163, 0, 12, 42, 180, 0, 138, 16, 8, 160, 0, 5, 2, 172, 42, 180, 0, 7]
abbrev dktX6_actField_0 : List UInt8 := dkwX6_actField_0 ++ dktX6_actField_1
theorem dksX6_actField_0 : cX6_actField.data.toList.drop 0 = dktX6_actField_0 := by decide +kernel
theorem dksX6_actField_1 : cX6_actField.data.toList.drop 24 = dktX6_actField_1 := dk_seg dksX6_actField_0 24 rfl rfl
theorem dksX6_actField_2 : cX6_actField.data.toList.drop 47 = dktX6_actField_2 := dk_seg dksX6_actField_1 23 rfl rfl
theorem dX6_actField_0 : decode cX6_actField 0 = .ok (.iload_n 1, 1) := dk_27 (dk_at dksX6_actField_0 0 rfl rfl)
theorem dX6_actField_1 : decode cX6_actField 1 = .ok (.ifCond .lt 17, 3) := dk_155 0 17 (dk_at dksX6_actField_0 1 rfl rfl)
theorem dX6_actField_4 : decode cX6_actField 4 = .ok (.iload_n 1, 1) := dk_27 (dk_at dksX6_actField_0 4 rfl rfl)
theorem dX6_actField_5 : decode cX6_actField 5 = .ok (.iconst 2, 1) := dk_5 (dk_at dksX6_actField_0 5 rfl rfl)
theorem dX6_actField_6 : decode cX6_actField 6 = .ok (.if_icmp .gt 12, 3) := dk_163 0 12 (dk_at dksX6_actField_0 6 rfl rfl)
theorem dX6_actField_9 : decode cX6_actField 9 = .ok (.aload_n 0, 1) := dk_42 (dk_at dksX6_actField_0 9 rfl rfl)
theorem dX6_actField_10 : decode cX6_actField 10 = .ok (.getfield 138, 3) := dk_180 0 138 (dk_at dksX6_actField_0 10 rfl rfl)
theorem dX6_actField_13 : decode cX6_actField 13 = .ok (.bipush 8, 2) := dk_16 8 (dk_at dksX6_actField_0 13 rfl rfl)
theorem dX6_actField_15 : decode cX6_actField 15 = .ok (.if_icmp .ne 5, 3) := dk_160 0 5 (dk_at dksX6_actField_0 15 rfl rfl)
theorem dX6_actField_18 : decode cX6_actField 18 = .ok (.iconst (-1), 1) := dk_2 (dk_at dksX6_actField_0 18 rfl rfl)
theorem dX6_actField_19 : decode cX6_actField 19 = .ok (.ireturn, 1) := dk_172 (dk_at dksX6_actField_0 19 rfl rfl)
theorem dX6_actField_20 : decode cX6_actField 20 = .ok (.aload_n 0, 1) := dk_42 (dk_at dksX6_actField_0 20 rfl rfl)
theorem dX6_actField_21 : decode cX6_actField 21 = .ok (.getfield 7, 3) := dk_180 0 7 (dk_at dksX6_actField_0 21 rfl rfl)
theorem dX6_actField_24 : decode cX6_actField 24 = .ok (.aload_n 0, 1) := dk_42 (dk_at dksX6_actField_1 0 rfl rfl)
theorem dX6_actField_25 : decode cX6_actField 25 = .ok (.getfield 138, 3) := dk_180 0 138 (dk_at dksX6_actField_1 1 rfl rfl)
theorem dX6_actField_28 : decode cX6_actField 28 = .ok (.iload_n 1, 1) := dk_27 (dk_at dksX6_actField_1 4 rfl rfl)
theorem dX6_actField_29 : decode cX6_actField 29 = .ok (.iastore, 1) := dk_79 (dk_at dksX6_actField_1 5 rfl rfl)
theorem dX6_actField_30 : decode cX6_actField 30 = .ok (.aload_n 0, 1) := dk_42 (dk_at dksX6_actField_1 6 rfl rfl)
theorem dX6_actField_31 : decode cX6_actField 31 = .ok (.getfield 13, 3) := dk_180 0 13 (dk_at dksX6_actField_1 7 rfl rfl)
theorem dX6_actField_34 : decode cX6_actField 34 = .ok (.aload_n 0, 1) := dk_42 (dk_at dksX6_actField_1 10 rfl rfl)
theorem dX6_actField_35 : decode cX6_actField 35 = .ok (.getfield 138, 3) := dk_180 0 138 (dk_at dksX6_actField_1 11 rfl rfl)
theorem dX6_actField_38 : decode cX6_actField 38 = .ok (.iconst 0, 1) := dk_3 (dk_at dksX6_actField_1 14 rfl rfl)
theorem dX6_actField_39 : decode cX6_actField 39 = .ok (.iastore, 1) := dk_79 (dk_at dksX6_actField_1 15 rfl rfl)
theorem dX6_actField_40 : decode cX6_actField 40 = .ok (.aload_n 0, 1) := dk_42 (dk_at dksX6_actField_1 16 rfl rfl)
theorem dX6_actField_41 : decode cX6_actField 41 = .ok (.dup, 1) := dk_89 (dk_at dksX6_actField_1 17 rfl rfl)
theorem dX6_actField_42 : decode cX6_actField 42 = .ok (.getfield 138, 3) := dk_180 0 138 (dk_at dksX6_actField_1 18 rfl rfl)
theorem dX6_actField_45 : decode cX6_actField 45 = .ok (.iconst 1, 1) := dk_4 (dk_at dksX6_actField_1 21 rfl rfl)
theorem dX6_actField_46 : decode cX6_actField 46 = .ok (.iadd, 1) := dk_96 (dk_at dksX6_actField_1 22 rfl rfl)
theorem dX6_actField_47 : decode cX6_actField 47 = .ok (.putfield 138, 3) := dk_181 0 138 (dk_at dksX6_actField_2 0 rfl rfl)
theorem dX6_actField_50 : decode cX6_actField 50 = .ok (.aload_n 0, 1) := dk_42 (dk_at dksX6_actField_2 3 rfl rfl)
theorem dX6_actField_51 : decode cX6_actField 51 = .ok (.getfield 138, 3) := dk_180 0 138 (dk_at dksX6_actField_2 4 rfl rfl)
theorem dX6_actField_54 : decode cX6_actField 54 = .ok (.iconst 1, 1) := dk_4 (dk_at dksX6_actField_2 7 rfl rfl)
theorem dX6_actField_55 : decode cX6_actField 55 = .ok (.isub, 1) := dk_100 (dk_at dksX6_actField_2 8 rfl rfl)
theorem dX6_actField_56 : decode cX6_actField 56 = .ok (.ireturn, 1) := dk_172 (dk_at dksX6_actField_2 9 rfl rfl)
abbrev cX6_actRow : ByteArray := prog_21_method_7_code
def yX6_actRow : MethodName := ⟨RX6, "actRow", "(III)I"⟩
def dkwX6_actRow_5 : List UInt8 := [180, 0, 13, 27, 92, 46, 4, 96, 79, 42, 180, 0, 13, 27, 46, 4, 100, 172]
abbrev dktX6_actRow_5 : List UInt8 := dkwX6_actRow_5 ++ []
def dkwX6_actRow_4 : List UInt8 := [162, 0, 23, 42, 180, 0, 26, 16, 30, 21, 4, 104, 21, 5, 96, 3, 79, 132, 5, 1, 167, 255, 232, 42]
abbrev dktX6_actRow_4 : List UInt8 := dkwX6_actRow_4 ++ dktX6_actRow_5
def dkwX6_actRow_3 : List UInt8 := [42, 180, 0, 19, 21, 4, 29, 79, 42, 180, 0, 22, 21, 4, 3, 84, 3, 54, 5, 21, 5, 16, 30]
abbrev dktX6_actRow_3 : List UInt8 := dkwX6_actRow_3 ++ dktX6_actRow_4
def dkwX6_actRow_2 : List UInt8 := [16, 251, 172, 16, 12, 27, 104, 42, 180, 0, 13, 27, 46, 96, 54, 4, 42, 180, 0, 16, 21, 4, 28, 79]
abbrev dktX6_actRow_2 : List UInt8 := dkwX6_actRow_2 ++ dktX6_actRow_3
def dkwX6_actRow_1 : List UInt8 := [42, 180, 0, 13, 27, 46, 16, 12, 159, 0, 9, 29, 16, 30, 164, 0, 5, 2, 172, 29, 156, 0, 6]
abbrev dktX6_actRow_1 : List UInt8 := dkwX6_actRow_1 ++ dktX6_actRow_2
def dkwX6_actRow_0 : List UInt8 := [27, 155, 0, 11, 27, 42, 180, 0, 138, 161, 0, 6, 16, 254, 172, 28, 155, 0, 25, 28, 6, 163, 0, 20]
abbrev dktX6_actRow_0 : List UInt8 := dkwX6_actRow_0 ++ dktX6_actRow_1
theorem dksX6_actRow_0 : cX6_actRow.data.toList.drop 0 = dktX6_actRow_0 := by decide +kernel
theorem dksX6_actRow_1 : cX6_actRow.data.toList.drop 24 = dktX6_actRow_1 := dk_seg dksX6_actRow_0 24 rfl rfl
theorem dksX6_actRow_2 : cX6_actRow.data.toList.drop 47 = dktX6_actRow_2 := dk_seg dksX6_actRow_1 23 rfl rfl
theorem dksX6_actRow_3 : cX6_actRow.data.toList.drop 71 = dktX6_actRow_3 := dk_seg dksX6_actRow_2 24 rfl rfl
theorem dksX6_actRow_4 : cX6_actRow.data.toList.drop 94 = dktX6_actRow_4 := dk_seg dksX6_actRow_3 23 rfl rfl
theorem dksX6_actRow_5 : cX6_actRow.data.toList.drop 118 = dktX6_actRow_5 := dk_seg dksX6_actRow_4 24 rfl rfl
theorem dX6_actRow_0 : decode cX6_actRow 0 = .ok (.iload_n 1, 1) := dk_27 (dk_at dksX6_actRow_0 0 rfl rfl)
theorem dX6_actRow_1 : decode cX6_actRow 1 = .ok (.ifCond .lt 11, 3) := dk_155 0 11 (dk_at dksX6_actRow_0 1 rfl rfl)
theorem dX6_actRow_4 : decode cX6_actRow 4 = .ok (.iload_n 1, 1) := dk_27 (dk_at dksX6_actRow_0 4 rfl rfl)
theorem dX6_actRow_5 : decode cX6_actRow 5 = .ok (.aload_n 0, 1) := dk_42 (dk_at dksX6_actRow_0 5 rfl rfl)
theorem dX6_actRow_6 : decode cX6_actRow 6 = .ok (.getfield 138, 3) := dk_180 0 138 (dk_at dksX6_actRow_0 6 rfl rfl)
theorem dX6_actRow_9 : decode cX6_actRow 9 = .ok (.if_icmp .lt 6, 3) := dk_161 0 6 (dk_at dksX6_actRow_0 9 rfl rfl)
theorem dX6_actRow_12 : decode cX6_actRow 12 = .ok (.bipush (-2), 2) := dk_16 254 (dk_at dksX6_actRow_0 12 rfl rfl)
theorem dX6_actRow_14 : decode cX6_actRow 14 = .ok (.ireturn, 1) := dk_172 (dk_at dksX6_actRow_0 14 rfl rfl)
theorem dX6_actRow_15 : decode cX6_actRow 15 = .ok (.iload_n 2, 1) := dk_28 (dk_at dksX6_actRow_0 15 rfl rfl)
theorem dX6_actRow_16 : decode cX6_actRow 16 = .ok (.ifCond .lt 25, 3) := dk_155 0 25 (dk_at dksX6_actRow_0 16 rfl rfl)
theorem dX6_actRow_19 : decode cX6_actRow 19 = .ok (.iload_n 2, 1) := dk_28 (dk_at dksX6_actRow_0 19 rfl rfl)
theorem dX6_actRow_20 : decode cX6_actRow 20 = .ok (.iconst 3, 1) := dk_6 (dk_at dksX6_actRow_0 20 rfl rfl)
theorem dX6_actRow_21 : decode cX6_actRow 21 = .ok (.if_icmp .gt 20, 3) := dk_163 0 20 (dk_at dksX6_actRow_0 21 rfl rfl)
theorem dX6_actRow_24 : decode cX6_actRow 24 = .ok (.aload_n 0, 1) := dk_42 (dk_at dksX6_actRow_1 0 rfl rfl)
theorem dX6_actRow_25 : decode cX6_actRow 25 = .ok (.getfield 13, 3) := dk_180 0 13 (dk_at dksX6_actRow_1 1 rfl rfl)
theorem dX6_actRow_28 : decode cX6_actRow 28 = .ok (.iload_n 1, 1) := dk_27 (dk_at dksX6_actRow_1 4 rfl rfl)
theorem dX6_actRow_29 : decode cX6_actRow 29 = .ok (.iaload, 1) := dk_46 (dk_at dksX6_actRow_1 5 rfl rfl)
theorem dX6_actRow_30 : decode cX6_actRow 30 = .ok (.bipush 12, 2) := dk_16 12 (dk_at dksX6_actRow_1 6 rfl rfl)
theorem dX6_actRow_32 : decode cX6_actRow 32 = .ok (.if_icmp .eq 9, 3) := dk_159 0 9 (dk_at dksX6_actRow_1 8 rfl rfl)
theorem dX6_actRow_35 : decode cX6_actRow 35 = .ok (.iload_n 3, 1) := dk_29 (dk_at dksX6_actRow_1 11 rfl rfl)
theorem dX6_actRow_36 : decode cX6_actRow 36 = .ok (.bipush 30, 2) := dk_16 30 (dk_at dksX6_actRow_1 12 rfl rfl)
theorem dX6_actRow_38 : decode cX6_actRow 38 = .ok (.if_icmp .le 5, 3) := dk_164 0 5 (dk_at dksX6_actRow_1 14 rfl rfl)
theorem dX6_actRow_41 : decode cX6_actRow 41 = .ok (.iconst (-1), 1) := dk_2 (dk_at dksX6_actRow_1 17 rfl rfl)
theorem dX6_actRow_42 : decode cX6_actRow 42 = .ok (.ireturn, 1) := dk_172 (dk_at dksX6_actRow_1 18 rfl rfl)
theorem dX6_actRow_43 : decode cX6_actRow 43 = .ok (.iload_n 3, 1) := dk_29 (dk_at dksX6_actRow_1 19 rfl rfl)
theorem dX6_actRow_44 : decode cX6_actRow 44 = .ok (.ifCond .ge 6, 3) := dk_156 0 6 (dk_at dksX6_actRow_1 20 rfl rfl)
theorem dX6_actRow_47 : decode cX6_actRow 47 = .ok (.bipush (-5), 2) := dk_16 251 (dk_at dksX6_actRow_2 0 rfl rfl)
theorem dX6_actRow_49 : decode cX6_actRow 49 = .ok (.ireturn, 1) := dk_172 (dk_at dksX6_actRow_2 2 rfl rfl)
theorem dX6_actRow_50 : decode cX6_actRow 50 = .ok (.bipush 12, 2) := dk_16 12 (dk_at dksX6_actRow_2 3 rfl rfl)
theorem dX6_actRow_52 : decode cX6_actRow 52 = .ok (.iload_n 1, 1) := dk_27 (dk_at dksX6_actRow_2 5 rfl rfl)
theorem dX6_actRow_53 : decode cX6_actRow 53 = .ok (.imul, 1) := dk_104 (dk_at dksX6_actRow_2 6 rfl rfl)
theorem dX6_actRow_54 : decode cX6_actRow 54 = .ok (.aload_n 0, 1) := dk_42 (dk_at dksX6_actRow_2 7 rfl rfl)
theorem dX6_actRow_55 : decode cX6_actRow 55 = .ok (.getfield 13, 3) := dk_180 0 13 (dk_at dksX6_actRow_2 8 rfl rfl)
theorem dX6_actRow_58 : decode cX6_actRow 58 = .ok (.iload_n 1, 1) := dk_27 (dk_at dksX6_actRow_2 11 rfl rfl)
theorem dX6_actRow_59 : decode cX6_actRow 59 = .ok (.iaload, 1) := dk_46 (dk_at dksX6_actRow_2 12 rfl rfl)
theorem dX6_actRow_60 : decode cX6_actRow 60 = .ok (.iadd, 1) := dk_96 (dk_at dksX6_actRow_2 13 rfl rfl)
theorem dX6_actRow_61 : decode cX6_actRow 61 = .ok (.istore 4, 2) := dk_54 4 (dk_at dksX6_actRow_2 14 rfl rfl)
theorem dX6_actRow_63 : decode cX6_actRow 63 = .ok (.aload_n 0, 1) := dk_42 (dk_at dksX6_actRow_2 16 rfl rfl)
theorem dX6_actRow_64 : decode cX6_actRow 64 = .ok (.getfield 16, 3) := dk_180 0 16 (dk_at dksX6_actRow_2 17 rfl rfl)
theorem dX6_actRow_67 : decode cX6_actRow 67 = .ok (.iload 4, 2) := dk_21 4 (dk_at dksX6_actRow_2 20 rfl rfl)
theorem dX6_actRow_69 : decode cX6_actRow 69 = .ok (.iload_n 2, 1) := dk_28 (dk_at dksX6_actRow_2 22 rfl rfl)
theorem dX6_actRow_70 : decode cX6_actRow 70 = .ok (.iastore, 1) := dk_79 (dk_at dksX6_actRow_2 23 rfl rfl)
theorem dX6_actRow_71 : decode cX6_actRow 71 = .ok (.aload_n 0, 1) := dk_42 (dk_at dksX6_actRow_3 0 rfl rfl)
theorem dX6_actRow_72 : decode cX6_actRow 72 = .ok (.getfield 19, 3) := dk_180 0 19 (dk_at dksX6_actRow_3 1 rfl rfl)
theorem dX6_actRow_75 : decode cX6_actRow 75 = .ok (.iload 4, 2) := dk_21 4 (dk_at dksX6_actRow_3 4 rfl rfl)
theorem dX6_actRow_77 : decode cX6_actRow 77 = .ok (.iload_n 3, 1) := dk_29 (dk_at dksX6_actRow_3 6 rfl rfl)
theorem dX6_actRow_78 : decode cX6_actRow 78 = .ok (.iastore, 1) := dk_79 (dk_at dksX6_actRow_3 7 rfl rfl)
theorem dX6_actRow_79 : decode cX6_actRow 79 = .ok (.aload_n 0, 1) := dk_42 (dk_at dksX6_actRow_3 8 rfl rfl)
theorem dX6_actRow_80 : decode cX6_actRow 80 = .ok (.getfield 22, 3) := dk_180 0 22 (dk_at dksX6_actRow_3 9 rfl rfl)
theorem dX6_actRow_83 : decode cX6_actRow 83 = .ok (.iload 4, 2) := dk_21 4 (dk_at dksX6_actRow_3 12 rfl rfl)
theorem dX6_actRow_85 : decode cX6_actRow 85 = .ok (.iconst 0, 1) := dk_3 (dk_at dksX6_actRow_3 14 rfl rfl)
theorem dX6_actRow_86 : decode cX6_actRow 86 = .ok (.bastore, 1) := dk_84 (dk_at dksX6_actRow_3 15 rfl rfl)
theorem dX6_actRow_87 : decode cX6_actRow 87 = .ok (.iconst 0, 1) := dk_3 (dk_at dksX6_actRow_3 16 rfl rfl)
theorem dX6_actRow_88 : decode cX6_actRow 88 = .ok (.istore 5, 2) := dk_54 5 (dk_at dksX6_actRow_3 17 rfl rfl)
theorem dX6_actRow_90 : decode cX6_actRow 90 = .ok (.iload 5, 2) := dk_21 5 (dk_at dksX6_actRow_3 19 rfl rfl)
theorem dX6_actRow_92 : decode cX6_actRow 92 = .ok (.bipush 30, 2) := dk_16 30 (dk_at dksX6_actRow_3 21 rfl rfl)
theorem dX6_actRow_94 : decode cX6_actRow 94 = .ok (.if_icmp .ge 23, 3) := dk_162 0 23 (dk_at dksX6_actRow_4 0 rfl rfl)
theorem dX6_actRow_97 : decode cX6_actRow 97 = .ok (.aload_n 0, 1) := dk_42 (dk_at dksX6_actRow_4 3 rfl rfl)
theorem dX6_actRow_98 : decode cX6_actRow 98 = .ok (.getfield 26, 3) := dk_180 0 26 (dk_at dksX6_actRow_4 4 rfl rfl)
theorem dX6_actRow_101 : decode cX6_actRow 101 = .ok (.bipush 30, 2) := dk_16 30 (dk_at dksX6_actRow_4 7 rfl rfl)
theorem dX6_actRow_103 : decode cX6_actRow 103 = .ok (.iload 4, 2) := dk_21 4 (dk_at dksX6_actRow_4 9 rfl rfl)
theorem dX6_actRow_105 : decode cX6_actRow 105 = .ok (.imul, 1) := dk_104 (dk_at dksX6_actRow_4 11 rfl rfl)
theorem dX6_actRow_106 : decode cX6_actRow 106 = .ok (.iload 5, 2) := dk_21 5 (dk_at dksX6_actRow_4 12 rfl rfl)
theorem dX6_actRow_108 : decode cX6_actRow 108 = .ok (.iadd, 1) := dk_96 (dk_at dksX6_actRow_4 14 rfl rfl)
theorem dX6_actRow_109 : decode cX6_actRow 109 = .ok (.iconst 0, 1) := dk_3 (dk_at dksX6_actRow_4 15 rfl rfl)
theorem dX6_actRow_110 : decode cX6_actRow 110 = .ok (.iastore, 1) := dk_79 (dk_at dksX6_actRow_4 16 rfl rfl)
theorem dX6_actRow_111 : decode cX6_actRow 111 = .ok (.iinc 5 1, 3) := dk_132 5 1 (dk_at dksX6_actRow_4 17 rfl rfl)
theorem dX6_actRow_114 : decode cX6_actRow 114 = .ok (.goto (-24), 3) := dk_167 255 232 (dk_at dksX6_actRow_4 20 rfl rfl)
theorem dX6_actRow_117 : decode cX6_actRow 117 = .ok (.aload_n 0, 1) := dk_42 (dk_at dksX6_actRow_4 23 rfl rfl)
theorem dX6_actRow_118 : decode cX6_actRow 118 = .ok (.getfield 13, 3) := dk_180 0 13 (dk_at dksX6_actRow_5 0 rfl rfl)
theorem dX6_actRow_121 : decode cX6_actRow 121 = .ok (.iload_n 1, 1) := dk_27 (dk_at dksX6_actRow_5 3 rfl rfl)
theorem dX6_actRow_122 : decode cX6_actRow 122 = .ok (.dup2, 1) := dk_92 (dk_at dksX6_actRow_5 4 rfl rfl)
theorem dX6_actRow_123 : decode cX6_actRow 123 = .ok (.iaload, 1) := dk_46 (dk_at dksX6_actRow_5 5 rfl rfl)
theorem dX6_actRow_124 : decode cX6_actRow 124 = .ok (.iconst 1, 1) := dk_4 (dk_at dksX6_actRow_5 6 rfl rfl)
theorem dX6_actRow_125 : decode cX6_actRow 125 = .ok (.iadd, 1) := dk_96 (dk_at dksX6_actRow_5 7 rfl rfl)
theorem dX6_actRow_126 : decode cX6_actRow 126 = .ok (.iastore, 1) := dk_79 (dk_at dksX6_actRow_5 8 rfl rfl)
theorem dX6_actRow_127 : decode cX6_actRow 127 = .ok (.aload_n 0, 1) := dk_42 (dk_at dksX6_actRow_5 9 rfl rfl)
theorem dX6_actRow_128 : decode cX6_actRow 128 = .ok (.getfield 13, 3) := dk_180 0 13 (dk_at dksX6_actRow_5 10 rfl rfl)
theorem dX6_actRow_131 : decode cX6_actRow 131 = .ok (.iload_n 1, 1) := dk_27 (dk_at dksX6_actRow_5 13 rfl rfl)
theorem dX6_actRow_132 : decode cX6_actRow 132 = .ok (.iaload, 1) := dk_46 (dk_at dksX6_actRow_5 14 rfl rfl)
theorem dX6_actRow_133 : decode cX6_actRow 133 = .ok (.iconst 1, 1) := dk_4 (dk_at dksX6_actRow_5 15 rfl rfl)
theorem dX6_actRow_134 : decode cX6_actRow 134 = .ok (.isub, 1) := dk_100 (dk_at dksX6_actRow_5 16 rfl rfl)
theorem dX6_actRow_135 : decode cX6_actRow 135 = .ok (.ireturn, 1) := dk_172 (dk_at dksX6_actRow_5 17 rfl rfl)
abbrev cX6_actTear : ByteArray := prog_21_method_8_code
def yX6_actTear : MethodName := ⟨RX6, "actTear", "(II)I"⟩
def dkwX6_actTear_3 : List UInt8 := [96, 4, 84, 3, 172]
abbrev dktX6_actTear_3 : List UInt8 := dkwX6_actTear_3 ++ []
def dkwX6_actTear_2 : List UInt8 := [46, 16, 10, 161, 0, 6, 16, 250, 172, 132, 4, 1, 167, 255, 212, 42, 180, 0, 22, 16, 12, 27, 104, 28]
abbrev dktX6_actTear_2 : List UInt8 := dkwX6_actTear_2 ++ dktX6_actTear_3
def dkwX6_actTear_1 : List UInt8 := [27, 104, 28, 96, 46, 162, 0, 34, 42, 180, 0, 26, 16, 30, 16, 12, 27, 104, 28, 96, 104, 21, 4, 96]
abbrev dktX6_actTear_1 : List UInt8 := dkwX6_actTear_1 ++ dktX6_actTear_2
def dkwX6_actTear_0 : List UInt8 := [42, 27, 28, 182, 0, 153, 62, 29, 153, 0, 5, 29, 172, 3, 54, 4, 21, 4, 42, 180, 0, 19, 16, 12]
abbrev dktX6_actTear_0 : List UInt8 := dkwX6_actTear_0 ++ dktX6_actTear_1
theorem dksX6_actTear_0 : cX6_actTear.data.toList.drop 0 = dktX6_actTear_0 := by decide +kernel
theorem dksX6_actTear_1 : cX6_actTear.data.toList.drop 24 = dktX6_actTear_1 := dk_seg dksX6_actTear_0 24 rfl rfl
theorem dksX6_actTear_2 : cX6_actTear.data.toList.drop 48 = dktX6_actTear_2 := dk_seg dksX6_actTear_1 24 rfl rfl
theorem dksX6_actTear_3 : cX6_actTear.data.toList.drop 72 = dktX6_actTear_3 := dk_seg dksX6_actTear_2 24 rfl rfl
theorem dX6_actTear_0 : decode cX6_actTear 0 = .ok (.aload_n 0, 1) := dk_42 (dk_at dksX6_actTear_0 0 rfl rfl)
theorem dX6_actTear_1 : decode cX6_actTear 1 = .ok (.iload_n 1, 1) := dk_27 (dk_at dksX6_actTear_0 1 rfl rfl)
theorem dX6_actTear_2 : decode cX6_actTear 2 = .ok (.iload_n 2, 1) := dk_28 (dk_at dksX6_actTear_0 2 rfl rfl)
theorem dX6_actTear_3 : decode cX6_actTear 3 = .ok (.invokevirtual 153, 3) := dk_182 0 153 (dk_at dksX6_actTear_0 3 rfl rfl)
theorem dX6_actTear_6 : decode cX6_actTear 6 = .ok (.istore_n 3, 1) := dk_62 (dk_at dksX6_actTear_0 6 rfl rfl)
theorem dX6_actTear_7 : decode cX6_actTear 7 = .ok (.iload_n 3, 1) := dk_29 (dk_at dksX6_actTear_0 7 rfl rfl)
theorem dX6_actTear_8 : decode cX6_actTear 8 = .ok (.ifCond .eq 5, 3) := dk_153 0 5 (dk_at dksX6_actTear_0 8 rfl rfl)
theorem dX6_actTear_11 : decode cX6_actTear 11 = .ok (.iload_n 3, 1) := dk_29 (dk_at dksX6_actTear_0 11 rfl rfl)
theorem dX6_actTear_12 : decode cX6_actTear 12 = .ok (.ireturn, 1) := dk_172 (dk_at dksX6_actTear_0 12 rfl rfl)
theorem dX6_actTear_13 : decode cX6_actTear 13 = .ok (.iconst 0, 1) := dk_3 (dk_at dksX6_actTear_0 13 rfl rfl)
theorem dX6_actTear_14 : decode cX6_actTear 14 = .ok (.istore 4, 2) := dk_54 4 (dk_at dksX6_actTear_0 14 rfl rfl)
theorem dX6_actTear_16 : decode cX6_actTear 16 = .ok (.iload 4, 2) := dk_21 4 (dk_at dksX6_actTear_0 16 rfl rfl)
theorem dX6_actTear_18 : decode cX6_actTear 18 = .ok (.aload_n 0, 1) := dk_42 (dk_at dksX6_actTear_0 18 rfl rfl)
theorem dX6_actTear_19 : decode cX6_actTear 19 = .ok (.getfield 19, 3) := dk_180 0 19 (dk_at dksX6_actTear_0 19 rfl rfl)
theorem dX6_actTear_22 : decode cX6_actTear 22 = .ok (.bipush 12, 2) := dk_16 12 (dk_at dksX6_actTear_0 22 rfl rfl)
theorem dX6_actTear_24 : decode cX6_actTear 24 = .ok (.iload_n 1, 1) := dk_27 (dk_at dksX6_actTear_1 0 rfl rfl)
theorem dX6_actTear_25 : decode cX6_actTear 25 = .ok (.imul, 1) := dk_104 (dk_at dksX6_actTear_1 1 rfl rfl)
theorem dX6_actTear_26 : decode cX6_actTear 26 = .ok (.iload_n 2, 1) := dk_28 (dk_at dksX6_actTear_1 2 rfl rfl)
theorem dX6_actTear_27 : decode cX6_actTear 27 = .ok (.iadd, 1) := dk_96 (dk_at dksX6_actTear_1 3 rfl rfl)
theorem dX6_actTear_28 : decode cX6_actTear 28 = .ok (.iaload, 1) := dk_46 (dk_at dksX6_actTear_1 4 rfl rfl)
theorem dX6_actTear_29 : decode cX6_actTear 29 = .ok (.if_icmp .ge 34, 3) := dk_162 0 34 (dk_at dksX6_actTear_1 5 rfl rfl)
theorem dX6_actTear_32 : decode cX6_actTear 32 = .ok (.aload_n 0, 1) := dk_42 (dk_at dksX6_actTear_1 8 rfl rfl)
theorem dX6_actTear_33 : decode cX6_actTear 33 = .ok (.getfield 26, 3) := dk_180 0 26 (dk_at dksX6_actTear_1 9 rfl rfl)
theorem dX6_actTear_36 : decode cX6_actTear 36 = .ok (.bipush 30, 2) := dk_16 30 (dk_at dksX6_actTear_1 12 rfl rfl)
theorem dX6_actTear_38 : decode cX6_actTear 38 = .ok (.bipush 12, 2) := dk_16 12 (dk_at dksX6_actTear_1 14 rfl rfl)
theorem dX6_actTear_40 : decode cX6_actTear 40 = .ok (.iload_n 1, 1) := dk_27 (dk_at dksX6_actTear_1 16 rfl rfl)
theorem dX6_actTear_41 : decode cX6_actTear 41 = .ok (.imul, 1) := dk_104 (dk_at dksX6_actTear_1 17 rfl rfl)
theorem dX6_actTear_42 : decode cX6_actTear 42 = .ok (.iload_n 2, 1) := dk_28 (dk_at dksX6_actTear_1 18 rfl rfl)
theorem dX6_actTear_43 : decode cX6_actTear 43 = .ok (.iadd, 1) := dk_96 (dk_at dksX6_actTear_1 19 rfl rfl)
theorem dX6_actTear_44 : decode cX6_actTear 44 = .ok (.imul, 1) := dk_104 (dk_at dksX6_actTear_1 20 rfl rfl)
theorem dX6_actTear_45 : decode cX6_actTear 45 = .ok (.iload 4, 2) := dk_21 4 (dk_at dksX6_actTear_1 21 rfl rfl)
theorem dX6_actTear_47 : decode cX6_actTear 47 = .ok (.iadd, 1) := dk_96 (dk_at dksX6_actTear_1 23 rfl rfl)
theorem dX6_actTear_48 : decode cX6_actTear 48 = .ok (.iaload, 1) := dk_46 (dk_at dksX6_actTear_2 0 rfl rfl)
theorem dX6_actTear_49 : decode cX6_actTear 49 = .ok (.bipush 10, 2) := dk_16 10 (dk_at dksX6_actTear_2 1 rfl rfl)
theorem dX6_actTear_51 : decode cX6_actTear 51 = .ok (.if_icmp .lt 6, 3) := dk_161 0 6 (dk_at dksX6_actTear_2 3 rfl rfl)
theorem dX6_actTear_54 : decode cX6_actTear 54 = .ok (.bipush (-6), 2) := dk_16 250 (dk_at dksX6_actTear_2 6 rfl rfl)
theorem dX6_actTear_56 : decode cX6_actTear 56 = .ok (.ireturn, 1) := dk_172 (dk_at dksX6_actTear_2 8 rfl rfl)
theorem dX6_actTear_57 : decode cX6_actTear 57 = .ok (.iinc 4 1, 3) := dk_132 4 1 (dk_at dksX6_actTear_2 9 rfl rfl)
theorem dX6_actTear_60 : decode cX6_actTear 60 = .ok (.goto (-44), 3) := dk_167 255 212 (dk_at dksX6_actTear_2 12 rfl rfl)
theorem dX6_actTear_63 : decode cX6_actTear 63 = .ok (.aload_n 0, 1) := dk_42 (dk_at dksX6_actTear_2 15 rfl rfl)
theorem dX6_actTear_64 : decode cX6_actTear 64 = .ok (.getfield 22, 3) := dk_180 0 22 (dk_at dksX6_actTear_2 16 rfl rfl)
theorem dX6_actTear_67 : decode cX6_actTear 67 = .ok (.bipush 12, 2) := dk_16 12 (dk_at dksX6_actTear_2 19 rfl rfl)
theorem dX6_actTear_69 : decode cX6_actTear 69 = .ok (.iload_n 1, 1) := dk_27 (dk_at dksX6_actTear_2 21 rfl rfl)
theorem dX6_actTear_70 : decode cX6_actTear 70 = .ok (.imul, 1) := dk_104 (dk_at dksX6_actTear_2 22 rfl rfl)
theorem dX6_actTear_71 : decode cX6_actTear 71 = .ok (.iload_n 2, 1) := dk_28 (dk_at dksX6_actTear_2 23 rfl rfl)
theorem dX6_actTear_72 : decode cX6_actTear 72 = .ok (.iadd, 1) := dk_96 (dk_at dksX6_actTear_3 0 rfl rfl)
theorem dX6_actTear_73 : decode cX6_actTear 73 = .ok (.iconst 1, 1) := dk_4 (dk_at dksX6_actTear_3 1 rfl rfl)
theorem dX6_actTear_74 : decode cX6_actTear 74 = .ok (.bastore, 1) := dk_84 (dk_at dksX6_actTear_3 2 rfl rfl)
theorem dX6_actTear_75 : decode cX6_actTear 75 = .ok (.iconst 0, 1) := dk_3 (dk_at dksX6_actTear_3 3 rfl rfl)
theorem dX6_actTear_76 : decode cX6_actTear 76 = .ok (.ireturn, 1) := dk_172 (dk_at dksX6_actTear_3 4 rfl rfl)
abbrev cX6_rowFault : ByteArray := prog_21_method_4_code
def yX6_rowFault : MethodName := ⟨RX6, "rowFault", "(II)I"⟩
def dkwX6_rowFault_2 : List UInt8 := [167, 0, 4, 3, 172]
abbrev dktX6_rowFault_2 : List UInt8 := dkwX6_rowFault_2 ++ []
def dkwX6_rowFault_1 : List UInt8 := [161, 0, 6, 16, 254, 172, 42, 180, 0, 22, 16, 12, 27, 104, 28, 96, 51, 153, 0, 8, 16, 253]
abbrev dktX6_rowFault_1 : List UInt8 := dkwX6_rowFault_1 ++ dktX6_rowFault_2
def dkwX6_rowFault_0 : List UInt8 := [27, 155, 0, 25, 27, 42, 180, 0, 138, 162, 0, 17, 28, 155, 0, 13, 28, 42, 180, 0, 13, 27, 46]
abbrev dktX6_rowFault_0 : List UInt8 := dkwX6_rowFault_0 ++ dktX6_rowFault_1
theorem dksX6_rowFault_0 : cX6_rowFault.data.toList.drop 0 = dktX6_rowFault_0 := by decide +kernel
theorem dksX6_rowFault_1 : cX6_rowFault.data.toList.drop 23 = dktX6_rowFault_1 := dk_seg dksX6_rowFault_0 23 rfl rfl
theorem dksX6_rowFault_2 : cX6_rowFault.data.toList.drop 45 = dktX6_rowFault_2 := dk_seg dksX6_rowFault_1 22 rfl rfl
theorem dX6_rowFault_0 : decode cX6_rowFault 0 = .ok (.iload_n 1, 1) := dk_27 (dk_at dksX6_rowFault_0 0 rfl rfl)
theorem dX6_rowFault_1 : decode cX6_rowFault 1 = .ok (.ifCond .lt 25, 3) := dk_155 0 25 (dk_at dksX6_rowFault_0 1 rfl rfl)
theorem dX6_rowFault_4 : decode cX6_rowFault 4 = .ok (.iload_n 1, 1) := dk_27 (dk_at dksX6_rowFault_0 4 rfl rfl)
theorem dX6_rowFault_5 : decode cX6_rowFault 5 = .ok (.aload_n 0, 1) := dk_42 (dk_at dksX6_rowFault_0 5 rfl rfl)
theorem dX6_rowFault_6 : decode cX6_rowFault 6 = .ok (.getfield 138, 3) := dk_180 0 138 (dk_at dksX6_rowFault_0 6 rfl rfl)
theorem dX6_rowFault_9 : decode cX6_rowFault 9 = .ok (.if_icmp .ge 17, 3) := dk_162 0 17 (dk_at dksX6_rowFault_0 9 rfl rfl)
theorem dX6_rowFault_12 : decode cX6_rowFault 12 = .ok (.iload_n 2, 1) := dk_28 (dk_at dksX6_rowFault_0 12 rfl rfl)
theorem dX6_rowFault_13 : decode cX6_rowFault 13 = .ok (.ifCond .lt 13, 3) := dk_155 0 13 (dk_at dksX6_rowFault_0 13 rfl rfl)
theorem dX6_rowFault_16 : decode cX6_rowFault 16 = .ok (.iload_n 2, 1) := dk_28 (dk_at dksX6_rowFault_0 16 rfl rfl)
theorem dX6_rowFault_17 : decode cX6_rowFault 17 = .ok (.aload_n 0, 1) := dk_42 (dk_at dksX6_rowFault_0 17 rfl rfl)
theorem dX6_rowFault_18 : decode cX6_rowFault 18 = .ok (.getfield 13, 3) := dk_180 0 13 (dk_at dksX6_rowFault_0 18 rfl rfl)
theorem dX6_rowFault_21 : decode cX6_rowFault 21 = .ok (.iload_n 1, 1) := dk_27 (dk_at dksX6_rowFault_0 21 rfl rfl)
theorem dX6_rowFault_22 : decode cX6_rowFault 22 = .ok (.iaload, 1) := dk_46 (dk_at dksX6_rowFault_0 22 rfl rfl)
theorem dX6_rowFault_23 : decode cX6_rowFault 23 = .ok (.if_icmp .lt 6, 3) := dk_161 0 6 (dk_at dksX6_rowFault_1 0 rfl rfl)
theorem dX6_rowFault_26 : decode cX6_rowFault 26 = .ok (.bipush (-2), 2) := dk_16 254 (dk_at dksX6_rowFault_1 3 rfl rfl)
theorem dX6_rowFault_28 : decode cX6_rowFault 28 = .ok (.ireturn, 1) := dk_172 (dk_at dksX6_rowFault_1 5 rfl rfl)
theorem dX6_rowFault_29 : decode cX6_rowFault 29 = .ok (.aload_n 0, 1) := dk_42 (dk_at dksX6_rowFault_1 6 rfl rfl)
theorem dX6_rowFault_30 : decode cX6_rowFault 30 = .ok (.getfield 22, 3) := dk_180 0 22 (dk_at dksX6_rowFault_1 7 rfl rfl)
theorem dX6_rowFault_33 : decode cX6_rowFault 33 = .ok (.bipush 12, 2) := dk_16 12 (dk_at dksX6_rowFault_1 10 rfl rfl)
theorem dX6_rowFault_35 : decode cX6_rowFault 35 = .ok (.iload_n 1, 1) := dk_27 (dk_at dksX6_rowFault_1 12 rfl rfl)
theorem dX6_rowFault_36 : decode cX6_rowFault 36 = .ok (.imul, 1) := dk_104 (dk_at dksX6_rowFault_1 13 rfl rfl)
theorem dX6_rowFault_37 : decode cX6_rowFault 37 = .ok (.iload_n 2, 1) := dk_28 (dk_at dksX6_rowFault_1 14 rfl rfl)
theorem dX6_rowFault_38 : decode cX6_rowFault 38 = .ok (.iadd, 1) := dk_96 (dk_at dksX6_rowFault_1 15 rfl rfl)
theorem dX6_rowFault_39 : decode cX6_rowFault 39 = .ok (.baload, 1) := dk_51 (dk_at dksX6_rowFault_1 16 rfl rfl)
theorem dX6_rowFault_40 : decode cX6_rowFault 40 = .ok (.ifCond .eq 8, 3) := dk_153 0 8 (dk_at dksX6_rowFault_1 17 rfl rfl)
theorem dX6_rowFault_43 : decode cX6_rowFault 43 = .ok (.bipush (-3), 2) := dk_16 253 (dk_at dksX6_rowFault_1 20 rfl rfl)
theorem dX6_rowFault_45 : decode cX6_rowFault 45 = .ok (.goto 4, 3) := dk_167 0 4 (dk_at dksX6_rowFault_2 0 rfl rfl)
theorem dX6_rowFault_48 : decode cX6_rowFault 48 = .ok (.iconst 0, 1) := dk_3 (dk_at dksX6_rowFault_2 3 rfl rfl)
theorem dX6_rowFault_49 : decode cX6_rowFault 49 = .ok (.ireturn, 1) := dk_172 (dk_at dksX6_rowFault_2 4 rfl rfl)
abbrev cX6_actPlace : ByteArray := prog_21_method_12_code
def yX6_actPlace : MethodName := ⟨RX6, "actPlace", "(IIII)I"⟩
def dkwX6_actPlace_5 : List UInt8 := [104, 29, 96, 21, 4, 79, 3, 172]
abbrev dktX6_actPlace_5 : List UInt8 := dkwX6_actPlace_5 ++ []
def dkwX6_actPlace_4 : List UInt8 := [158, 0, 16, 42, 180, 0, 16, 21, 6, 46, 158, 0, 6, 16, 248, 172, 42, 180, 0, 26, 16, 30, 21, 6]
abbrev dktX6_actPlace_4 : List UInt8 := dkwX6_actPlace_4 ++ dktX6_actPlace_5
def dkwX6_actPlace_3 : List UInt8 := [182, 0, 165, 154, 0, 15, 42, 21, 6, 29, 4, 96, 182, 0, 165, 153, 0, 6, 16, 249, 172, 21, 4]
abbrev dktX6_actPlace_3 : List UInt8 := dkwX6_actPlace_3 ++ dktX6_actPlace_4
def dkwX6_actPlace_2 : List UInt8 := [29, 96, 46, 16, 10, 161, 0, 6, 16, 250, 172, 21, 4, 4, 160, 0, 30, 42, 21, 6, 29, 4, 100]
abbrev dktX6_actPlace_2 : List UInt8 := dkwX6_actPlace_2 ++ dktX6_actPlace_3
def dkwX6_actPlace_1 : List UInt8 := [54, 6, 21, 4, 155, 0, 9, 21, 4, 5, 164, 0, 5, 2, 172, 42, 180, 0, 26, 16, 30, 21, 6, 104]
abbrev dktX6_actPlace_1 : List UInt8 := dkwX6_actPlace_1 ++ dktX6_actPlace_2
def dkwX6_actPlace_0 : List UInt8 := [42, 27, 28, 29, 182, 0, 161, 54, 5, 21, 5, 153, 0, 6, 21, 5, 172, 16, 12, 27, 104, 28, 96]
abbrev dktX6_actPlace_0 : List UInt8 := dkwX6_actPlace_0 ++ dktX6_actPlace_1
theorem dksX6_actPlace_0 : cX6_actPlace.data.toList.drop 0 = dktX6_actPlace_0 := by decide +kernel
theorem dksX6_actPlace_1 : cX6_actPlace.data.toList.drop 23 = dktX6_actPlace_1 := dk_seg dksX6_actPlace_0 23 rfl rfl
theorem dksX6_actPlace_2 : cX6_actPlace.data.toList.drop 47 = dktX6_actPlace_2 := dk_seg dksX6_actPlace_1 24 rfl rfl
theorem dksX6_actPlace_3 : cX6_actPlace.data.toList.drop 70 = dktX6_actPlace_3 := dk_seg dksX6_actPlace_2 23 rfl rfl
theorem dksX6_actPlace_4 : cX6_actPlace.data.toList.drop 93 = dktX6_actPlace_4 := dk_seg dksX6_actPlace_3 23 rfl rfl
theorem dksX6_actPlace_5 : cX6_actPlace.data.toList.drop 117 = dktX6_actPlace_5 := dk_seg dksX6_actPlace_4 24 rfl rfl
theorem dX6_actPlace_0 : decode cX6_actPlace 0 = .ok (.aload_n 0, 1) := dk_42 (dk_at dksX6_actPlace_0 0 rfl rfl)
theorem dX6_actPlace_1 : decode cX6_actPlace 1 = .ok (.iload_n 1, 1) := dk_27 (dk_at dksX6_actPlace_0 1 rfl rfl)
theorem dX6_actPlace_2 : decode cX6_actPlace 2 = .ok (.iload_n 2, 1) := dk_28 (dk_at dksX6_actPlace_0 2 rfl rfl)
theorem dX6_actPlace_3 : decode cX6_actPlace 3 = .ok (.iload_n 3, 1) := dk_29 (dk_at dksX6_actPlace_0 3 rfl rfl)
theorem dX6_actPlace_4 : decode cX6_actPlace 4 = .ok (.invokevirtual 161, 3) := dk_182 0 161 (dk_at dksX6_actPlace_0 4 rfl rfl)
theorem dX6_actPlace_7 : decode cX6_actPlace 7 = .ok (.istore 5, 2) := dk_54 5 (dk_at dksX6_actPlace_0 7 rfl rfl)
theorem dX6_actPlace_9 : decode cX6_actPlace 9 = .ok (.iload 5, 2) := dk_21 5 (dk_at dksX6_actPlace_0 9 rfl rfl)
theorem dX6_actPlace_11 : decode cX6_actPlace 11 = .ok (.ifCond .eq 6, 3) := dk_153 0 6 (dk_at dksX6_actPlace_0 11 rfl rfl)
theorem dX6_actPlace_14 : decode cX6_actPlace 14 = .ok (.iload 5, 2) := dk_21 5 (dk_at dksX6_actPlace_0 14 rfl rfl)
theorem dX6_actPlace_16 : decode cX6_actPlace 16 = .ok (.ireturn, 1) := dk_172 (dk_at dksX6_actPlace_0 16 rfl rfl)
theorem dX6_actPlace_17 : decode cX6_actPlace 17 = .ok (.bipush 12, 2) := dk_16 12 (dk_at dksX6_actPlace_0 17 rfl rfl)
theorem dX6_actPlace_19 : decode cX6_actPlace 19 = .ok (.iload_n 1, 1) := dk_27 (dk_at dksX6_actPlace_0 19 rfl rfl)
theorem dX6_actPlace_20 : decode cX6_actPlace 20 = .ok (.imul, 1) := dk_104 (dk_at dksX6_actPlace_0 20 rfl rfl)
theorem dX6_actPlace_21 : decode cX6_actPlace 21 = .ok (.iload_n 2, 1) := dk_28 (dk_at dksX6_actPlace_0 21 rfl rfl)
theorem dX6_actPlace_22 : decode cX6_actPlace 22 = .ok (.iadd, 1) := dk_96 (dk_at dksX6_actPlace_0 22 rfl rfl)
theorem dX6_actPlace_23 : decode cX6_actPlace 23 = .ok (.istore 6, 2) := dk_54 6 (dk_at dksX6_actPlace_1 0 rfl rfl)
theorem dX6_actPlace_25 : decode cX6_actPlace 25 = .ok (.iload 4, 2) := dk_21 4 (dk_at dksX6_actPlace_1 2 rfl rfl)
theorem dX6_actPlace_27 : decode cX6_actPlace 27 = .ok (.ifCond .lt 9, 3) := dk_155 0 9 (dk_at dksX6_actPlace_1 4 rfl rfl)
theorem dX6_actPlace_30 : decode cX6_actPlace 30 = .ok (.iload 4, 2) := dk_21 4 (dk_at dksX6_actPlace_1 7 rfl rfl)
theorem dX6_actPlace_32 : decode cX6_actPlace 32 = .ok (.iconst 2, 1) := dk_5 (dk_at dksX6_actPlace_1 9 rfl rfl)
theorem dX6_actPlace_33 : decode cX6_actPlace 33 = .ok (.if_icmp .le 5, 3) := dk_164 0 5 (dk_at dksX6_actPlace_1 10 rfl rfl)
theorem dX6_actPlace_36 : decode cX6_actPlace 36 = .ok (.iconst (-1), 1) := dk_2 (dk_at dksX6_actPlace_1 13 rfl rfl)
theorem dX6_actPlace_37 : decode cX6_actPlace 37 = .ok (.ireturn, 1) := dk_172 (dk_at dksX6_actPlace_1 14 rfl rfl)
theorem dX6_actPlace_38 : decode cX6_actPlace 38 = .ok (.aload_n 0, 1) := dk_42 (dk_at dksX6_actPlace_1 15 rfl rfl)
theorem dX6_actPlace_39 : decode cX6_actPlace 39 = .ok (.getfield 26, 3) := dk_180 0 26 (dk_at dksX6_actPlace_1 16 rfl rfl)
theorem dX6_actPlace_42 : decode cX6_actPlace 42 = .ok (.bipush 30, 2) := dk_16 30 (dk_at dksX6_actPlace_1 19 rfl rfl)
theorem dX6_actPlace_44 : decode cX6_actPlace 44 = .ok (.iload 6, 2) := dk_21 6 (dk_at dksX6_actPlace_1 21 rfl rfl)
theorem dX6_actPlace_46 : decode cX6_actPlace 46 = .ok (.imul, 1) := dk_104 (dk_at dksX6_actPlace_1 23 rfl rfl)
theorem dX6_actPlace_47 : decode cX6_actPlace 47 = .ok (.iload_n 3, 1) := dk_29 (dk_at dksX6_actPlace_2 0 rfl rfl)
theorem dX6_actPlace_48 : decode cX6_actPlace 48 = .ok (.iadd, 1) := dk_96 (dk_at dksX6_actPlace_2 1 rfl rfl)
theorem dX6_actPlace_49 : decode cX6_actPlace 49 = .ok (.iaload, 1) := dk_46 (dk_at dksX6_actPlace_2 2 rfl rfl)
theorem dX6_actPlace_50 : decode cX6_actPlace 50 = .ok (.bipush 10, 2) := dk_16 10 (dk_at dksX6_actPlace_2 3 rfl rfl)
theorem dX6_actPlace_52 : decode cX6_actPlace 52 = .ok (.if_icmp .lt 6, 3) := dk_161 0 6 (dk_at dksX6_actPlace_2 5 rfl rfl)
theorem dX6_actPlace_55 : decode cX6_actPlace 55 = .ok (.bipush (-6), 2) := dk_16 250 (dk_at dksX6_actPlace_2 8 rfl rfl)
theorem dX6_actPlace_57 : decode cX6_actPlace 57 = .ok (.ireturn, 1) := dk_172 (dk_at dksX6_actPlace_2 10 rfl rfl)
theorem dX6_actPlace_58 : decode cX6_actPlace 58 = .ok (.iload 4, 2) := dk_21 4 (dk_at dksX6_actPlace_2 11 rfl rfl)
theorem dX6_actPlace_60 : decode cX6_actPlace 60 = .ok (.iconst 1, 1) := dk_4 (dk_at dksX6_actPlace_2 13 rfl rfl)
theorem dX6_actPlace_61 : decode cX6_actPlace 61 = .ok (.if_icmp .ne 30, 3) := dk_160 0 30 (dk_at dksX6_actPlace_2 14 rfl rfl)
theorem dX6_actPlace_64 : decode cX6_actPlace 64 = .ok (.aload_n 0, 1) := dk_42 (dk_at dksX6_actPlace_2 17 rfl rfl)
theorem dX6_actPlace_65 : decode cX6_actPlace 65 = .ok (.iload 6, 2) := dk_21 6 (dk_at dksX6_actPlace_2 18 rfl rfl)
theorem dX6_actPlace_67 : decode cX6_actPlace 67 = .ok (.iload_n 3, 1) := dk_29 (dk_at dksX6_actPlace_2 20 rfl rfl)
theorem dX6_actPlace_68 : decode cX6_actPlace 68 = .ok (.iconst 1, 1) := dk_4 (dk_at dksX6_actPlace_2 21 rfl rfl)
theorem dX6_actPlace_69 : decode cX6_actPlace 69 = .ok (.isub, 1) := dk_100 (dk_at dksX6_actPlace_2 22 rfl rfl)
theorem dX6_actPlace_70 : decode cX6_actPlace 70 = .ok (.invokevirtual 165, 3) := dk_182 0 165 (dk_at dksX6_actPlace_3 0 rfl rfl)
theorem dX6_actPlace_73 : decode cX6_actPlace 73 = .ok (.ifCond .ne 15, 3) := dk_154 0 15 (dk_at dksX6_actPlace_3 3 rfl rfl)
theorem dX6_actPlace_76 : decode cX6_actPlace 76 = .ok (.aload_n 0, 1) := dk_42 (dk_at dksX6_actPlace_3 6 rfl rfl)
theorem dX6_actPlace_77 : decode cX6_actPlace 77 = .ok (.iload 6, 2) := dk_21 6 (dk_at dksX6_actPlace_3 7 rfl rfl)
theorem dX6_actPlace_79 : decode cX6_actPlace 79 = .ok (.iload_n 3, 1) := dk_29 (dk_at dksX6_actPlace_3 9 rfl rfl)
theorem dX6_actPlace_80 : decode cX6_actPlace 80 = .ok (.iconst 1, 1) := dk_4 (dk_at dksX6_actPlace_3 10 rfl rfl)
theorem dX6_actPlace_81 : decode cX6_actPlace 81 = .ok (.iadd, 1) := dk_96 (dk_at dksX6_actPlace_3 11 rfl rfl)
theorem dX6_actPlace_82 : decode cX6_actPlace 82 = .ok (.invokevirtual 165, 3) := dk_182 0 165 (dk_at dksX6_actPlace_3 12 rfl rfl)
theorem dX6_actPlace_85 : decode cX6_actPlace 85 = .ok (.ifCond .eq 6, 3) := dk_153 0 6 (dk_at dksX6_actPlace_3 15 rfl rfl)
theorem dX6_actPlace_88 : decode cX6_actPlace 88 = .ok (.bipush (-7), 2) := dk_16 249 (dk_at dksX6_actPlace_3 18 rfl rfl)
theorem dX6_actPlace_90 : decode cX6_actPlace 90 = .ok (.ireturn, 1) := dk_172 (dk_at dksX6_actPlace_3 20 rfl rfl)
theorem dX6_actPlace_91 : decode cX6_actPlace 91 = .ok (.iload 4, 2) := dk_21 4 (dk_at dksX6_actPlace_3 21 rfl rfl)
theorem dX6_actPlace_93 : decode cX6_actPlace 93 = .ok (.ifCond .le 16, 3) := dk_158 0 16 (dk_at dksX6_actPlace_4 0 rfl rfl)
theorem dX6_actPlace_96 : decode cX6_actPlace 96 = .ok (.aload_n 0, 1) := dk_42 (dk_at dksX6_actPlace_4 3 rfl rfl)
theorem dX6_actPlace_97 : decode cX6_actPlace 97 = .ok (.getfield 16, 3) := dk_180 0 16 (dk_at dksX6_actPlace_4 4 rfl rfl)
theorem dX6_actPlace_100 : decode cX6_actPlace 100 = .ok (.iload 6, 2) := dk_21 6 (dk_at dksX6_actPlace_4 7 rfl rfl)
theorem dX6_actPlace_102 : decode cX6_actPlace 102 = .ok (.iaload, 1) := dk_46 (dk_at dksX6_actPlace_4 9 rfl rfl)
theorem dX6_actPlace_103 : decode cX6_actPlace 103 = .ok (.ifCond .le 6, 3) := dk_158 0 6 (dk_at dksX6_actPlace_4 10 rfl rfl)
theorem dX6_actPlace_106 : decode cX6_actPlace 106 = .ok (.bipush (-8), 2) := dk_16 248 (dk_at dksX6_actPlace_4 13 rfl rfl)
theorem dX6_actPlace_108 : decode cX6_actPlace 108 = .ok (.ireturn, 1) := dk_172 (dk_at dksX6_actPlace_4 15 rfl rfl)
theorem dX6_actPlace_109 : decode cX6_actPlace 109 = .ok (.aload_n 0, 1) := dk_42 (dk_at dksX6_actPlace_4 16 rfl rfl)
theorem dX6_actPlace_110 : decode cX6_actPlace 110 = .ok (.getfield 26, 3) := dk_180 0 26 (dk_at dksX6_actPlace_4 17 rfl rfl)
theorem dX6_actPlace_113 : decode cX6_actPlace 113 = .ok (.bipush 30, 2) := dk_16 30 (dk_at dksX6_actPlace_4 20 rfl rfl)
theorem dX6_actPlace_115 : decode cX6_actPlace 115 = .ok (.iload 6, 2) := dk_21 6 (dk_at dksX6_actPlace_4 22 rfl rfl)
theorem dX6_actPlace_117 : decode cX6_actPlace 117 = .ok (.imul, 1) := dk_104 (dk_at dksX6_actPlace_5 0 rfl rfl)
theorem dX6_actPlace_118 : decode cX6_actPlace 118 = .ok (.iload_n 3, 1) := dk_29 (dk_at dksX6_actPlace_5 1 rfl rfl)
theorem dX6_actPlace_119 : decode cX6_actPlace 119 = .ok (.iadd, 1) := dk_96 (dk_at dksX6_actPlace_5 2 rfl rfl)
theorem dX6_actPlace_120 : decode cX6_actPlace 120 = .ok (.iload 4, 2) := dk_21 4 (dk_at dksX6_actPlace_5 3 rfl rfl)
theorem dX6_actPlace_122 : decode cX6_actPlace 122 = .ok (.iastore, 1) := dk_79 (dk_at dksX6_actPlace_5 5 rfl rfl)
theorem dX6_actPlace_123 : decode cX6_actPlace 123 = .ok (.iconst 0, 1) := dk_3 (dk_at dksX6_actPlace_5 6 rfl rfl)
theorem dX6_actPlace_124 : decode cX6_actPlace 124 = .ok (.ireturn, 1) := dk_172 (dk_at dksX6_actPlace_5 7 rfl rfl)
abbrev cX6_spotFault : ByteArray := prog_21_method_5_code
def yX6_spotFault : MethodName := ⟨RX6, "spotFault", "(III)I"⟩
def dkwX6_spotFault_1 : List UInt8 := [180, 0, 19, 16, 12, 27, 104, 28, 96, 46, 161, 0, 8, 16, 252, 167, 0, 4, 3, 172]
abbrev dktX6_spotFault_1 : List UInt8 := dkwX6_spotFault_1 ++ []
def dkwX6_spotFault_0 : List UInt8 := [42, 27, 28, 182, 0, 153, 54, 4, 21, 4, 153, 0, 8, 21, 4, 167, 0, 28, 29, 155, 0, 18, 29, 42]
abbrev dktX6_spotFault_0 : List UInt8 := dkwX6_spotFault_0 ++ dktX6_spotFault_1
theorem dksX6_spotFault_0 : cX6_spotFault.data.toList.drop 0 = dktX6_spotFault_0 := by decide +kernel
theorem dksX6_spotFault_1 : cX6_spotFault.data.toList.drop 24 = dktX6_spotFault_1 := dk_seg dksX6_spotFault_0 24 rfl rfl
theorem dX6_spotFault_0 : decode cX6_spotFault 0 = .ok (.aload_n 0, 1) := dk_42 (dk_at dksX6_spotFault_0 0 rfl rfl)
theorem dX6_spotFault_1 : decode cX6_spotFault 1 = .ok (.iload_n 1, 1) := dk_27 (dk_at dksX6_spotFault_0 1 rfl rfl)
theorem dX6_spotFault_2 : decode cX6_spotFault 2 = .ok (.iload_n 2, 1) := dk_28 (dk_at dksX6_spotFault_0 2 rfl rfl)
theorem dX6_spotFault_3 : decode cX6_spotFault 3 = .ok (.invokevirtual 153, 3) := dk_182 0 153 (dk_at dksX6_spotFault_0 3 rfl rfl)
theorem dX6_spotFault_6 : decode cX6_spotFault 6 = .ok (.istore 4, 2) := dk_54 4 (dk_at dksX6_spotFault_0 6 rfl rfl)
theorem dX6_spotFault_8 : decode cX6_spotFault 8 = .ok (.iload 4, 2) := dk_21 4 (dk_at dksX6_spotFault_0 8 rfl rfl)
theorem dX6_spotFault_10 : decode cX6_spotFault 10 = .ok (.ifCond .eq 8, 3) := dk_153 0 8 (dk_at dksX6_spotFault_0 10 rfl rfl)
theorem dX6_spotFault_13 : decode cX6_spotFault 13 = .ok (.iload 4, 2) := dk_21 4 (dk_at dksX6_spotFault_0 13 rfl rfl)
theorem dX6_spotFault_15 : decode cX6_spotFault 15 = .ok (.goto 28, 3) := dk_167 0 28 (dk_at dksX6_spotFault_0 15 rfl rfl)
theorem dX6_spotFault_18 : decode cX6_spotFault 18 = .ok (.iload_n 3, 1) := dk_29 (dk_at dksX6_spotFault_0 18 rfl rfl)
theorem dX6_spotFault_19 : decode cX6_spotFault 19 = .ok (.ifCond .lt 18, 3) := dk_155 0 18 (dk_at dksX6_spotFault_0 19 rfl rfl)
theorem dX6_spotFault_22 : decode cX6_spotFault 22 = .ok (.iload_n 3, 1) := dk_29 (dk_at dksX6_spotFault_0 22 rfl rfl)
theorem dX6_spotFault_23 : decode cX6_spotFault 23 = .ok (.aload_n 0, 1) := dk_42 (dk_at dksX6_spotFault_0 23 rfl rfl)
theorem dX6_spotFault_24 : decode cX6_spotFault 24 = .ok (.getfield 19, 3) := dk_180 0 19 (dk_at dksX6_spotFault_1 0 rfl rfl)
theorem dX6_spotFault_27 : decode cX6_spotFault 27 = .ok (.bipush 12, 2) := dk_16 12 (dk_at dksX6_spotFault_1 3 rfl rfl)
theorem dX6_spotFault_29 : decode cX6_spotFault 29 = .ok (.iload_n 1, 1) := dk_27 (dk_at dksX6_spotFault_1 5 rfl rfl)
theorem dX6_spotFault_30 : decode cX6_spotFault 30 = .ok (.imul, 1) := dk_104 (dk_at dksX6_spotFault_1 6 rfl rfl)
theorem dX6_spotFault_31 : decode cX6_spotFault 31 = .ok (.iload_n 2, 1) := dk_28 (dk_at dksX6_spotFault_1 7 rfl rfl)
theorem dX6_spotFault_32 : decode cX6_spotFault 32 = .ok (.iadd, 1) := dk_96 (dk_at dksX6_spotFault_1 8 rfl rfl)
theorem dX6_spotFault_33 : decode cX6_spotFault 33 = .ok (.iaload, 1) := dk_46 (dk_at dksX6_spotFault_1 9 rfl rfl)
theorem dX6_spotFault_34 : decode cX6_spotFault 34 = .ok (.if_icmp .lt 8, 3) := dk_161 0 8 (dk_at dksX6_spotFault_1 10 rfl rfl)
theorem dX6_spotFault_37 : decode cX6_spotFault 37 = .ok (.bipush (-4), 2) := dk_16 252 (dk_at dksX6_spotFault_1 13 rfl rfl)
theorem dX6_spotFault_39 : decode cX6_spotFault 39 = .ok (.goto 4, 3) := dk_167 0 4 (dk_at dksX6_spotFault_1 15 rfl rfl)
theorem dX6_spotFault_42 : decode cX6_spotFault 42 = .ok (.iconst 0, 1) := dk_3 (dk_at dksX6_spotFault_1 18 rfl rfl)
theorem dX6_spotFault_43 : decode cX6_spotFault 43 = .ok (.ireturn, 1) := dk_172 (dk_at dksX6_spotFault_1 19 rfl rfl)
abbrev cX6_isTender : ByteArray := prog_21_method_10_code
def yX6_isTender : MethodName := ⟨RX6, "isTender", "(II)Z"⟩
def dkwX6_isTender_2 : List UInt8 := [16, 10, 100, 46, 182, 0, 157, 172]
abbrev dktX6_isTender_2 : List UInt8 := dkwX6_isTender_2 ++ []
def dkwX6_isTender_1 : List UInt8 := [46, 16, 10, 162, 0, 5, 3, 172, 42, 42, 180, 0, 29, 42, 180, 0, 26, 16, 30, 27, 104, 28, 96, 46]
abbrev dktX6_isTender_1 : List UInt8 := dkwX6_isTender_1 ++ dktX6_isTender_2
def dkwX6_isTender_0 : List UInt8 := [28, 155, 0, 29, 28, 42, 180, 0, 19, 27, 46, 162, 0, 19, 42, 180, 0, 26, 16, 30, 27, 104, 28, 96]
abbrev dktX6_isTender_0 : List UInt8 := dkwX6_isTender_0 ++ dktX6_isTender_1
theorem dksX6_isTender_0 : cX6_isTender.data.toList.drop 0 = dktX6_isTender_0 := by decide +kernel
theorem dksX6_isTender_1 : cX6_isTender.data.toList.drop 24 = dktX6_isTender_1 := dk_seg dksX6_isTender_0 24 rfl rfl
theorem dksX6_isTender_2 : cX6_isTender.data.toList.drop 48 = dktX6_isTender_2 := dk_seg dksX6_isTender_1 24 rfl rfl
theorem dX6_isTender_0 : decode cX6_isTender 0 = .ok (.iload_n 2, 1) := dk_28 (dk_at dksX6_isTender_0 0 rfl rfl)
theorem dX6_isTender_1 : decode cX6_isTender 1 = .ok (.ifCond .lt 29, 3) := dk_155 0 29 (dk_at dksX6_isTender_0 1 rfl rfl)
theorem dX6_isTender_4 : decode cX6_isTender 4 = .ok (.iload_n 2, 1) := dk_28 (dk_at dksX6_isTender_0 4 rfl rfl)
theorem dX6_isTender_5 : decode cX6_isTender 5 = .ok (.aload_n 0, 1) := dk_42 (dk_at dksX6_isTender_0 5 rfl rfl)
theorem dX6_isTender_6 : decode cX6_isTender 6 = .ok (.getfield 19, 3) := dk_180 0 19 (dk_at dksX6_isTender_0 6 rfl rfl)
theorem dX6_isTender_9 : decode cX6_isTender 9 = .ok (.iload_n 1, 1) := dk_27 (dk_at dksX6_isTender_0 9 rfl rfl)
theorem dX6_isTender_10 : decode cX6_isTender 10 = .ok (.iaload, 1) := dk_46 (dk_at dksX6_isTender_0 10 rfl rfl)
theorem dX6_isTender_11 : decode cX6_isTender 11 = .ok (.if_icmp .ge 19, 3) := dk_162 0 19 (dk_at dksX6_isTender_0 11 rfl rfl)
theorem dX6_isTender_14 : decode cX6_isTender 14 = .ok (.aload_n 0, 1) := dk_42 (dk_at dksX6_isTender_0 14 rfl rfl)
theorem dX6_isTender_15 : decode cX6_isTender 15 = .ok (.getfield 26, 3) := dk_180 0 26 (dk_at dksX6_isTender_0 15 rfl rfl)
theorem dX6_isTender_18 : decode cX6_isTender 18 = .ok (.bipush 30, 2) := dk_16 30 (dk_at dksX6_isTender_0 18 rfl rfl)
theorem dX6_isTender_20 : decode cX6_isTender 20 = .ok (.iload_n 1, 1) := dk_27 (dk_at dksX6_isTender_0 20 rfl rfl)
theorem dX6_isTender_21 : decode cX6_isTender 21 = .ok (.imul, 1) := dk_104 (dk_at dksX6_isTender_0 21 rfl rfl)
theorem dX6_isTender_22 : decode cX6_isTender 22 = .ok (.iload_n 2, 1) := dk_28 (dk_at dksX6_isTender_0 22 rfl rfl)
theorem dX6_isTender_23 : decode cX6_isTender 23 = .ok (.iadd, 1) := dk_96 (dk_at dksX6_isTender_0 23 rfl rfl)
theorem dX6_isTender_24 : decode cX6_isTender 24 = .ok (.iaload, 1) := dk_46 (dk_at dksX6_isTender_1 0 rfl rfl)
theorem dX6_isTender_25 : decode cX6_isTender 25 = .ok (.bipush 10, 2) := dk_16 10 (dk_at dksX6_isTender_1 1 rfl rfl)
theorem dX6_isTender_27 : decode cX6_isTender 27 = .ok (.if_icmp .ge 5, 3) := dk_162 0 5 (dk_at dksX6_isTender_1 3 rfl rfl)
theorem dX6_isTender_30 : decode cX6_isTender 30 = .ok (.iconst 0, 1) := dk_3 (dk_at dksX6_isTender_1 6 rfl rfl)
theorem dX6_isTender_31 : decode cX6_isTender 31 = .ok (.ireturn, 1) := dk_172 (dk_at dksX6_isTender_1 7 rfl rfl)
theorem dX6_isTender_32 : decode cX6_isTender 32 = .ok (.aload_n 0, 1) := dk_42 (dk_at dksX6_isTender_1 8 rfl rfl)
theorem dX6_isTender_33 : decode cX6_isTender 33 = .ok (.aload_n 0, 1) := dk_42 (dk_at dksX6_isTender_1 9 rfl rfl)
theorem dX6_isTender_34 : decode cX6_isTender 34 = .ok (.getfield 29, 3) := dk_180 0 29 (dk_at dksX6_isTender_1 10 rfl rfl)
theorem dX6_isTender_37 : decode cX6_isTender 37 = .ok (.aload_n 0, 1) := dk_42 (dk_at dksX6_isTender_1 13 rfl rfl)
theorem dX6_isTender_38 : decode cX6_isTender 38 = .ok (.getfield 26, 3) := dk_180 0 26 (dk_at dksX6_isTender_1 14 rfl rfl)
theorem dX6_isTender_41 : decode cX6_isTender 41 = .ok (.bipush 30, 2) := dk_16 30 (dk_at dksX6_isTender_1 17 rfl rfl)
theorem dX6_isTender_43 : decode cX6_isTender 43 = .ok (.iload_n 1, 1) := dk_27 (dk_at dksX6_isTender_1 19 rfl rfl)
theorem dX6_isTender_44 : decode cX6_isTender 44 = .ok (.imul, 1) := dk_104 (dk_at dksX6_isTender_1 20 rfl rfl)
theorem dX6_isTender_45 : decode cX6_isTender 45 = .ok (.iload_n 2, 1) := dk_28 (dk_at dksX6_isTender_1 21 rfl rfl)
theorem dX6_isTender_46 : decode cX6_isTender 46 = .ok (.iadd, 1) := dk_96 (dk_at dksX6_isTender_1 22 rfl rfl)
theorem dX6_isTender_47 : decode cX6_isTender 47 = .ok (.iaload, 1) := dk_46 (dk_at dksX6_isTender_1 23 rfl rfl)
theorem dX6_isTender_48 : decode cX6_isTender 48 = .ok (.bipush 10, 2) := dk_16 10 (dk_at dksX6_isTender_2 0 rfl rfl)
theorem dX6_isTender_50 : decode cX6_isTender 50 = .ok (.isub, 1) := dk_100 (dk_at dksX6_isTender_2 2 rfl rfl)
theorem dX6_isTender_51 : decode cX6_isTender 51 = .ok (.iaload, 1) := dk_46 (dk_at dksX6_isTender_2 3 rfl rfl)
theorem dX6_isTender_52 : decode cX6_isTender 52 = .ok (.invokevirtual 157, 3) := dk_182 0 157 (dk_at dksX6_isTender_2 4 rfl rfl)
theorem dX6_isTender_55 : decode cX6_isTender 55 = .ok (.ireturn, 1) := dk_172 (dk_at dksX6_isTender_2 7 rfl rfl)
abbrev cX6_fearsTrees : ByteArray := prog_21_method_9_code
def yX6_fearsTrees : MethodName := ⟨RX6, "fearsTrees", "(I)Z"⟩
def dkwX6_fearsTrees_1 : List UInt8 := [167, 0, 4, 3, 172]
abbrev dktX6_fearsTrees_1 : List UInt8 := dkwX6_fearsTrees_1 ++ []
def dkwX6_fearsTrees_0 : List UInt8 := [27, 4, 159, 0, 19, 27, 5, 159, 0, 14, 27, 6, 159, 0, 9, 27, 16, 6, 160, 0, 7, 4]
abbrev dktX6_fearsTrees_0 : List UInt8 := dkwX6_fearsTrees_0 ++ dktX6_fearsTrees_1
theorem dksX6_fearsTrees_0 : cX6_fearsTrees.data.toList.drop 0 = dktX6_fearsTrees_0 := by decide +kernel
theorem dksX6_fearsTrees_1 : cX6_fearsTrees.data.toList.drop 22 = dktX6_fearsTrees_1 := dk_seg dksX6_fearsTrees_0 22 rfl rfl
theorem dX6_fearsTrees_0 : decode cX6_fearsTrees 0 = .ok (.iload_n 1, 1) := dk_27 (dk_at dksX6_fearsTrees_0 0 rfl rfl)
theorem dX6_fearsTrees_1 : decode cX6_fearsTrees 1 = .ok (.iconst 1, 1) := dk_4 (dk_at dksX6_fearsTrees_0 1 rfl rfl)
theorem dX6_fearsTrees_2 : decode cX6_fearsTrees 2 = .ok (.if_icmp .eq 19, 3) := dk_159 0 19 (dk_at dksX6_fearsTrees_0 2 rfl rfl)
theorem dX6_fearsTrees_5 : decode cX6_fearsTrees 5 = .ok (.iload_n 1, 1) := dk_27 (dk_at dksX6_fearsTrees_0 5 rfl rfl)
theorem dX6_fearsTrees_6 : decode cX6_fearsTrees 6 = .ok (.iconst 2, 1) := dk_5 (dk_at dksX6_fearsTrees_0 6 rfl rfl)
theorem dX6_fearsTrees_7 : decode cX6_fearsTrees 7 = .ok (.if_icmp .eq 14, 3) := dk_159 0 14 (dk_at dksX6_fearsTrees_0 7 rfl rfl)
theorem dX6_fearsTrees_10 : decode cX6_fearsTrees 10 = .ok (.iload_n 1, 1) := dk_27 (dk_at dksX6_fearsTrees_0 10 rfl rfl)
theorem dX6_fearsTrees_11 : decode cX6_fearsTrees 11 = .ok (.iconst 3, 1) := dk_6 (dk_at dksX6_fearsTrees_0 11 rfl rfl)
theorem dX6_fearsTrees_12 : decode cX6_fearsTrees 12 = .ok (.if_icmp .eq 9, 3) := dk_159 0 9 (dk_at dksX6_fearsTrees_0 12 rfl rfl)
theorem dX6_fearsTrees_15 : decode cX6_fearsTrees 15 = .ok (.iload_n 1, 1) := dk_27 (dk_at dksX6_fearsTrees_0 15 rfl rfl)
theorem dX6_fearsTrees_16 : decode cX6_fearsTrees 16 = .ok (.bipush 6, 2) := dk_16 6 (dk_at dksX6_fearsTrees_0 16 rfl rfl)
theorem dX6_fearsTrees_18 : decode cX6_fearsTrees 18 = .ok (.if_icmp .ne 7, 3) := dk_160 0 7 (dk_at dksX6_fearsTrees_0 18 rfl rfl)
theorem dX6_fearsTrees_21 : decode cX6_fearsTrees 21 = .ok (.iconst 1, 1) := dk_4 (dk_at dksX6_fearsTrees_0 21 rfl rfl)
theorem dX6_fearsTrees_22 : decode cX6_fearsTrees 22 = .ok (.goto 4, 3) := dk_167 0 4 (dk_at dksX6_fearsTrees_1 0 rfl rfl)
theorem dX6_fearsTrees_25 : decode cX6_fearsTrees 25 = .ok (.iconst 0, 1) := dk_3 (dk_at dksX6_fearsTrees_1 3 rfl rfl)
theorem dX6_fearsTrees_26 : decode cX6_fearsTrees 26 = .ok (.ireturn, 1) := dk_172 (dk_at dksX6_fearsTrees_1 4 rfl rfl)
abbrev cX6_actGrave : ByteArray := prog_21_method_16_code
def yX6_actGrave : MethodName := ⟨RX6, "actGrave", "(IIIII)I"⟩
def dkwX6_actGrave_12 : List UInt8 := [132, 8, 1, 167, 255, 221, 21, 7, 172]
abbrev dktX6_actGrave_12 : List UInt8 := dkwX6_actGrave_12 ++ []
def dkwX6_actGrave_11 : List UInt8 := [180, 0, 26, 16, 30, 42, 180, 0, 47, 21, 7, 46, 104, 21, 8, 96, 16, 10, 21, 7, 96, 79]
abbrev dktX6_actGrave_11 : List UInt8 := dkwX6_actGrave_11 ++ dktX6_actGrave_12
def dkwX6_actGrave_10 : List UInt8 := [96, 2, 79, 132, 8, 1, 167, 255, 232, 29, 54, 8, 21, 8, 29, 21, 5, 96, 162, 0, 32, 42]
abbrev dktX6_actGrave_10 : List UInt8 := dkwX6_actGrave_10 ++ dktX6_actGrave_11
def dkwX6_actGrave_9 : List UInt8 := [167, 255, 230, 3, 54, 8, 21, 8, 16, 8, 162, 0, 23, 42, 180, 0, 71, 16, 8, 21, 7, 104, 21, 8]
abbrev dktX6_actGrave_9 : List UInt8 := dkwX6_actGrave_9 ++ dktX6_actGrave_10
def dkwX6_actGrave_8 : List UInt8 := [17, 0, 150, 162, 0, 24, 42, 180, 0, 59, 17, 0, 150, 21, 7, 104, 21, 8, 96, 3, 84, 132, 8, 1]
abbrev dktX6_actGrave_8 : List UInt8 := dkwX6_actGrave_8 ++ dktX6_actGrave_9
def dkwX6_actGrave_7 : List UInt8 := [3, 79, 42, 180, 0, 68, 21, 7, 3, 79, 42, 180, 0, 77, 21, 7, 3, 79, 3, 54, 8, 21, 8]
abbrev dktX6_actGrave_7 : List UInt8 := dkwX6_actGrave_7 ++ dktX6_actGrave_8
def dkwX6_actGrave_6 : List UInt8 := [79, 42, 180, 0, 53, 21, 7, 21, 5, 79, 42, 180, 0, 56, 21, 7, 2, 79, 42, 180, 0, 65, 21, 7]
abbrev dktX6_actGrave_6 : List UInt8 := dkwX6_actGrave_6 ++ dktX6_actGrave_7
def dkwX6_actGrave_5 : List UInt8 := [21, 7, 3, 79, 42, 180, 0, 47, 21, 7, 16, 12, 27, 104, 28, 96, 79, 42, 180, 0, 50, 21, 7, 29]
abbrev dktX6_actGrave_5 : List UInt8 := dkwX6_actGrave_5 ++ dktX6_actGrave_6
def dkwX6_actGrave_4 : List UInt8 := [21, 7, 2, 79, 42, 180, 0, 38, 21, 7, 3, 79, 42, 180, 0, 41, 21, 7, 2, 79, 42, 180, 0, 44]
abbrev dktX6_actGrave_4 : List UInt8 := dkwX6_actGrave_4 ++ dktX6_actGrave_5
def dkwX6_actGrave_3 : List UInt8 := [181, 0, 141, 42, 180, 0, 29, 21, 7, 21, 4, 79, 42, 180, 0, 32, 21, 7, 3, 79, 42, 180, 0, 35]
abbrev dktX6_actGrave_3 : List UInt8 := dkwX6_actGrave_3 ++ dktX6_actGrave_4
def dkwX6_actGrave_2 : List UInt8 := [54, 6, 21, 6, 153, 0, 6, 21, 6, 172, 42, 180, 0, 141, 54, 7, 42, 89, 180, 0, 141, 4, 96]
abbrev dktX6_actGrave_2 : List UInt8 := dkwX6_actGrave_2 ++ dktX6_actGrave_3
def dkwX6_actGrave_1 : List UInt8 := [42, 180, 0, 141, 17, 0, 150, 160, 0, 5, 2, 172, 42, 27, 28, 29, 21, 4, 21, 5, 182, 0, 178]
abbrev dktX6_actGrave_1 : List UInt8 := dkwX6_actGrave_1 ++ dktX6_actGrave_2
def dkwX6_actGrave_0 : List UInt8 := [21, 4, 4, 161, 0, 31, 21, 4, 16, 6, 163, 0, 24, 42, 21, 4, 21, 5, 182, 0, 175, 153, 0, 13]
abbrev dktX6_actGrave_0 : List UInt8 := dkwX6_actGrave_0 ++ dktX6_actGrave_1
theorem dksX6_actGrave_0 : cX6_actGrave.data.toList.drop 0 = dktX6_actGrave_0 := by decide +kernel
theorem dksX6_actGrave_1 : cX6_actGrave.data.toList.drop 24 = dktX6_actGrave_1 := dk_seg dksX6_actGrave_0 24 rfl rfl
theorem dksX6_actGrave_2 : cX6_actGrave.data.toList.drop 47 = dktX6_actGrave_2 := dk_seg dksX6_actGrave_1 23 rfl rfl
theorem dksX6_actGrave_3 : cX6_actGrave.data.toList.drop 70 = dktX6_actGrave_3 := dk_seg dksX6_actGrave_2 23 rfl rfl
theorem dksX6_actGrave_4 : cX6_actGrave.data.toList.drop 94 = dktX6_actGrave_4 := dk_seg dksX6_actGrave_3 24 rfl rfl
theorem dksX6_actGrave_5 : cX6_actGrave.data.toList.drop 118 = dktX6_actGrave_5 := dk_seg dksX6_actGrave_4 24 rfl rfl
theorem dksX6_actGrave_6 : cX6_actGrave.data.toList.drop 142 = dktX6_actGrave_6 := dk_seg dksX6_actGrave_5 24 rfl rfl
theorem dksX6_actGrave_7 : cX6_actGrave.data.toList.drop 166 = dktX6_actGrave_7 := dk_seg dksX6_actGrave_6 24 rfl rfl
theorem dksX6_actGrave_8 : cX6_actGrave.data.toList.drop 189 = dktX6_actGrave_8 := dk_seg dksX6_actGrave_7 23 rfl rfl
theorem dksX6_actGrave_9 : cX6_actGrave.data.toList.drop 213 = dktX6_actGrave_9 := dk_seg dksX6_actGrave_8 24 rfl rfl
theorem dksX6_actGrave_10 : cX6_actGrave.data.toList.drop 237 = dktX6_actGrave_10 := dk_seg dksX6_actGrave_9 24 rfl rfl
theorem dksX6_actGrave_11 : cX6_actGrave.data.toList.drop 259 = dktX6_actGrave_11 := dk_seg dksX6_actGrave_10 22 rfl rfl
theorem dksX6_actGrave_12 : cX6_actGrave.data.toList.drop 281 = dktX6_actGrave_12 := dk_seg dksX6_actGrave_11 22 rfl rfl
theorem dX6_actGrave_0 : decode cX6_actGrave 0 = .ok (.iload 4, 2) := dk_21 4 (dk_at dksX6_actGrave_0 0 rfl rfl)
theorem dX6_actGrave_2 : decode cX6_actGrave 2 = .ok (.iconst 1, 1) := dk_4 (dk_at dksX6_actGrave_0 2 rfl rfl)
theorem dX6_actGrave_3 : decode cX6_actGrave 3 = .ok (.if_icmp .lt 31, 3) := dk_161 0 31 (dk_at dksX6_actGrave_0 3 rfl rfl)
theorem dX6_actGrave_6 : decode cX6_actGrave 6 = .ok (.iload 4, 2) := dk_21 4 (dk_at dksX6_actGrave_0 6 rfl rfl)
theorem dX6_actGrave_8 : decode cX6_actGrave 8 = .ok (.bipush 6, 2) := dk_16 6 (dk_at dksX6_actGrave_0 8 rfl rfl)
theorem dX6_actGrave_10 : decode cX6_actGrave 10 = .ok (.if_icmp .gt 24, 3) := dk_163 0 24 (dk_at dksX6_actGrave_0 10 rfl rfl)
theorem dX6_actGrave_13 : decode cX6_actGrave 13 = .ok (.aload_n 0, 1) := dk_42 (dk_at dksX6_actGrave_0 13 rfl rfl)
theorem dX6_actGrave_14 : decode cX6_actGrave 14 = .ok (.iload 4, 2) := dk_21 4 (dk_at dksX6_actGrave_0 14 rfl rfl)
theorem dX6_actGrave_16 : decode cX6_actGrave 16 = .ok (.iload 5, 2) := dk_21 5 (dk_at dksX6_actGrave_0 16 rfl rfl)
theorem dX6_actGrave_18 : decode cX6_actGrave 18 = .ok (.invokevirtual 175, 3) := dk_182 0 175 (dk_at dksX6_actGrave_0 18 rfl rfl)
theorem dX6_actGrave_21 : decode cX6_actGrave 21 = .ok (.ifCond .eq 13, 3) := dk_153 0 13 (dk_at dksX6_actGrave_0 21 rfl rfl)
theorem dX6_actGrave_24 : decode cX6_actGrave 24 = .ok (.aload_n 0, 1) := dk_42 (dk_at dksX6_actGrave_1 0 rfl rfl)
theorem dX6_actGrave_25 : decode cX6_actGrave 25 = .ok (.getfield 141, 3) := dk_180 0 141 (dk_at dksX6_actGrave_1 1 rfl rfl)
theorem dX6_actGrave_28 : decode cX6_actGrave 28 = .ok (.sipush 150, 3) := dk_17 0 150 (dk_at dksX6_actGrave_1 4 rfl rfl)
theorem dX6_actGrave_31 : decode cX6_actGrave 31 = .ok (.if_icmp .ne 5, 3) := dk_160 0 5 (dk_at dksX6_actGrave_1 7 rfl rfl)
theorem dX6_actGrave_34 : decode cX6_actGrave 34 = .ok (.iconst (-1), 1) := dk_2 (dk_at dksX6_actGrave_1 10 rfl rfl)
theorem dX6_actGrave_35 : decode cX6_actGrave 35 = .ok (.ireturn, 1) := dk_172 (dk_at dksX6_actGrave_1 11 rfl rfl)
theorem dX6_actGrave_36 : decode cX6_actGrave 36 = .ok (.aload_n 0, 1) := dk_42 (dk_at dksX6_actGrave_1 12 rfl rfl)
theorem dX6_actGrave_37 : decode cX6_actGrave 37 = .ok (.iload_n 1, 1) := dk_27 (dk_at dksX6_actGrave_1 13 rfl rfl)
theorem dX6_actGrave_38 : decode cX6_actGrave 38 = .ok (.iload_n 2, 1) := dk_28 (dk_at dksX6_actGrave_1 14 rfl rfl)
theorem dX6_actGrave_39 : decode cX6_actGrave 39 = .ok (.iload_n 3, 1) := dk_29 (dk_at dksX6_actGrave_1 15 rfl rfl)
theorem dX6_actGrave_40 : decode cX6_actGrave 40 = .ok (.iload 4, 2) := dk_21 4 (dk_at dksX6_actGrave_1 16 rfl rfl)
theorem dX6_actGrave_42 : decode cX6_actGrave 42 = .ok (.iload 5, 2) := dk_21 5 (dk_at dksX6_actGrave_1 18 rfl rfl)
theorem dX6_actGrave_44 : decode cX6_actGrave 44 = .ok (.invokevirtual 178, 3) := dk_182 0 178 (dk_at dksX6_actGrave_1 20 rfl rfl)
theorem dX6_actGrave_47 : decode cX6_actGrave 47 = .ok (.istore 6, 2) := dk_54 6 (dk_at dksX6_actGrave_2 0 rfl rfl)
theorem dX6_actGrave_49 : decode cX6_actGrave 49 = .ok (.iload 6, 2) := dk_21 6 (dk_at dksX6_actGrave_2 2 rfl rfl)
theorem dX6_actGrave_51 : decode cX6_actGrave 51 = .ok (.ifCond .eq 6, 3) := dk_153 0 6 (dk_at dksX6_actGrave_2 4 rfl rfl)
theorem dX6_actGrave_54 : decode cX6_actGrave 54 = .ok (.iload 6, 2) := dk_21 6 (dk_at dksX6_actGrave_2 7 rfl rfl)
theorem dX6_actGrave_56 : decode cX6_actGrave 56 = .ok (.ireturn, 1) := dk_172 (dk_at dksX6_actGrave_2 9 rfl rfl)
theorem dX6_actGrave_57 : decode cX6_actGrave 57 = .ok (.aload_n 0, 1) := dk_42 (dk_at dksX6_actGrave_2 10 rfl rfl)
theorem dX6_actGrave_58 : decode cX6_actGrave 58 = .ok (.getfield 141, 3) := dk_180 0 141 (dk_at dksX6_actGrave_2 11 rfl rfl)
theorem dX6_actGrave_61 : decode cX6_actGrave 61 = .ok (.istore 7, 2) := dk_54 7 (dk_at dksX6_actGrave_2 14 rfl rfl)
theorem dX6_actGrave_63 : decode cX6_actGrave 63 = .ok (.aload_n 0, 1) := dk_42 (dk_at dksX6_actGrave_2 16 rfl rfl)
theorem dX6_actGrave_64 : decode cX6_actGrave 64 = .ok (.dup, 1) := dk_89 (dk_at dksX6_actGrave_2 17 rfl rfl)
theorem dX6_actGrave_65 : decode cX6_actGrave 65 = .ok (.getfield 141, 3) := dk_180 0 141 (dk_at dksX6_actGrave_2 18 rfl rfl)
theorem dX6_actGrave_68 : decode cX6_actGrave 68 = .ok (.iconst 1, 1) := dk_4 (dk_at dksX6_actGrave_2 21 rfl rfl)
theorem dX6_actGrave_69 : decode cX6_actGrave 69 = .ok (.iadd, 1) := dk_96 (dk_at dksX6_actGrave_2 22 rfl rfl)
theorem dX6_actGrave_70 : decode cX6_actGrave 70 = .ok (.putfield 141, 3) := dk_181 0 141 (dk_at dksX6_actGrave_3 0 rfl rfl)
theorem dX6_actGrave_73 : decode cX6_actGrave 73 = .ok (.aload_n 0, 1) := dk_42 (dk_at dksX6_actGrave_3 3 rfl rfl)
theorem dX6_actGrave_74 : decode cX6_actGrave 74 = .ok (.getfield 29, 3) := dk_180 0 29 (dk_at dksX6_actGrave_3 4 rfl rfl)
theorem dX6_actGrave_77 : decode cX6_actGrave 77 = .ok (.iload 7, 2) := dk_21 7 (dk_at dksX6_actGrave_3 7 rfl rfl)
theorem dX6_actGrave_79 : decode cX6_actGrave 79 = .ok (.iload 4, 2) := dk_21 4 (dk_at dksX6_actGrave_3 9 rfl rfl)
theorem dX6_actGrave_81 : decode cX6_actGrave 81 = .ok (.iastore, 1) := dk_79 (dk_at dksX6_actGrave_3 11 rfl rfl)
theorem dX6_actGrave_82 : decode cX6_actGrave 82 = .ok (.aload_n 0, 1) := dk_42 (dk_at dksX6_actGrave_3 12 rfl rfl)
theorem dX6_actGrave_83 : decode cX6_actGrave 83 = .ok (.getfield 32, 3) := dk_180 0 32 (dk_at dksX6_actGrave_3 13 rfl rfl)
theorem dX6_actGrave_86 : decode cX6_actGrave 86 = .ok (.iload 7, 2) := dk_21 7 (dk_at dksX6_actGrave_3 16 rfl rfl)
theorem dX6_actGrave_88 : decode cX6_actGrave 88 = .ok (.iconst 0, 1) := dk_3 (dk_at dksX6_actGrave_3 18 rfl rfl)
theorem dX6_actGrave_89 : decode cX6_actGrave 89 = .ok (.iastore, 1) := dk_79 (dk_at dksX6_actGrave_3 19 rfl rfl)
theorem dX6_actGrave_90 : decode cX6_actGrave 90 = .ok (.aload_n 0, 1) := dk_42 (dk_at dksX6_actGrave_3 20 rfl rfl)
theorem dX6_actGrave_91 : decode cX6_actGrave 91 = .ok (.getfield 35, 3) := dk_180 0 35 (dk_at dksX6_actGrave_3 21 rfl rfl)
theorem dX6_actGrave_94 : decode cX6_actGrave 94 = .ok (.iload 7, 2) := dk_21 7 (dk_at dksX6_actGrave_4 0 rfl rfl)
theorem dX6_actGrave_96 : decode cX6_actGrave 96 = .ok (.iconst (-1), 1) := dk_2 (dk_at dksX6_actGrave_4 2 rfl rfl)
theorem dX6_actGrave_97 : decode cX6_actGrave 97 = .ok (.iastore, 1) := dk_79 (dk_at dksX6_actGrave_4 3 rfl rfl)
theorem dX6_actGrave_98 : decode cX6_actGrave 98 = .ok (.aload_n 0, 1) := dk_42 (dk_at dksX6_actGrave_4 4 rfl rfl)
theorem dX6_actGrave_99 : decode cX6_actGrave 99 = .ok (.getfield 38, 3) := dk_180 0 38 (dk_at dksX6_actGrave_4 5 rfl rfl)
theorem dX6_actGrave_102 : decode cX6_actGrave 102 = .ok (.iload 7, 2) := dk_21 7 (dk_at dksX6_actGrave_4 8 rfl rfl)
theorem dX6_actGrave_104 : decode cX6_actGrave 104 = .ok (.iconst 0, 1) := dk_3 (dk_at dksX6_actGrave_4 10 rfl rfl)
theorem dX6_actGrave_105 : decode cX6_actGrave 105 = .ok (.iastore, 1) := dk_79 (dk_at dksX6_actGrave_4 11 rfl rfl)
theorem dX6_actGrave_106 : decode cX6_actGrave 106 = .ok (.aload_n 0, 1) := dk_42 (dk_at dksX6_actGrave_4 12 rfl rfl)
theorem dX6_actGrave_107 : decode cX6_actGrave 107 = .ok (.getfield 41, 3) := dk_180 0 41 (dk_at dksX6_actGrave_4 13 rfl rfl)
theorem dX6_actGrave_110 : decode cX6_actGrave 110 = .ok (.iload 7, 2) := dk_21 7 (dk_at dksX6_actGrave_4 16 rfl rfl)
theorem dX6_actGrave_112 : decode cX6_actGrave 112 = .ok (.iconst (-1), 1) := dk_2 (dk_at dksX6_actGrave_4 18 rfl rfl)
theorem dX6_actGrave_113 : decode cX6_actGrave 113 = .ok (.iastore, 1) := dk_79 (dk_at dksX6_actGrave_4 19 rfl rfl)
theorem dX6_actGrave_114 : decode cX6_actGrave 114 = .ok (.aload_n 0, 1) := dk_42 (dk_at dksX6_actGrave_4 20 rfl rfl)
theorem dX6_actGrave_115 : decode cX6_actGrave 115 = .ok (.getfield 44, 3) := dk_180 0 44 (dk_at dksX6_actGrave_4 21 rfl rfl)
theorem dX6_actGrave_118 : decode cX6_actGrave 118 = .ok (.iload 7, 2) := dk_21 7 (dk_at dksX6_actGrave_5 0 rfl rfl)
theorem dX6_actGrave_120 : decode cX6_actGrave 120 = .ok (.iconst 0, 1) := dk_3 (dk_at dksX6_actGrave_5 2 rfl rfl)
theorem dX6_actGrave_121 : decode cX6_actGrave 121 = .ok (.iastore, 1) := dk_79 (dk_at dksX6_actGrave_5 3 rfl rfl)
theorem dX6_actGrave_122 : decode cX6_actGrave 122 = .ok (.aload_n 0, 1) := dk_42 (dk_at dksX6_actGrave_5 4 rfl rfl)
theorem dX6_actGrave_123 : decode cX6_actGrave 123 = .ok (.getfield 47, 3) := dk_180 0 47 (dk_at dksX6_actGrave_5 5 rfl rfl)
theorem dX6_actGrave_126 : decode cX6_actGrave 126 = .ok (.iload 7, 2) := dk_21 7 (dk_at dksX6_actGrave_5 8 rfl rfl)
theorem dX6_actGrave_128 : decode cX6_actGrave 128 = .ok (.bipush 12, 2) := dk_16 12 (dk_at dksX6_actGrave_5 10 rfl rfl)
theorem dX6_actGrave_130 : decode cX6_actGrave 130 = .ok (.iload_n 1, 1) := dk_27 (dk_at dksX6_actGrave_5 12 rfl rfl)
theorem dX6_actGrave_131 : decode cX6_actGrave 131 = .ok (.imul, 1) := dk_104 (dk_at dksX6_actGrave_5 13 rfl rfl)
theorem dX6_actGrave_132 : decode cX6_actGrave 132 = .ok (.iload_n 2, 1) := dk_28 (dk_at dksX6_actGrave_5 14 rfl rfl)
theorem dX6_actGrave_133 : decode cX6_actGrave 133 = .ok (.iadd, 1) := dk_96 (dk_at dksX6_actGrave_5 15 rfl rfl)
theorem dX6_actGrave_134 : decode cX6_actGrave 134 = .ok (.iastore, 1) := dk_79 (dk_at dksX6_actGrave_5 16 rfl rfl)
theorem dX6_actGrave_135 : decode cX6_actGrave 135 = .ok (.aload_n 0, 1) := dk_42 (dk_at dksX6_actGrave_5 17 rfl rfl)
theorem dX6_actGrave_136 : decode cX6_actGrave 136 = .ok (.getfield 50, 3) := dk_180 0 50 (dk_at dksX6_actGrave_5 18 rfl rfl)
theorem dX6_actGrave_139 : decode cX6_actGrave 139 = .ok (.iload 7, 2) := dk_21 7 (dk_at dksX6_actGrave_5 21 rfl rfl)
theorem dX6_actGrave_141 : decode cX6_actGrave 141 = .ok (.iload_n 3, 1) := dk_29 (dk_at dksX6_actGrave_5 23 rfl rfl)
theorem dX6_actGrave_142 : decode cX6_actGrave 142 = .ok (.iastore, 1) := dk_79 (dk_at dksX6_actGrave_6 0 rfl rfl)
theorem dX6_actGrave_143 : decode cX6_actGrave 143 = .ok (.aload_n 0, 1) := dk_42 (dk_at dksX6_actGrave_6 1 rfl rfl)
theorem dX6_actGrave_144 : decode cX6_actGrave 144 = .ok (.getfield 53, 3) := dk_180 0 53 (dk_at dksX6_actGrave_6 2 rfl rfl)
theorem dX6_actGrave_147 : decode cX6_actGrave 147 = .ok (.iload 7, 2) := dk_21 7 (dk_at dksX6_actGrave_6 5 rfl rfl)
theorem dX6_actGrave_149 : decode cX6_actGrave 149 = .ok (.iload 5, 2) := dk_21 5 (dk_at dksX6_actGrave_6 7 rfl rfl)
theorem dX6_actGrave_151 : decode cX6_actGrave 151 = .ok (.iastore, 1) := dk_79 (dk_at dksX6_actGrave_6 9 rfl rfl)
theorem dX6_actGrave_152 : decode cX6_actGrave 152 = .ok (.aload_n 0, 1) := dk_42 (dk_at dksX6_actGrave_6 10 rfl rfl)
theorem dX6_actGrave_153 : decode cX6_actGrave 153 = .ok (.getfield 56, 3) := dk_180 0 56 (dk_at dksX6_actGrave_6 11 rfl rfl)
theorem dX6_actGrave_156 : decode cX6_actGrave 156 = .ok (.iload 7, 2) := dk_21 7 (dk_at dksX6_actGrave_6 14 rfl rfl)
theorem dX6_actGrave_158 : decode cX6_actGrave 158 = .ok (.iconst (-1), 1) := dk_2 (dk_at dksX6_actGrave_6 16 rfl rfl)
theorem dX6_actGrave_159 : decode cX6_actGrave 159 = .ok (.iastore, 1) := dk_79 (dk_at dksX6_actGrave_6 17 rfl rfl)
theorem dX6_actGrave_160 : decode cX6_actGrave 160 = .ok (.aload_n 0, 1) := dk_42 (dk_at dksX6_actGrave_6 18 rfl rfl)
theorem dX6_actGrave_161 : decode cX6_actGrave 161 = .ok (.getfield 65, 3) := dk_180 0 65 (dk_at dksX6_actGrave_6 19 rfl rfl)
theorem dX6_actGrave_164 : decode cX6_actGrave 164 = .ok (.iload 7, 2) := dk_21 7 (dk_at dksX6_actGrave_6 22 rfl rfl)
theorem dX6_actGrave_166 : decode cX6_actGrave 166 = .ok (.iconst 0, 1) := dk_3 (dk_at dksX6_actGrave_7 0 rfl rfl)
theorem dX6_actGrave_167 : decode cX6_actGrave 167 = .ok (.iastore, 1) := dk_79 (dk_at dksX6_actGrave_7 1 rfl rfl)
theorem dX6_actGrave_168 : decode cX6_actGrave 168 = .ok (.aload_n 0, 1) := dk_42 (dk_at dksX6_actGrave_7 2 rfl rfl)
theorem dX6_actGrave_169 : decode cX6_actGrave 169 = .ok (.getfield 68, 3) := dk_180 0 68 (dk_at dksX6_actGrave_7 3 rfl rfl)
theorem dX6_actGrave_172 : decode cX6_actGrave 172 = .ok (.iload 7, 2) := dk_21 7 (dk_at dksX6_actGrave_7 6 rfl rfl)
theorem dX6_actGrave_174 : decode cX6_actGrave 174 = .ok (.iconst 0, 1) := dk_3 (dk_at dksX6_actGrave_7 8 rfl rfl)
theorem dX6_actGrave_175 : decode cX6_actGrave 175 = .ok (.iastore, 1) := dk_79 (dk_at dksX6_actGrave_7 9 rfl rfl)
theorem dX6_actGrave_176 : decode cX6_actGrave 176 = .ok (.aload_n 0, 1) := dk_42 (dk_at dksX6_actGrave_7 10 rfl rfl)
theorem dX6_actGrave_177 : decode cX6_actGrave 177 = .ok (.getfield 77, 3) := dk_180 0 77 (dk_at dksX6_actGrave_7 11 rfl rfl)
theorem dX6_actGrave_180 : decode cX6_actGrave 180 = .ok (.iload 7, 2) := dk_21 7 (dk_at dksX6_actGrave_7 14 rfl rfl)
theorem dX6_actGrave_182 : decode cX6_actGrave 182 = .ok (.iconst 0, 1) := dk_3 (dk_at dksX6_actGrave_7 16 rfl rfl)
theorem dX6_actGrave_183 : decode cX6_actGrave 183 = .ok (.iastore, 1) := dk_79 (dk_at dksX6_actGrave_7 17 rfl rfl)
theorem dX6_actGrave_184 : decode cX6_actGrave 184 = .ok (.iconst 0, 1) := dk_3 (dk_at dksX6_actGrave_7 18 rfl rfl)
theorem dX6_actGrave_185 : decode cX6_actGrave 185 = .ok (.istore 8, 2) := dk_54 8 (dk_at dksX6_actGrave_7 19 rfl rfl)
theorem dX6_actGrave_187 : decode cX6_actGrave 187 = .ok (.iload 8, 2) := dk_21 8 (dk_at dksX6_actGrave_7 21 rfl rfl)
theorem dX6_actGrave_189 : decode cX6_actGrave 189 = .ok (.sipush 150, 3) := dk_17 0 150 (dk_at dksX6_actGrave_8 0 rfl rfl)
theorem dX6_actGrave_192 : decode cX6_actGrave 192 = .ok (.if_icmp .ge 24, 3) := dk_162 0 24 (dk_at dksX6_actGrave_8 3 rfl rfl)
theorem dX6_actGrave_195 : decode cX6_actGrave 195 = .ok (.aload_n 0, 1) := dk_42 (dk_at dksX6_actGrave_8 6 rfl rfl)
theorem dX6_actGrave_196 : decode cX6_actGrave 196 = .ok (.getfield 59, 3) := dk_180 0 59 (dk_at dksX6_actGrave_8 7 rfl rfl)
theorem dX6_actGrave_199 : decode cX6_actGrave 199 = .ok (.sipush 150, 3) := dk_17 0 150 (dk_at dksX6_actGrave_8 10 rfl rfl)
theorem dX6_actGrave_202 : decode cX6_actGrave 202 = .ok (.iload 7, 2) := dk_21 7 (dk_at dksX6_actGrave_8 13 rfl rfl)
theorem dX6_actGrave_204 : decode cX6_actGrave 204 = .ok (.imul, 1) := dk_104 (dk_at dksX6_actGrave_8 15 rfl rfl)
theorem dX6_actGrave_205 : decode cX6_actGrave 205 = .ok (.iload 8, 2) := dk_21 8 (dk_at dksX6_actGrave_8 16 rfl rfl)
theorem dX6_actGrave_207 : decode cX6_actGrave 207 = .ok (.iadd, 1) := dk_96 (dk_at dksX6_actGrave_8 18 rfl rfl)
theorem dX6_actGrave_208 : decode cX6_actGrave 208 = .ok (.iconst 0, 1) := dk_3 (dk_at dksX6_actGrave_8 19 rfl rfl)
theorem dX6_actGrave_209 : decode cX6_actGrave 209 = .ok (.bastore, 1) := dk_84 (dk_at dksX6_actGrave_8 20 rfl rfl)
theorem dX6_actGrave_210 : decode cX6_actGrave 210 = .ok (.iinc 8 1, 3) := dk_132 8 1 (dk_at dksX6_actGrave_8 21 rfl rfl)
theorem dX6_actGrave_213 : decode cX6_actGrave 213 = .ok (.goto (-26), 3) := dk_167 255 230 (dk_at dksX6_actGrave_9 0 rfl rfl)
theorem dX6_actGrave_216 : decode cX6_actGrave 216 = .ok (.iconst 0, 1) := dk_3 (dk_at dksX6_actGrave_9 3 rfl rfl)
theorem dX6_actGrave_217 : decode cX6_actGrave 217 = .ok (.istore 8, 2) := dk_54 8 (dk_at dksX6_actGrave_9 4 rfl rfl)
theorem dX6_actGrave_219 : decode cX6_actGrave 219 = .ok (.iload 8, 2) := dk_21 8 (dk_at dksX6_actGrave_9 6 rfl rfl)
theorem dX6_actGrave_221 : decode cX6_actGrave 221 = .ok (.bipush 8, 2) := dk_16 8 (dk_at dksX6_actGrave_9 8 rfl rfl)
theorem dX6_actGrave_223 : decode cX6_actGrave 223 = .ok (.if_icmp .ge 23, 3) := dk_162 0 23 (dk_at dksX6_actGrave_9 10 rfl rfl)
theorem dX6_actGrave_226 : decode cX6_actGrave 226 = .ok (.aload_n 0, 1) := dk_42 (dk_at dksX6_actGrave_9 13 rfl rfl)
theorem dX6_actGrave_227 : decode cX6_actGrave 227 = .ok (.getfield 71, 3) := dk_180 0 71 (dk_at dksX6_actGrave_9 14 rfl rfl)
theorem dX6_actGrave_230 : decode cX6_actGrave 230 = .ok (.bipush 8, 2) := dk_16 8 (dk_at dksX6_actGrave_9 17 rfl rfl)
theorem dX6_actGrave_232 : decode cX6_actGrave 232 = .ok (.iload 7, 2) := dk_21 7 (dk_at dksX6_actGrave_9 19 rfl rfl)
theorem dX6_actGrave_234 : decode cX6_actGrave 234 = .ok (.imul, 1) := dk_104 (dk_at dksX6_actGrave_9 21 rfl rfl)
theorem dX6_actGrave_235 : decode cX6_actGrave 235 = .ok (.iload 8, 2) := dk_21 8 (dk_at dksX6_actGrave_9 22 rfl rfl)
theorem dX6_actGrave_237 : decode cX6_actGrave 237 = .ok (.iadd, 1) := dk_96 (dk_at dksX6_actGrave_10 0 rfl rfl)
theorem dX6_actGrave_238 : decode cX6_actGrave 238 = .ok (.iconst (-1), 1) := dk_2 (dk_at dksX6_actGrave_10 1 rfl rfl)
theorem dX6_actGrave_239 : decode cX6_actGrave 239 = .ok (.iastore, 1) := dk_79 (dk_at dksX6_actGrave_10 2 rfl rfl)
theorem dX6_actGrave_240 : decode cX6_actGrave 240 = .ok (.iinc 8 1, 3) := dk_132 8 1 (dk_at dksX6_actGrave_10 3 rfl rfl)
theorem dX6_actGrave_243 : decode cX6_actGrave 243 = .ok (.goto (-24), 3) := dk_167 255 232 (dk_at dksX6_actGrave_10 6 rfl rfl)
theorem dX6_actGrave_246 : decode cX6_actGrave 246 = .ok (.iload_n 3, 1) := dk_29 (dk_at dksX6_actGrave_10 9 rfl rfl)
theorem dX6_actGrave_247 : decode cX6_actGrave 247 = .ok (.istore 8, 2) := dk_54 8 (dk_at dksX6_actGrave_10 10 rfl rfl)
theorem dX6_actGrave_249 : decode cX6_actGrave 249 = .ok (.iload 8, 2) := dk_21 8 (dk_at dksX6_actGrave_10 12 rfl rfl)
theorem dX6_actGrave_251 : decode cX6_actGrave 251 = .ok (.iload_n 3, 1) := dk_29 (dk_at dksX6_actGrave_10 14 rfl rfl)
theorem dX6_actGrave_252 : decode cX6_actGrave 252 = .ok (.iload 5, 2) := dk_21 5 (dk_at dksX6_actGrave_10 15 rfl rfl)
theorem dX6_actGrave_254 : decode cX6_actGrave 254 = .ok (.iadd, 1) := dk_96 (dk_at dksX6_actGrave_10 17 rfl rfl)
theorem dX6_actGrave_255 : decode cX6_actGrave 255 = .ok (.if_icmp .ge 32, 3) := dk_162 0 32 (dk_at dksX6_actGrave_10 18 rfl rfl)
theorem dX6_actGrave_258 : decode cX6_actGrave 258 = .ok (.aload_n 0, 1) := dk_42 (dk_at dksX6_actGrave_10 21 rfl rfl)
theorem dX6_actGrave_259 : decode cX6_actGrave 259 = .ok (.getfield 26, 3) := dk_180 0 26 (dk_at dksX6_actGrave_11 0 rfl rfl)
theorem dX6_actGrave_262 : decode cX6_actGrave 262 = .ok (.bipush 30, 2) := dk_16 30 (dk_at dksX6_actGrave_11 3 rfl rfl)
theorem dX6_actGrave_264 : decode cX6_actGrave 264 = .ok (.aload_n 0, 1) := dk_42 (dk_at dksX6_actGrave_11 5 rfl rfl)
theorem dX6_actGrave_265 : decode cX6_actGrave 265 = .ok (.getfield 47, 3) := dk_180 0 47 (dk_at dksX6_actGrave_11 6 rfl rfl)
theorem dX6_actGrave_268 : decode cX6_actGrave 268 = .ok (.iload 7, 2) := dk_21 7 (dk_at dksX6_actGrave_11 9 rfl rfl)
theorem dX6_actGrave_270 : decode cX6_actGrave 270 = .ok (.iaload, 1) := dk_46 (dk_at dksX6_actGrave_11 11 rfl rfl)
theorem dX6_actGrave_271 : decode cX6_actGrave 271 = .ok (.imul, 1) := dk_104 (dk_at dksX6_actGrave_11 12 rfl rfl)
theorem dX6_actGrave_272 : decode cX6_actGrave 272 = .ok (.iload 8, 2) := dk_21 8 (dk_at dksX6_actGrave_11 13 rfl rfl)
theorem dX6_actGrave_274 : decode cX6_actGrave 274 = .ok (.iadd, 1) := dk_96 (dk_at dksX6_actGrave_11 15 rfl rfl)
theorem dX6_actGrave_275 : decode cX6_actGrave 275 = .ok (.bipush 10, 2) := dk_16 10 (dk_at dksX6_actGrave_11 16 rfl rfl)
theorem dX6_actGrave_277 : decode cX6_actGrave 277 = .ok (.iload 7, 2) := dk_21 7 (dk_at dksX6_actGrave_11 18 rfl rfl)
theorem dX6_actGrave_279 : decode cX6_actGrave 279 = .ok (.iadd, 1) := dk_96 (dk_at dksX6_actGrave_11 20 rfl rfl)
theorem dX6_actGrave_280 : decode cX6_actGrave 280 = .ok (.iastore, 1) := dk_79 (dk_at dksX6_actGrave_11 21 rfl rfl)
theorem dX6_actGrave_281 : decode cX6_actGrave 281 = .ok (.iinc 8 1, 3) := dk_132 8 1 (dk_at dksX6_actGrave_12 0 rfl rfl)
theorem dX6_actGrave_284 : decode cX6_actGrave 284 = .ok (.goto (-35), 3) := dk_167 255 221 (dk_at dksX6_actGrave_12 3 rfl rfl)
theorem dX6_actGrave_287 : decode cX6_actGrave 287 = .ok (.iload 7, 2) := dk_21 7 (dk_at dksX6_actGrave_12 6 rfl rfl)
theorem dX6_actGrave_289 : decode cX6_actGrave 289 = .ok (.ireturn, 1) := dk_172 (dk_at dksX6_actGrave_12 8 rfl rfl)
abbrev cX6_isWide : ByteArray := prog_21_method_13_code
def yX6_isWide : MethodName := ⟨RX6, "isWide", "(II)Z"⟩
def dkwX6_isWide_2 : List UInt8 := [16, 6, 163, 0, 12, 28, 4, 160, 0, 7, 4, 167, 0, 4, 3, 172]
abbrev dktX6_isWide_2 : List UInt8 := dkwX6_isWide_2 ++ []
def dkwX6_isWide_1 : List UInt8 := [8, 160, 0, 16, 28, 6, 160, 0, 7, 4, 167, 0, 28, 3, 167, 0, 24, 27, 4, 161, 0, 18, 27]
abbrev dktX6_isWide_1 : List UInt8 := dkwX6_isWide_1 ++ dktX6_isWide_2
def dkwX6_isWide_0 : List UInt8 := [27, 6, 160, 0, 21, 28, 5, 161, 0, 12, 28, 7, 163, 0, 7, 4, 167, 0, 46, 3, 167, 0, 42, 27]
abbrev dktX6_isWide_0 : List UInt8 := dkwX6_isWide_0 ++ dktX6_isWide_1
theorem dksX6_isWide_0 : cX6_isWide.data.toList.drop 0 = dktX6_isWide_0 := by decide +kernel
theorem dksX6_isWide_1 : cX6_isWide.data.toList.drop 24 = dktX6_isWide_1 := dk_seg dksX6_isWide_0 24 rfl rfl
theorem dksX6_isWide_2 : cX6_isWide.data.toList.drop 47 = dktX6_isWide_2 := dk_seg dksX6_isWide_1 23 rfl rfl
theorem dX6_isWide_0 : decode cX6_isWide 0 = .ok (.iload_n 1, 1) := dk_27 (dk_at dksX6_isWide_0 0 rfl rfl)
theorem dX6_isWide_1 : decode cX6_isWide 1 = .ok (.iconst 3, 1) := dk_6 (dk_at dksX6_isWide_0 1 rfl rfl)
theorem dX6_isWide_2 : decode cX6_isWide 2 = .ok (.if_icmp .ne 21, 3) := dk_160 0 21 (dk_at dksX6_isWide_0 2 rfl rfl)
theorem dX6_isWide_5 : decode cX6_isWide 5 = .ok (.iload_n 2, 1) := dk_28 (dk_at dksX6_isWide_0 5 rfl rfl)
theorem dX6_isWide_6 : decode cX6_isWide 6 = .ok (.iconst 2, 1) := dk_5 (dk_at dksX6_isWide_0 6 rfl rfl)
theorem dX6_isWide_7 : decode cX6_isWide 7 = .ok (.if_icmp .lt 12, 3) := dk_161 0 12 (dk_at dksX6_isWide_0 7 rfl rfl)
theorem dX6_isWide_10 : decode cX6_isWide 10 = .ok (.iload_n 2, 1) := dk_28 (dk_at dksX6_isWide_0 10 rfl rfl)
theorem dX6_isWide_11 : decode cX6_isWide 11 = .ok (.iconst 4, 1) := dk_7 (dk_at dksX6_isWide_0 11 rfl rfl)
theorem dX6_isWide_12 : decode cX6_isWide 12 = .ok (.if_icmp .gt 7, 3) := dk_163 0 7 (dk_at dksX6_isWide_0 12 rfl rfl)
theorem dX6_isWide_15 : decode cX6_isWide 15 = .ok (.iconst 1, 1) := dk_4 (dk_at dksX6_isWide_0 15 rfl rfl)
theorem dX6_isWide_16 : decode cX6_isWide 16 = .ok (.goto 46, 3) := dk_167 0 46 (dk_at dksX6_isWide_0 16 rfl rfl)
theorem dX6_isWide_19 : decode cX6_isWide 19 = .ok (.iconst 0, 1) := dk_3 (dk_at dksX6_isWide_0 19 rfl rfl)
theorem dX6_isWide_20 : decode cX6_isWide 20 = .ok (.goto 42, 3) := dk_167 0 42 (dk_at dksX6_isWide_0 20 rfl rfl)
theorem dX6_isWide_23 : decode cX6_isWide 23 = .ok (.iload_n 1, 1) := dk_27 (dk_at dksX6_isWide_0 23 rfl rfl)
theorem dX6_isWide_24 : decode cX6_isWide 24 = .ok (.iconst 5, 1) := dk_8 (dk_at dksX6_isWide_1 0 rfl rfl)
theorem dX6_isWide_25 : decode cX6_isWide 25 = .ok (.if_icmp .ne 16, 3) := dk_160 0 16 (dk_at dksX6_isWide_1 1 rfl rfl)
theorem dX6_isWide_28 : decode cX6_isWide 28 = .ok (.iload_n 2, 1) := dk_28 (dk_at dksX6_isWide_1 4 rfl rfl)
theorem dX6_isWide_29 : decode cX6_isWide 29 = .ok (.iconst 3, 1) := dk_6 (dk_at dksX6_isWide_1 5 rfl rfl)
theorem dX6_isWide_30 : decode cX6_isWide 30 = .ok (.if_icmp .ne 7, 3) := dk_160 0 7 (dk_at dksX6_isWide_1 6 rfl rfl)
theorem dX6_isWide_33 : decode cX6_isWide 33 = .ok (.iconst 1, 1) := dk_4 (dk_at dksX6_isWide_1 9 rfl rfl)
theorem dX6_isWide_34 : decode cX6_isWide 34 = .ok (.goto 28, 3) := dk_167 0 28 (dk_at dksX6_isWide_1 10 rfl rfl)
theorem dX6_isWide_37 : decode cX6_isWide 37 = .ok (.iconst 0, 1) := dk_3 (dk_at dksX6_isWide_1 13 rfl rfl)
theorem dX6_isWide_38 : decode cX6_isWide 38 = .ok (.goto 24, 3) := dk_167 0 24 (dk_at dksX6_isWide_1 14 rfl rfl)
theorem dX6_isWide_41 : decode cX6_isWide 41 = .ok (.iload_n 1, 1) := dk_27 (dk_at dksX6_isWide_1 17 rfl rfl)
theorem dX6_isWide_42 : decode cX6_isWide 42 = .ok (.iconst 1, 1) := dk_4 (dk_at dksX6_isWide_1 18 rfl rfl)
theorem dX6_isWide_43 : decode cX6_isWide 43 = .ok (.if_icmp .lt 18, 3) := dk_161 0 18 (dk_at dksX6_isWide_1 19 rfl rfl)
theorem dX6_isWide_46 : decode cX6_isWide 46 = .ok (.iload_n 1, 1) := dk_27 (dk_at dksX6_isWide_1 22 rfl rfl)
theorem dX6_isWide_47 : decode cX6_isWide 47 = .ok (.bipush 6, 2) := dk_16 6 (dk_at dksX6_isWide_2 0 rfl rfl)
theorem dX6_isWide_49 : decode cX6_isWide 49 = .ok (.if_icmp .gt 12, 3) := dk_163 0 12 (dk_at dksX6_isWide_2 2 rfl rfl)
theorem dX6_isWide_52 : decode cX6_isWide 52 = .ok (.iload_n 2, 1) := dk_28 (dk_at dksX6_isWide_2 5 rfl rfl)
theorem dX6_isWide_53 : decode cX6_isWide 53 = .ok (.iconst 1, 1) := dk_4 (dk_at dksX6_isWide_2 6 rfl rfl)
theorem dX6_isWide_54 : decode cX6_isWide 54 = .ok (.if_icmp .ne 7, 3) := dk_160 0 7 (dk_at dksX6_isWide_2 7 rfl rfl)
theorem dX6_isWide_57 : decode cX6_isWide 57 = .ok (.iconst 1, 1) := dk_4 (dk_at dksX6_isWide_2 10 rfl rfl)
theorem dX6_isWide_58 : decode cX6_isWide 58 = .ok (.goto 4, 3) := dk_167 0 4 (dk_at dksX6_isWide_2 11 rfl rfl)
theorem dX6_isWide_61 : decode cX6_isWide 61 = .ok (.iconst 0, 1) := dk_3 (dk_at dksX6_isWide_2 14 rfl rfl)
theorem dX6_isWide_62 : decode cX6_isWide 62 = .ok (.ireturn, 1) := dk_172 (dk_at dksX6_isWide_2 15 rfl rfl)
abbrev cX6_layFault : ByteArray := prog_21_method_15_code
def yX6_layFault : MethodName := ⟨RX6, "layFault", "(IIIII)I"⟩
def dkwX6_layFault_6 : List UInt8 := [153, 0, 7, 3, 167, 0, 5, 16, 248, 172]
abbrev dktX6_layFault_6 : List UInt8 := dkwX6_layFault_6 ++ []
def dkwX6_layFault_5 : List UInt8 := [182, 0, 169, 153, 0, 6, 16, 249, 172, 42, 42, 180, 0, 16, 21, 7, 46, 21, 4, 182, 0, 172]
abbrev dktX6_layFault_5 : List UInt8 := dkwX6_layFault_5 ++ dktX6_layFault_6
def dkwX6_layFault_4 : List UInt8 := [153, 0, 31, 42, 21, 7, 29, 4, 100, 182, 0, 169, 154, 0, 16, 42, 21, 7, 29, 21, 5, 96]
abbrev dktX6_layFault_4 : List UInt8 := dkwX6_layFault_4 ++ dktX6_layFault_5
def dkwX6_layFault_3 : List UInt8 := [21, 8, 96, 46, 153, 0, 6, 16, 250, 172, 132, 8, 1, 167, 255, 201, 42, 21, 4, 182, 0, 157]
abbrev dktX6_layFault_3 : List UInt8 := dkwX6_layFault_3 ++ dktX6_layFault_4
def dkwX6_layFault_2 : List UInt8 := [180, 0, 19, 21, 7, 46, 161, 0, 6, 16, 252, 172, 42, 180, 0, 26, 16, 30, 21, 7, 104, 29, 96]
abbrev dktX6_layFault_2 : List UInt8 := dkwX6_layFault_2 ++ dktX6_layFault_3
def dkwX6_layFault_1 : List UInt8 := [3, 54, 8, 21, 8, 21, 5, 162, 0, 54, 29, 21, 8, 96, 155, 0, 17, 29, 21, 8, 96, 42]
abbrev dktX6_layFault_1 : List UInt8 := dkwX6_layFault_1 ++ dktX6_layFault_2
def dkwX6_layFault_0 : List UInt8 := [42, 27, 28, 182, 0, 153, 54, 6, 21, 6, 153, 0, 6, 21, 6, 172, 16, 12, 27, 104, 28, 96, 54, 7]
abbrev dktX6_layFault_0 : List UInt8 := dkwX6_layFault_0 ++ dktX6_layFault_1
theorem dksX6_layFault_0 : cX6_layFault.data.toList.drop 0 = dktX6_layFault_0 := by decide +kernel
theorem dksX6_layFault_1 : cX6_layFault.data.toList.drop 24 = dktX6_layFault_1 := dk_seg dksX6_layFault_0 24 rfl rfl
theorem dksX6_layFault_2 : cX6_layFault.data.toList.drop 46 = dktX6_layFault_2 := dk_seg dksX6_layFault_1 22 rfl rfl
theorem dksX6_layFault_3 : cX6_layFault.data.toList.drop 69 = dktX6_layFault_3 := dk_seg dksX6_layFault_2 23 rfl rfl
theorem dksX6_layFault_4 : cX6_layFault.data.toList.drop 91 = dktX6_layFault_4 := dk_seg dksX6_layFault_3 22 rfl rfl
theorem dksX6_layFault_5 : cX6_layFault.data.toList.drop 113 = dktX6_layFault_5 := dk_seg dksX6_layFault_4 22 rfl rfl
theorem dksX6_layFault_6 : cX6_layFault.data.toList.drop 135 = dktX6_layFault_6 := dk_seg dksX6_layFault_5 22 rfl rfl
theorem dX6_layFault_0 : decode cX6_layFault 0 = .ok (.aload_n 0, 1) := dk_42 (dk_at dksX6_layFault_0 0 rfl rfl)
theorem dX6_layFault_1 : decode cX6_layFault 1 = .ok (.iload_n 1, 1) := dk_27 (dk_at dksX6_layFault_0 1 rfl rfl)
theorem dX6_layFault_2 : decode cX6_layFault 2 = .ok (.iload_n 2, 1) := dk_28 (dk_at dksX6_layFault_0 2 rfl rfl)
theorem dX6_layFault_3 : decode cX6_layFault 3 = .ok (.invokevirtual 153, 3) := dk_182 0 153 (dk_at dksX6_layFault_0 3 rfl rfl)
theorem dX6_layFault_6 : decode cX6_layFault 6 = .ok (.istore 6, 2) := dk_54 6 (dk_at dksX6_layFault_0 6 rfl rfl)
theorem dX6_layFault_8 : decode cX6_layFault 8 = .ok (.iload 6, 2) := dk_21 6 (dk_at dksX6_layFault_0 8 rfl rfl)
theorem dX6_layFault_10 : decode cX6_layFault 10 = .ok (.ifCond .eq 6, 3) := dk_153 0 6 (dk_at dksX6_layFault_0 10 rfl rfl)
theorem dX6_layFault_13 : decode cX6_layFault 13 = .ok (.iload 6, 2) := dk_21 6 (dk_at dksX6_layFault_0 13 rfl rfl)
theorem dX6_layFault_15 : decode cX6_layFault 15 = .ok (.ireturn, 1) := dk_172 (dk_at dksX6_layFault_0 15 rfl rfl)
theorem dX6_layFault_16 : decode cX6_layFault 16 = .ok (.bipush 12, 2) := dk_16 12 (dk_at dksX6_layFault_0 16 rfl rfl)
theorem dX6_layFault_18 : decode cX6_layFault 18 = .ok (.iload_n 1, 1) := dk_27 (dk_at dksX6_layFault_0 18 rfl rfl)
theorem dX6_layFault_19 : decode cX6_layFault 19 = .ok (.imul, 1) := dk_104 (dk_at dksX6_layFault_0 19 rfl rfl)
theorem dX6_layFault_20 : decode cX6_layFault 20 = .ok (.iload_n 2, 1) := dk_28 (dk_at dksX6_layFault_0 20 rfl rfl)
theorem dX6_layFault_21 : decode cX6_layFault 21 = .ok (.iadd, 1) := dk_96 (dk_at dksX6_layFault_0 21 rfl rfl)
theorem dX6_layFault_22 : decode cX6_layFault 22 = .ok (.istore 7, 2) := dk_54 7 (dk_at dksX6_layFault_0 22 rfl rfl)
theorem dX6_layFault_24 : decode cX6_layFault 24 = .ok (.iconst 0, 1) := dk_3 (dk_at dksX6_layFault_1 0 rfl rfl)
theorem dX6_layFault_25 : decode cX6_layFault 25 = .ok (.istore 8, 2) := dk_54 8 (dk_at dksX6_layFault_1 1 rfl rfl)
theorem dX6_layFault_27 : decode cX6_layFault 27 = .ok (.iload 8, 2) := dk_21 8 (dk_at dksX6_layFault_1 3 rfl rfl)
theorem dX6_layFault_29 : decode cX6_layFault 29 = .ok (.iload 5, 2) := dk_21 5 (dk_at dksX6_layFault_1 5 rfl rfl)
theorem dX6_layFault_31 : decode cX6_layFault 31 = .ok (.if_icmp .ge 54, 3) := dk_162 0 54 (dk_at dksX6_layFault_1 7 rfl rfl)
theorem dX6_layFault_34 : decode cX6_layFault 34 = .ok (.iload_n 3, 1) := dk_29 (dk_at dksX6_layFault_1 10 rfl rfl)
theorem dX6_layFault_35 : decode cX6_layFault 35 = .ok (.iload 8, 2) := dk_21 8 (dk_at dksX6_layFault_1 11 rfl rfl)
theorem dX6_layFault_37 : decode cX6_layFault 37 = .ok (.iadd, 1) := dk_96 (dk_at dksX6_layFault_1 13 rfl rfl)
theorem dX6_layFault_38 : decode cX6_layFault 38 = .ok (.ifCond .lt 17, 3) := dk_155 0 17 (dk_at dksX6_layFault_1 14 rfl rfl)
theorem dX6_layFault_41 : decode cX6_layFault 41 = .ok (.iload_n 3, 1) := dk_29 (dk_at dksX6_layFault_1 17 rfl rfl)
theorem dX6_layFault_42 : decode cX6_layFault 42 = .ok (.iload 8, 2) := dk_21 8 (dk_at dksX6_layFault_1 18 rfl rfl)
theorem dX6_layFault_44 : decode cX6_layFault 44 = .ok (.iadd, 1) := dk_96 (dk_at dksX6_layFault_1 20 rfl rfl)
theorem dX6_layFault_45 : decode cX6_layFault 45 = .ok (.aload_n 0, 1) := dk_42 (dk_at dksX6_layFault_1 21 rfl rfl)
theorem dX6_layFault_46 : decode cX6_layFault 46 = .ok (.getfield 19, 3) := dk_180 0 19 (dk_at dksX6_layFault_2 0 rfl rfl)
theorem dX6_layFault_49 : decode cX6_layFault 49 = .ok (.iload 7, 2) := dk_21 7 (dk_at dksX6_layFault_2 3 rfl rfl)
theorem dX6_layFault_51 : decode cX6_layFault 51 = .ok (.iaload, 1) := dk_46 (dk_at dksX6_layFault_2 5 rfl rfl)
theorem dX6_layFault_52 : decode cX6_layFault 52 = .ok (.if_icmp .lt 6, 3) := dk_161 0 6 (dk_at dksX6_layFault_2 6 rfl rfl)
theorem dX6_layFault_55 : decode cX6_layFault 55 = .ok (.bipush (-4), 2) := dk_16 252 (dk_at dksX6_layFault_2 9 rfl rfl)
theorem dX6_layFault_57 : decode cX6_layFault 57 = .ok (.ireturn, 1) := dk_172 (dk_at dksX6_layFault_2 11 rfl rfl)
theorem dX6_layFault_58 : decode cX6_layFault 58 = .ok (.aload_n 0, 1) := dk_42 (dk_at dksX6_layFault_2 12 rfl rfl)
theorem dX6_layFault_59 : decode cX6_layFault 59 = .ok (.getfield 26, 3) := dk_180 0 26 (dk_at dksX6_layFault_2 13 rfl rfl)
theorem dX6_layFault_62 : decode cX6_layFault 62 = .ok (.bipush 30, 2) := dk_16 30 (dk_at dksX6_layFault_2 16 rfl rfl)
theorem dX6_layFault_64 : decode cX6_layFault 64 = .ok (.iload 7, 2) := dk_21 7 (dk_at dksX6_layFault_2 18 rfl rfl)
theorem dX6_layFault_66 : decode cX6_layFault 66 = .ok (.imul, 1) := dk_104 (dk_at dksX6_layFault_2 20 rfl rfl)
theorem dX6_layFault_67 : decode cX6_layFault 67 = .ok (.iload_n 3, 1) := dk_29 (dk_at dksX6_layFault_2 21 rfl rfl)
theorem dX6_layFault_68 : decode cX6_layFault 68 = .ok (.iadd, 1) := dk_96 (dk_at dksX6_layFault_2 22 rfl rfl)
theorem dX6_layFault_69 : decode cX6_layFault 69 = .ok (.iload 8, 2) := dk_21 8 (dk_at dksX6_layFault_3 0 rfl rfl)
theorem dX6_layFault_71 : decode cX6_layFault 71 = .ok (.iadd, 1) := dk_96 (dk_at dksX6_layFault_3 2 rfl rfl)
theorem dX6_layFault_72 : decode cX6_layFault 72 = .ok (.iaload, 1) := dk_46 (dk_at dksX6_layFault_3 3 rfl rfl)
theorem dX6_layFault_73 : decode cX6_layFault 73 = .ok (.ifCond .eq 6, 3) := dk_153 0 6 (dk_at dksX6_layFault_3 4 rfl rfl)
theorem dX6_layFault_76 : decode cX6_layFault 76 = .ok (.bipush (-6), 2) := dk_16 250 (dk_at dksX6_layFault_3 7 rfl rfl)
theorem dX6_layFault_78 : decode cX6_layFault 78 = .ok (.ireturn, 1) := dk_172 (dk_at dksX6_layFault_3 9 rfl rfl)
theorem dX6_layFault_79 : decode cX6_layFault 79 = .ok (.iinc 8 1, 3) := dk_132 8 1 (dk_at dksX6_layFault_3 10 rfl rfl)
theorem dX6_layFault_82 : decode cX6_layFault 82 = .ok (.goto (-55), 3) := dk_167 255 201 (dk_at dksX6_layFault_3 13 rfl rfl)
theorem dX6_layFault_85 : decode cX6_layFault 85 = .ok (.aload_n 0, 1) := dk_42 (dk_at dksX6_layFault_3 16 rfl rfl)
theorem dX6_layFault_86 : decode cX6_layFault 86 = .ok (.iload 4, 2) := dk_21 4 (dk_at dksX6_layFault_3 17 rfl rfl)
theorem dX6_layFault_88 : decode cX6_layFault 88 = .ok (.invokevirtual 157, 3) := dk_182 0 157 (dk_at dksX6_layFault_3 19 rfl rfl)
theorem dX6_layFault_91 : decode cX6_layFault 91 = .ok (.ifCond .eq 31, 3) := dk_153 0 31 (dk_at dksX6_layFault_4 0 rfl rfl)
theorem dX6_layFault_94 : decode cX6_layFault 94 = .ok (.aload_n 0, 1) := dk_42 (dk_at dksX6_layFault_4 3 rfl rfl)
theorem dX6_layFault_95 : decode cX6_layFault 95 = .ok (.iload 7, 2) := dk_21 7 (dk_at dksX6_layFault_4 4 rfl rfl)
theorem dX6_layFault_97 : decode cX6_layFault 97 = .ok (.iload_n 3, 1) := dk_29 (dk_at dksX6_layFault_4 6 rfl rfl)
theorem dX6_layFault_98 : decode cX6_layFault 98 = .ok (.iconst 1, 1) := dk_4 (dk_at dksX6_layFault_4 7 rfl rfl)
theorem dX6_layFault_99 : decode cX6_layFault 99 = .ok (.isub, 1) := dk_100 (dk_at dksX6_layFault_4 8 rfl rfl)
theorem dX6_layFault_100 : decode cX6_layFault 100 = .ok (.invokevirtual 169, 3) := dk_182 0 169 (dk_at dksX6_layFault_4 9 rfl rfl)
theorem dX6_layFault_103 : decode cX6_layFault 103 = .ok (.ifCond .ne 16, 3) := dk_154 0 16 (dk_at dksX6_layFault_4 12 rfl rfl)
theorem dX6_layFault_106 : decode cX6_layFault 106 = .ok (.aload_n 0, 1) := dk_42 (dk_at dksX6_layFault_4 15 rfl rfl)
theorem dX6_layFault_107 : decode cX6_layFault 107 = .ok (.iload 7, 2) := dk_21 7 (dk_at dksX6_layFault_4 16 rfl rfl)
theorem dX6_layFault_109 : decode cX6_layFault 109 = .ok (.iload_n 3, 1) := dk_29 (dk_at dksX6_layFault_4 18 rfl rfl)
theorem dX6_layFault_110 : decode cX6_layFault 110 = .ok (.iload 5, 2) := dk_21 5 (dk_at dksX6_layFault_4 19 rfl rfl)
theorem dX6_layFault_112 : decode cX6_layFault 112 = .ok (.iadd, 1) := dk_96 (dk_at dksX6_layFault_4 21 rfl rfl)
theorem dX6_layFault_113 : decode cX6_layFault 113 = .ok (.invokevirtual 169, 3) := dk_182 0 169 (dk_at dksX6_layFault_5 0 rfl rfl)
theorem dX6_layFault_116 : decode cX6_layFault 116 = .ok (.ifCond .eq 6, 3) := dk_153 0 6 (dk_at dksX6_layFault_5 3 rfl rfl)
theorem dX6_layFault_119 : decode cX6_layFault 119 = .ok (.bipush (-7), 2) := dk_16 249 (dk_at dksX6_layFault_5 6 rfl rfl)
theorem dX6_layFault_121 : decode cX6_layFault 121 = .ok (.ireturn, 1) := dk_172 (dk_at dksX6_layFault_5 8 rfl rfl)
theorem dX6_layFault_122 : decode cX6_layFault 122 = .ok (.aload_n 0, 1) := dk_42 (dk_at dksX6_layFault_5 9 rfl rfl)
theorem dX6_layFault_123 : decode cX6_layFault 123 = .ok (.aload_n 0, 1) := dk_42 (dk_at dksX6_layFault_5 10 rfl rfl)
theorem dX6_layFault_124 : decode cX6_layFault 124 = .ok (.getfield 16, 3) := dk_180 0 16 (dk_at dksX6_layFault_5 11 rfl rfl)
theorem dX6_layFault_127 : decode cX6_layFault 127 = .ok (.iload 7, 2) := dk_21 7 (dk_at dksX6_layFault_5 14 rfl rfl)
theorem dX6_layFault_129 : decode cX6_layFault 129 = .ok (.iaload, 1) := dk_46 (dk_at dksX6_layFault_5 16 rfl rfl)
theorem dX6_layFault_130 : decode cX6_layFault 130 = .ok (.iload 4, 2) := dk_21 4 (dk_at dksX6_layFault_5 17 rfl rfl)
theorem dX6_layFault_132 : decode cX6_layFault 132 = .ok (.invokevirtual 172, 3) := dk_182 0 172 (dk_at dksX6_layFault_5 19 rfl rfl)
theorem dX6_layFault_135 : decode cX6_layFault 135 = .ok (.ifCond .eq 7, 3) := dk_153 0 7 (dk_at dksX6_layFault_6 0 rfl rfl)
theorem dX6_layFault_138 : decode cX6_layFault 138 = .ok (.iconst 0, 1) := dk_3 (dk_at dksX6_layFault_6 3 rfl rfl)
theorem dX6_layFault_139 : decode cX6_layFault 139 = .ok (.goto 5, 3) := dk_167 0 5 (dk_at dksX6_layFault_6 4 rfl rfl)
theorem dX6_layFault_142 : decode cX6_layFault 142 = .ok (.bipush (-8), 2) := dk_16 248 (dk_at dksX6_layFault_6 7 rfl rfl)
theorem dX6_layFault_144 : decode cX6_layFault 144 = .ok (.ireturn, 1) := dk_172 (dk_at dksX6_layFault_6 9 rfl rfl)
abbrev cX6_isTree : ByteArray := prog_21_method_11_code
def yX6_isTree : MethodName := ⟨RX6, "isTree", "(II)Z"⟩
def dkwX6_isTree_1 : List UInt8 := [46, 4, 160, 0, 7, 4, 167, 0, 4, 3, 172]
abbrev dktX6_isTree_1 : List UInt8 := dkwX6_isTree_1 ++ []
def dkwX6_isTree_0 : List UInt8 := [28, 155, 0, 32, 28, 42, 180, 0, 19, 27, 46, 162, 0, 22, 42, 180, 0, 26, 16, 30, 27, 104, 28, 96]
abbrev dktX6_isTree_0 : List UInt8 := dkwX6_isTree_0 ++ dktX6_isTree_1
theorem dksX6_isTree_0 : cX6_isTree.data.toList.drop 0 = dktX6_isTree_0 := by decide +kernel
theorem dksX6_isTree_1 : cX6_isTree.data.toList.drop 24 = dktX6_isTree_1 := dk_seg dksX6_isTree_0 24 rfl rfl
theorem dX6_isTree_0 : decode cX6_isTree 0 = .ok (.iload_n 2, 1) := dk_28 (dk_at dksX6_isTree_0 0 rfl rfl)
theorem dX6_isTree_1 : decode cX6_isTree 1 = .ok (.ifCond .lt 32, 3) := dk_155 0 32 (dk_at dksX6_isTree_0 1 rfl rfl)
theorem dX6_isTree_4 : decode cX6_isTree 4 = .ok (.iload_n 2, 1) := dk_28 (dk_at dksX6_isTree_0 4 rfl rfl)
theorem dX6_isTree_5 : decode cX6_isTree 5 = .ok (.aload_n 0, 1) := dk_42 (dk_at dksX6_isTree_0 5 rfl rfl)
theorem dX6_isTree_6 : decode cX6_isTree 6 = .ok (.getfield 19, 3) := dk_180 0 19 (dk_at dksX6_isTree_0 6 rfl rfl)
theorem dX6_isTree_9 : decode cX6_isTree 9 = .ok (.iload_n 1, 1) := dk_27 (dk_at dksX6_isTree_0 9 rfl rfl)
theorem dX6_isTree_10 : decode cX6_isTree 10 = .ok (.iaload, 1) := dk_46 (dk_at dksX6_isTree_0 10 rfl rfl)
theorem dX6_isTree_11 : decode cX6_isTree 11 = .ok (.if_icmp .ge 22, 3) := dk_162 0 22 (dk_at dksX6_isTree_0 11 rfl rfl)
theorem dX6_isTree_14 : decode cX6_isTree 14 = .ok (.aload_n 0, 1) := dk_42 (dk_at dksX6_isTree_0 14 rfl rfl)
theorem dX6_isTree_15 : decode cX6_isTree 15 = .ok (.getfield 26, 3) := dk_180 0 26 (dk_at dksX6_isTree_0 15 rfl rfl)
theorem dX6_isTree_18 : decode cX6_isTree 18 = .ok (.bipush 30, 2) := dk_16 30 (dk_at dksX6_isTree_0 18 rfl rfl)
theorem dX6_isTree_20 : decode cX6_isTree 20 = .ok (.iload_n 1, 1) := dk_27 (dk_at dksX6_isTree_0 20 rfl rfl)
theorem dX6_isTree_21 : decode cX6_isTree 21 = .ok (.imul, 1) := dk_104 (dk_at dksX6_isTree_0 21 rfl rfl)
theorem dX6_isTree_22 : decode cX6_isTree 22 = .ok (.iload_n 2, 1) := dk_28 (dk_at dksX6_isTree_0 22 rfl rfl)
theorem dX6_isTree_23 : decode cX6_isTree 23 = .ok (.iadd, 1) := dk_96 (dk_at dksX6_isTree_0 23 rfl rfl)
theorem dX6_isTree_24 : decode cX6_isTree 24 = .ok (.iaload, 1) := dk_46 (dk_at dksX6_isTree_1 0 rfl rfl)
theorem dX6_isTree_25 : decode cX6_isTree 25 = .ok (.iconst 1, 1) := dk_4 (dk_at dksX6_isTree_1 1 rfl rfl)
theorem dX6_isTree_26 : decode cX6_isTree 26 = .ok (.if_icmp .ne 7, 3) := dk_160 0 7 (dk_at dksX6_isTree_1 2 rfl rfl)
theorem dX6_isTree_29 : decode cX6_isTree 29 = .ok (.iconst 1, 1) := dk_4 (dk_at dksX6_isTree_1 5 rfl rfl)
theorem dX6_isTree_30 : decode cX6_isTree 30 = .ok (.goto 4, 3) := dk_167 0 4 (dk_at dksX6_isTree_1 6 rfl rfl)
theorem dX6_isTree_33 : decode cX6_isTree 33 = .ok (.iconst 0, 1) := dk_3 (dk_at dksX6_isTree_1 9 rfl rfl)
theorem dX6_isTree_34 : decode cX6_isTree 34 = .ok (.ireturn, 1) := dk_172 (dk_at dksX6_isTree_1 10 rfl rfl)
abbrev cX6_suits : ByteArray := prog_21_method_14_code
def yX6_suits : MethodName := ⟨RX6, "suits", "(II)Z"⟩
def dkwX6_suits_1 : List UInt8 := [167, 0, 22, 3, 167, 0, 18, 28, 5, 159, 0, 8, 28, 6, 160, 0, 7, 4, 167, 0, 4, 3, 172]
abbrev dktX6_suits_1 : List UInt8 := dkwX6_suits_1 ++ []
def dkwX6_suits_0 : List UInt8 := [27, 5, 162, 0, 5, 4, 172, 27, 5, 160, 0, 21, 28, 7, 159, 0, 8, 28, 8, 160, 0, 7, 4]
abbrev dktX6_suits_0 : List UInt8 := dkwX6_suits_0 ++ dktX6_suits_1
theorem dksX6_suits_0 : cX6_suits.data.toList.drop 0 = dktX6_suits_0 := by decide +kernel
theorem dksX6_suits_1 : cX6_suits.data.toList.drop 23 = dktX6_suits_1 := dk_seg dksX6_suits_0 23 rfl rfl
theorem dX6_suits_0 : decode cX6_suits 0 = .ok (.iload_n 1, 1) := dk_27 (dk_at dksX6_suits_0 0 rfl rfl)
theorem dX6_suits_1 : decode cX6_suits 1 = .ok (.iconst 2, 1) := dk_5 (dk_at dksX6_suits_0 1 rfl rfl)
theorem dX6_suits_2 : decode cX6_suits 2 = .ok (.if_icmp .ge 5, 3) := dk_162 0 5 (dk_at dksX6_suits_0 2 rfl rfl)
theorem dX6_suits_5 : decode cX6_suits 5 = .ok (.iconst 1, 1) := dk_4 (dk_at dksX6_suits_0 5 rfl rfl)
theorem dX6_suits_6 : decode cX6_suits 6 = .ok (.ireturn, 1) := dk_172 (dk_at dksX6_suits_0 6 rfl rfl)
theorem dX6_suits_7 : decode cX6_suits 7 = .ok (.iload_n 1, 1) := dk_27 (dk_at dksX6_suits_0 7 rfl rfl)
theorem dX6_suits_8 : decode cX6_suits 8 = .ok (.iconst 2, 1) := dk_5 (dk_at dksX6_suits_0 8 rfl rfl)
theorem dX6_suits_9 : decode cX6_suits 9 = .ok (.if_icmp .ne 21, 3) := dk_160 0 21 (dk_at dksX6_suits_0 9 rfl rfl)
theorem dX6_suits_12 : decode cX6_suits 12 = .ok (.iload_n 2, 1) := dk_28 (dk_at dksX6_suits_0 12 rfl rfl)
theorem dX6_suits_13 : decode cX6_suits 13 = .ok (.iconst 4, 1) := dk_7 (dk_at dksX6_suits_0 13 rfl rfl)
theorem dX6_suits_14 : decode cX6_suits 14 = .ok (.if_icmp .eq 8, 3) := dk_159 0 8 (dk_at dksX6_suits_0 14 rfl rfl)
theorem dX6_suits_17 : decode cX6_suits 17 = .ok (.iload_n 2, 1) := dk_28 (dk_at dksX6_suits_0 17 rfl rfl)
theorem dX6_suits_18 : decode cX6_suits 18 = .ok (.iconst 5, 1) := dk_8 (dk_at dksX6_suits_0 18 rfl rfl)
theorem dX6_suits_19 : decode cX6_suits 19 = .ok (.if_icmp .ne 7, 3) := dk_160 0 7 (dk_at dksX6_suits_0 19 rfl rfl)
theorem dX6_suits_22 : decode cX6_suits 22 = .ok (.iconst 1, 1) := dk_4 (dk_at dksX6_suits_0 22 rfl rfl)
theorem dX6_suits_23 : decode cX6_suits 23 = .ok (.goto 22, 3) := dk_167 0 22 (dk_at dksX6_suits_1 0 rfl rfl)
theorem dX6_suits_26 : decode cX6_suits 26 = .ok (.iconst 0, 1) := dk_3 (dk_at dksX6_suits_1 3 rfl rfl)
theorem dX6_suits_27 : decode cX6_suits 27 = .ok (.goto 18, 3) := dk_167 0 18 (dk_at dksX6_suits_1 4 rfl rfl)
theorem dX6_suits_30 : decode cX6_suits 30 = .ok (.iload_n 2, 1) := dk_28 (dk_at dksX6_suits_1 7 rfl rfl)
theorem dX6_suits_31 : decode cX6_suits 31 = .ok (.iconst 2, 1) := dk_5 (dk_at dksX6_suits_1 8 rfl rfl)
theorem dX6_suits_32 : decode cX6_suits 32 = .ok (.if_icmp .eq 8, 3) := dk_159 0 8 (dk_at dksX6_suits_1 9 rfl rfl)
theorem dX6_suits_35 : decode cX6_suits 35 = .ok (.iload_n 2, 1) := dk_28 (dk_at dksX6_suits_1 12 rfl rfl)
theorem dX6_suits_36 : decode cX6_suits 36 = .ok (.iconst 3, 1) := dk_6 (dk_at dksX6_suits_1 13 rfl rfl)
theorem dX6_suits_37 : decode cX6_suits 37 = .ok (.if_icmp .ne 7, 3) := dk_160 0 7 (dk_at dksX6_suits_1 14 rfl rfl)
theorem dX6_suits_40 : decode cX6_suits 40 = .ok (.iconst 1, 1) := dk_4 (dk_at dksX6_suits_1 17 rfl rfl)
theorem dX6_suits_41 : decode cX6_suits 41 = .ok (.goto 4, 3) := dk_167 0 4 (dk_at dksX6_suits_1 18 rfl rfl)
theorem dX6_suits_44 : decode cX6_suits 44 = .ok (.iconst 0, 1) := dk_3 (dk_at dksX6_suits_1 21 rfl rfl)
theorem dX6_suits_45 : decode cX6_suits 45 = .ok (.ireturn, 1) := dk_172 (dk_at dksX6_suits_1 22 rfl rfl)
abbrev cX6_actPerson : ByteArray := prog_21_method_21_code
def yX6_actPerson : MethodName := ⟨RX6, "actPerson", "(I)I"⟩
def dkwX6_actPerson_5 : List UInt8 := [42, 180, 0, 113, 28, 2, 79, 28, 172]
abbrev dktX6_actPerson_5 : List UInt8 := dkwX6_actPerson_5 ++ []
def dkwX6_actPerson_4 : List UInt8 := [28, 2, 79, 42, 180, 0, 104, 28, 2, 79, 42, 180, 0, 107, 28, 2, 79, 42, 180, 0, 110, 28, 2, 79]
abbrev dktX6_actPerson_4 : List UInt8 := dkwX6_actPerson_4 ++ dktX6_actPerson_5
def dkwX6_actPerson_3 : List UInt8 := [180, 0, 92, 28, 3, 79, 42, 180, 0, 95, 28, 3, 79, 42, 180, 0, 98, 28, 3, 79, 42, 180, 0, 101]
abbrev dktX6_actPerson_3 : List UInt8 := dkwX6_actPerson_3 ++ dktX6_actPerson_4
def dkwX6_actPerson_2 : List UInt8 := [42, 180, 0, 83, 28, 3, 84, 42, 180, 0, 86, 28, 3, 79, 42, 180, 0, 89, 28, 2, 79, 42]
abbrev dktX6_actPerson_2 : List UInt8 := dkwX6_actPerson_2 ++ dktX6_actPerson_3
def dkwX6_actPerson_1 : List UInt8 := [2, 172, 42, 180, 0, 144, 61, 42, 89, 180, 0, 144, 4, 96, 181, 0, 144, 42, 180, 0, 80, 28, 27, 79]
abbrev dktX6_actPerson_1 : List UInt8 := dkwX6_actPerson_1 ++ dktX6_actPerson_2
def dkwX6_actPerson_0 : List UInt8 := [27, 42, 180, 0, 135, 163, 0, 19, 27, 18, 182, 161, 0, 13, 42, 180, 0, 144, 17, 0, 150, 160, 0, 5]
abbrev dktX6_actPerson_0 : List UInt8 := dkwX6_actPerson_0 ++ dktX6_actPerson_1
theorem dksX6_actPerson_0 : cX6_actPerson.data.toList.drop 0 = dktX6_actPerson_0 := by decide +kernel
theorem dksX6_actPerson_1 : cX6_actPerson.data.toList.drop 24 = dktX6_actPerson_1 := dk_seg dksX6_actPerson_0 24 rfl rfl
theorem dksX6_actPerson_2 : cX6_actPerson.data.toList.drop 48 = dktX6_actPerson_2 := dk_seg dksX6_actPerson_1 24 rfl rfl
theorem dksX6_actPerson_3 : cX6_actPerson.data.toList.drop 70 = dktX6_actPerson_3 := dk_seg dksX6_actPerson_2 22 rfl rfl
theorem dksX6_actPerson_4 : cX6_actPerson.data.toList.drop 94 = dktX6_actPerson_4 := dk_seg dksX6_actPerson_3 24 rfl rfl
theorem dksX6_actPerson_5 : cX6_actPerson.data.toList.drop 118 = dktX6_actPerson_5 := dk_seg dksX6_actPerson_4 24 rfl rfl
theorem dX6_actPerson_0 : decode cX6_actPerson 0 = .ok (.iload_n 1, 1) := dk_27 (dk_at dksX6_actPerson_0 0 rfl rfl)
theorem dX6_actPerson_1 : decode cX6_actPerson 1 = .ok (.aload_n 0, 1) := dk_42 (dk_at dksX6_actPerson_0 1 rfl rfl)
theorem dX6_actPerson_2 : decode cX6_actPerson 2 = .ok (.getfield 135, 3) := dk_180 0 135 (dk_at dksX6_actPerson_0 2 rfl rfl)
theorem dX6_actPerson_5 : decode cX6_actPerson 5 = .ok (.if_icmp .gt 19, 3) := dk_163 0 19 (dk_at dksX6_actPerson_0 5 rfl rfl)
theorem dX6_actPerson_8 : decode cX6_actPerson 8 = .ok (.iload_n 1, 1) := dk_27 (dk_at dksX6_actPerson_0 8 rfl rfl)
theorem dX6_actPerson_9 : decode cX6_actPerson 9 = .ok (.ldc 182, 2) := dk_18 182 (dk_at dksX6_actPerson_0 9 rfl rfl)
theorem dX6_actPerson_11 : decode cX6_actPerson 11 = .ok (.if_icmp .lt 13, 3) := dk_161 0 13 (dk_at dksX6_actPerson_0 11 rfl rfl)
theorem dX6_actPerson_14 : decode cX6_actPerson 14 = .ok (.aload_n 0, 1) := dk_42 (dk_at dksX6_actPerson_0 14 rfl rfl)
theorem dX6_actPerson_15 : decode cX6_actPerson 15 = .ok (.getfield 144, 3) := dk_180 0 144 (dk_at dksX6_actPerson_0 15 rfl rfl)
theorem dX6_actPerson_18 : decode cX6_actPerson 18 = .ok (.sipush 150, 3) := dk_17 0 150 (dk_at dksX6_actPerson_0 18 rfl rfl)
theorem dX6_actPerson_21 : decode cX6_actPerson 21 = .ok (.if_icmp .ne 5, 3) := dk_160 0 5 (dk_at dksX6_actPerson_0 21 rfl rfl)
theorem dX6_actPerson_24 : decode cX6_actPerson 24 = .ok (.iconst (-1), 1) := dk_2 (dk_at dksX6_actPerson_1 0 rfl rfl)
theorem dX6_actPerson_25 : decode cX6_actPerson 25 = .ok (.ireturn, 1) := dk_172 (dk_at dksX6_actPerson_1 1 rfl rfl)
theorem dX6_actPerson_26 : decode cX6_actPerson 26 = .ok (.aload_n 0, 1) := dk_42 (dk_at dksX6_actPerson_1 2 rfl rfl)
theorem dX6_actPerson_27 : decode cX6_actPerson 27 = .ok (.getfield 144, 3) := dk_180 0 144 (dk_at dksX6_actPerson_1 3 rfl rfl)
theorem dX6_actPerson_30 : decode cX6_actPerson 30 = .ok (.istore_n 2, 1) := dk_61 (dk_at dksX6_actPerson_1 6 rfl rfl)
theorem dX6_actPerson_31 : decode cX6_actPerson 31 = .ok (.aload_n 0, 1) := dk_42 (dk_at dksX6_actPerson_1 7 rfl rfl)
theorem dX6_actPerson_32 : decode cX6_actPerson 32 = .ok (.dup, 1) := dk_89 (dk_at dksX6_actPerson_1 8 rfl rfl)
theorem dX6_actPerson_33 : decode cX6_actPerson 33 = .ok (.getfield 144, 3) := dk_180 0 144 (dk_at dksX6_actPerson_1 9 rfl rfl)
theorem dX6_actPerson_36 : decode cX6_actPerson 36 = .ok (.iconst 1, 1) := dk_4 (dk_at dksX6_actPerson_1 12 rfl rfl)
theorem dX6_actPerson_37 : decode cX6_actPerson 37 = .ok (.iadd, 1) := dk_96 (dk_at dksX6_actPerson_1 13 rfl rfl)
theorem dX6_actPerson_38 : decode cX6_actPerson 38 = .ok (.putfield 144, 3) := dk_181 0 144 (dk_at dksX6_actPerson_1 14 rfl rfl)
theorem dX6_actPerson_41 : decode cX6_actPerson 41 = .ok (.aload_n 0, 1) := dk_42 (dk_at dksX6_actPerson_1 17 rfl rfl)
theorem dX6_actPerson_42 : decode cX6_actPerson 42 = .ok (.getfield 80, 3) := dk_180 0 80 (dk_at dksX6_actPerson_1 18 rfl rfl)
theorem dX6_actPerson_45 : decode cX6_actPerson 45 = .ok (.iload_n 2, 1) := dk_28 (dk_at dksX6_actPerson_1 21 rfl rfl)
theorem dX6_actPerson_46 : decode cX6_actPerson 46 = .ok (.iload_n 1, 1) := dk_27 (dk_at dksX6_actPerson_1 22 rfl rfl)
theorem dX6_actPerson_47 : decode cX6_actPerson 47 = .ok (.iastore, 1) := dk_79 (dk_at dksX6_actPerson_1 23 rfl rfl)
theorem dX6_actPerson_48 : decode cX6_actPerson 48 = .ok (.aload_n 0, 1) := dk_42 (dk_at dksX6_actPerson_2 0 rfl rfl)
theorem dX6_actPerson_49 : decode cX6_actPerson 49 = .ok (.getfield 83, 3) := dk_180 0 83 (dk_at dksX6_actPerson_2 1 rfl rfl)
theorem dX6_actPerson_52 : decode cX6_actPerson 52 = .ok (.iload_n 2, 1) := dk_28 (dk_at dksX6_actPerson_2 4 rfl rfl)
theorem dX6_actPerson_53 : decode cX6_actPerson 53 = .ok (.iconst 0, 1) := dk_3 (dk_at dksX6_actPerson_2 5 rfl rfl)
theorem dX6_actPerson_54 : decode cX6_actPerson 54 = .ok (.bastore, 1) := dk_84 (dk_at dksX6_actPerson_2 6 rfl rfl)
theorem dX6_actPerson_55 : decode cX6_actPerson 55 = .ok (.aload_n 0, 1) := dk_42 (dk_at dksX6_actPerson_2 7 rfl rfl)
theorem dX6_actPerson_56 : decode cX6_actPerson 56 = .ok (.getfield 86, 3) := dk_180 0 86 (dk_at dksX6_actPerson_2 8 rfl rfl)
theorem dX6_actPerson_59 : decode cX6_actPerson 59 = .ok (.iload_n 2, 1) := dk_28 (dk_at dksX6_actPerson_2 11 rfl rfl)
theorem dX6_actPerson_60 : decode cX6_actPerson 60 = .ok (.iconst 0, 1) := dk_3 (dk_at dksX6_actPerson_2 12 rfl rfl)
theorem dX6_actPerson_61 : decode cX6_actPerson 61 = .ok (.iastore, 1) := dk_79 (dk_at dksX6_actPerson_2 13 rfl rfl)
theorem dX6_actPerson_62 : decode cX6_actPerson 62 = .ok (.aload_n 0, 1) := dk_42 (dk_at dksX6_actPerson_2 14 rfl rfl)
theorem dX6_actPerson_63 : decode cX6_actPerson 63 = .ok (.getfield 89, 3) := dk_180 0 89 (dk_at dksX6_actPerson_2 15 rfl rfl)
theorem dX6_actPerson_66 : decode cX6_actPerson 66 = .ok (.iload_n 2, 1) := dk_28 (dk_at dksX6_actPerson_2 18 rfl rfl)
theorem dX6_actPerson_67 : decode cX6_actPerson 67 = .ok (.iconst (-1), 1) := dk_2 (dk_at dksX6_actPerson_2 19 rfl rfl)
theorem dX6_actPerson_68 : decode cX6_actPerson 68 = .ok (.iastore, 1) := dk_79 (dk_at dksX6_actPerson_2 20 rfl rfl)
theorem dX6_actPerson_69 : decode cX6_actPerson 69 = .ok (.aload_n 0, 1) := dk_42 (dk_at dksX6_actPerson_2 21 rfl rfl)
theorem dX6_actPerson_70 : decode cX6_actPerson 70 = .ok (.getfield 92, 3) := dk_180 0 92 (dk_at dksX6_actPerson_3 0 rfl rfl)
theorem dX6_actPerson_73 : decode cX6_actPerson 73 = .ok (.iload_n 2, 1) := dk_28 (dk_at dksX6_actPerson_3 3 rfl rfl)
theorem dX6_actPerson_74 : decode cX6_actPerson 74 = .ok (.iconst 0, 1) := dk_3 (dk_at dksX6_actPerson_3 4 rfl rfl)
theorem dX6_actPerson_75 : decode cX6_actPerson 75 = .ok (.iastore, 1) := dk_79 (dk_at dksX6_actPerson_3 5 rfl rfl)
theorem dX6_actPerson_76 : decode cX6_actPerson 76 = .ok (.aload_n 0, 1) := dk_42 (dk_at dksX6_actPerson_3 6 rfl rfl)
theorem dX6_actPerson_77 : decode cX6_actPerson 77 = .ok (.getfield 95, 3) := dk_180 0 95 (dk_at dksX6_actPerson_3 7 rfl rfl)
theorem dX6_actPerson_80 : decode cX6_actPerson 80 = .ok (.iload_n 2, 1) := dk_28 (dk_at dksX6_actPerson_3 10 rfl rfl)
theorem dX6_actPerson_81 : decode cX6_actPerson 81 = .ok (.iconst 0, 1) := dk_3 (dk_at dksX6_actPerson_3 11 rfl rfl)
theorem dX6_actPerson_82 : decode cX6_actPerson 82 = .ok (.iastore, 1) := dk_79 (dk_at dksX6_actPerson_3 12 rfl rfl)
theorem dX6_actPerson_83 : decode cX6_actPerson 83 = .ok (.aload_n 0, 1) := dk_42 (dk_at dksX6_actPerson_3 13 rfl rfl)
theorem dX6_actPerson_84 : decode cX6_actPerson 84 = .ok (.getfield 98, 3) := dk_180 0 98 (dk_at dksX6_actPerson_3 14 rfl rfl)
theorem dX6_actPerson_87 : decode cX6_actPerson 87 = .ok (.iload_n 2, 1) := dk_28 (dk_at dksX6_actPerson_3 17 rfl rfl)
theorem dX6_actPerson_88 : decode cX6_actPerson 88 = .ok (.iconst 0, 1) := dk_3 (dk_at dksX6_actPerson_3 18 rfl rfl)
theorem dX6_actPerson_89 : decode cX6_actPerson 89 = .ok (.iastore, 1) := dk_79 (dk_at dksX6_actPerson_3 19 rfl rfl)
theorem dX6_actPerson_90 : decode cX6_actPerson 90 = .ok (.aload_n 0, 1) := dk_42 (dk_at dksX6_actPerson_3 20 rfl rfl)
theorem dX6_actPerson_91 : decode cX6_actPerson 91 = .ok (.getfield 101, 3) := dk_180 0 101 (dk_at dksX6_actPerson_3 21 rfl rfl)
theorem dX6_actPerson_94 : decode cX6_actPerson 94 = .ok (.iload_n 2, 1) := dk_28 (dk_at dksX6_actPerson_4 0 rfl rfl)
theorem dX6_actPerson_95 : decode cX6_actPerson 95 = .ok (.iconst (-1), 1) := dk_2 (dk_at dksX6_actPerson_4 1 rfl rfl)
theorem dX6_actPerson_96 : decode cX6_actPerson 96 = .ok (.iastore, 1) := dk_79 (dk_at dksX6_actPerson_4 2 rfl rfl)
theorem dX6_actPerson_97 : decode cX6_actPerson 97 = .ok (.aload_n 0, 1) := dk_42 (dk_at dksX6_actPerson_4 3 rfl rfl)
theorem dX6_actPerson_98 : decode cX6_actPerson 98 = .ok (.getfield 104, 3) := dk_180 0 104 (dk_at dksX6_actPerson_4 4 rfl rfl)
theorem dX6_actPerson_101 : decode cX6_actPerson 101 = .ok (.iload_n 2, 1) := dk_28 (dk_at dksX6_actPerson_4 7 rfl rfl)
theorem dX6_actPerson_102 : decode cX6_actPerson 102 = .ok (.iconst (-1), 1) := dk_2 (dk_at dksX6_actPerson_4 8 rfl rfl)
theorem dX6_actPerson_103 : decode cX6_actPerson 103 = .ok (.iastore, 1) := dk_79 (dk_at dksX6_actPerson_4 9 rfl rfl)
theorem dX6_actPerson_104 : decode cX6_actPerson 104 = .ok (.aload_n 0, 1) := dk_42 (dk_at dksX6_actPerson_4 10 rfl rfl)
theorem dX6_actPerson_105 : decode cX6_actPerson 105 = .ok (.getfield 107, 3) := dk_180 0 107 (dk_at dksX6_actPerson_4 11 rfl rfl)
theorem dX6_actPerson_108 : decode cX6_actPerson 108 = .ok (.iload_n 2, 1) := dk_28 (dk_at dksX6_actPerson_4 14 rfl rfl)
theorem dX6_actPerson_109 : decode cX6_actPerson 109 = .ok (.iconst (-1), 1) := dk_2 (dk_at dksX6_actPerson_4 15 rfl rfl)
theorem dX6_actPerson_110 : decode cX6_actPerson 110 = .ok (.iastore, 1) := dk_79 (dk_at dksX6_actPerson_4 16 rfl rfl)
theorem dX6_actPerson_111 : decode cX6_actPerson 111 = .ok (.aload_n 0, 1) := dk_42 (dk_at dksX6_actPerson_4 17 rfl rfl)
theorem dX6_actPerson_112 : decode cX6_actPerson 112 = .ok (.getfield 110, 3) := dk_180 0 110 (dk_at dksX6_actPerson_4 18 rfl rfl)
theorem dX6_actPerson_115 : decode cX6_actPerson 115 = .ok (.iload_n 2, 1) := dk_28 (dk_at dksX6_actPerson_4 21 rfl rfl)
theorem dX6_actPerson_116 : decode cX6_actPerson 116 = .ok (.iconst (-1), 1) := dk_2 (dk_at dksX6_actPerson_4 22 rfl rfl)
theorem dX6_actPerson_117 : decode cX6_actPerson 117 = .ok (.iastore, 1) := dk_79 (dk_at dksX6_actPerson_4 23 rfl rfl)
theorem dX6_actPerson_118 : decode cX6_actPerson 118 = .ok (.aload_n 0, 1) := dk_42 (dk_at dksX6_actPerson_5 0 rfl rfl)
theorem dX6_actPerson_119 : decode cX6_actPerson 119 = .ok (.getfield 113, 3) := dk_180 0 113 (dk_at dksX6_actPerson_5 1 rfl rfl)
theorem dX6_actPerson_122 : decode cX6_actPerson 122 = .ok (.iload_n 2, 1) := dk_28 (dk_at dksX6_actPerson_5 4 rfl rfl)
theorem dX6_actPerson_123 : decode cX6_actPerson 123 = .ok (.iconst (-1), 1) := dk_2 (dk_at dksX6_actPerson_5 5 rfl rfl)
theorem dX6_actPerson_124 : decode cX6_actPerson 124 = .ok (.iastore, 1) := dk_79 (dk_at dksX6_actPerson_5 6 rfl rfl)
theorem dX6_actPerson_125 : decode cX6_actPerson 125 = .ok (.iload_n 2, 1) := dk_28 (dk_at dksX6_actPerson_5 7 rfl rfl)
theorem dX6_actPerson_126 : decode cX6_actPerson 126 = .ok (.ireturn, 1) := dk_172 (dk_at dksX6_actPerson_5 8 rfl rfl)
abbrev cX6_actKin : ByteArray := prog_21_method_22_code
def yX6_actKin : MethodName := ⟨RX6, "actKin", "(III)I"⟩
def dkwX6_actKin_6 : List UInt8 := [29, 27, 79, 3, 172]
abbrev dktX6_actKin_6 : List UInt8 := dkwX6_actKin_6 ++ []
def dkwX6_actKin_5 : List UInt8 := [172, 42, 180, 0, 107, 29, 46, 156, 0, 13, 42, 180, 0, 107, 29, 27, 79, 167, 0, 10, 42, 180, 0, 110]
abbrev dktX6_actKin_5 : List UInt8 := dkwX6_actKin_5 ++ dktX6_actKin_6
def dkwX6_actKin_4 : List UInt8 := [180, 0, 80, 27, 46, 42, 180, 0, 80, 29, 46, 162, 0, 12, 42, 180, 0, 110, 29, 46, 155, 0, 5, 2]
abbrev dktX6_actKin_4 : List UInt8 := dkwX6_actKin_4 ++ dktX6_actKin_5
def dkwX6_actKin_3 : List UInt8 := [3, 172, 42, 180, 0, 107, 29, 46, 27, 159, 0, 37, 42, 180, 0, 110, 29, 46, 27, 159, 0, 27, 42]
abbrev dktX6_actKin_3 : List UInt8 := dkwX6_actKin_3 ++ dktX6_actKin_4
def dkwX6_actKin_2 : List UInt8 := [180, 0, 104, 29, 46, 155, 0, 5, 2, 172, 42, 180, 0, 104, 27, 29, 79, 42, 180, 0, 104, 29, 27, 79]
abbrev dktX6_actKin_2 : List UInt8 := dkwX6_actKin_2 ++ dktX6_actKin_3
def dkwX6_actKin_1 : List UInt8 := [163, 0, 8, 27, 29, 160, 0, 5, 2, 172, 28, 154, 0, 39, 42, 180, 0, 104, 27, 46, 156, 0, 12, 42]
abbrev dktX6_actKin_1 : List UInt8 := dkwX6_actKin_1 ++ dktX6_actKin_2
def dkwX6_actKin_0 : List UInt8 := [42, 27, 182, 0, 183, 153, 0, 25, 42, 29, 182, 0, 183, 153, 0, 17, 28, 155, 0, 13, 28, 4]
abbrev dktX6_actKin_0 : List UInt8 := dkwX6_actKin_0 ++ dktX6_actKin_1
theorem dksX6_actKin_0 : cX6_actKin.data.toList.drop 0 = dktX6_actKin_0 := by decide +kernel
theorem dksX6_actKin_1 : cX6_actKin.data.toList.drop 22 = dktX6_actKin_1 := dk_seg dksX6_actKin_0 22 rfl rfl
theorem dksX6_actKin_2 : cX6_actKin.data.toList.drop 46 = dktX6_actKin_2 := dk_seg dksX6_actKin_1 24 rfl rfl
theorem dksX6_actKin_3 : cX6_actKin.data.toList.drop 70 = dktX6_actKin_3 := dk_seg dksX6_actKin_2 24 rfl rfl
theorem dksX6_actKin_4 : cX6_actKin.data.toList.drop 93 = dktX6_actKin_4 := dk_seg dksX6_actKin_3 23 rfl rfl
theorem dksX6_actKin_5 : cX6_actKin.data.toList.drop 117 = dktX6_actKin_5 := dk_seg dksX6_actKin_4 24 rfl rfl
theorem dksX6_actKin_6 : cX6_actKin.data.toList.drop 141 = dktX6_actKin_6 := dk_seg dksX6_actKin_5 24 rfl rfl
theorem dX6_actKin_0 : decode cX6_actKin 0 = .ok (.aload_n 0, 1) := dk_42 (dk_at dksX6_actKin_0 0 rfl rfl)
theorem dX6_actKin_1 : decode cX6_actKin 1 = .ok (.iload_n 1, 1) := dk_27 (dk_at dksX6_actKin_0 1 rfl rfl)
theorem dX6_actKin_2 : decode cX6_actKin 2 = .ok (.invokevirtual 183, 3) := dk_182 0 183 (dk_at dksX6_actKin_0 2 rfl rfl)
theorem dX6_actKin_5 : decode cX6_actKin 5 = .ok (.ifCond .eq 25, 3) := dk_153 0 25 (dk_at dksX6_actKin_0 5 rfl rfl)
theorem dX6_actKin_8 : decode cX6_actKin 8 = .ok (.aload_n 0, 1) := dk_42 (dk_at dksX6_actKin_0 8 rfl rfl)
theorem dX6_actKin_9 : decode cX6_actKin 9 = .ok (.iload_n 3, 1) := dk_29 (dk_at dksX6_actKin_0 9 rfl rfl)
theorem dX6_actKin_10 : decode cX6_actKin 10 = .ok (.invokevirtual 183, 3) := dk_182 0 183 (dk_at dksX6_actKin_0 10 rfl rfl)
theorem dX6_actKin_13 : decode cX6_actKin 13 = .ok (.ifCond .eq 17, 3) := dk_153 0 17 (dk_at dksX6_actKin_0 13 rfl rfl)
theorem dX6_actKin_16 : decode cX6_actKin 16 = .ok (.iload_n 2, 1) := dk_28 (dk_at dksX6_actKin_0 16 rfl rfl)
theorem dX6_actKin_17 : decode cX6_actKin 17 = .ok (.ifCond .lt 13, 3) := dk_155 0 13 (dk_at dksX6_actKin_0 17 rfl rfl)
theorem dX6_actKin_20 : decode cX6_actKin 20 = .ok (.iload_n 2, 1) := dk_28 (dk_at dksX6_actKin_0 20 rfl rfl)
theorem dX6_actKin_21 : decode cX6_actKin 21 = .ok (.iconst 1, 1) := dk_4 (dk_at dksX6_actKin_0 21 rfl rfl)
theorem dX6_actKin_22 : decode cX6_actKin 22 = .ok (.if_icmp .gt 8, 3) := dk_163 0 8 (dk_at dksX6_actKin_1 0 rfl rfl)
theorem dX6_actKin_25 : decode cX6_actKin 25 = .ok (.iload_n 1, 1) := dk_27 (dk_at dksX6_actKin_1 3 rfl rfl)
theorem dX6_actKin_26 : decode cX6_actKin 26 = .ok (.iload_n 3, 1) := dk_29 (dk_at dksX6_actKin_1 4 rfl rfl)
theorem dX6_actKin_27 : decode cX6_actKin 27 = .ok (.if_icmp .ne 5, 3) := dk_160 0 5 (dk_at dksX6_actKin_1 5 rfl rfl)
theorem dX6_actKin_30 : decode cX6_actKin 30 = .ok (.iconst (-1), 1) := dk_2 (dk_at dksX6_actKin_1 8 rfl rfl)
theorem dX6_actKin_31 : decode cX6_actKin 31 = .ok (.ireturn, 1) := dk_172 (dk_at dksX6_actKin_1 9 rfl rfl)
theorem dX6_actKin_32 : decode cX6_actKin 32 = .ok (.iload_n 2, 1) := dk_28 (dk_at dksX6_actKin_1 10 rfl rfl)
theorem dX6_actKin_33 : decode cX6_actKin 33 = .ok (.ifCond .ne 39, 3) := dk_154 0 39 (dk_at dksX6_actKin_1 11 rfl rfl)
theorem dX6_actKin_36 : decode cX6_actKin 36 = .ok (.aload_n 0, 1) := dk_42 (dk_at dksX6_actKin_1 14 rfl rfl)
theorem dX6_actKin_37 : decode cX6_actKin 37 = .ok (.getfield 104, 3) := dk_180 0 104 (dk_at dksX6_actKin_1 15 rfl rfl)
theorem dX6_actKin_40 : decode cX6_actKin 40 = .ok (.iload_n 1, 1) := dk_27 (dk_at dksX6_actKin_1 18 rfl rfl)
theorem dX6_actKin_41 : decode cX6_actKin 41 = .ok (.iaload, 1) := dk_46 (dk_at dksX6_actKin_1 19 rfl rfl)
theorem dX6_actKin_42 : decode cX6_actKin 42 = .ok (.ifCond .ge 12, 3) := dk_156 0 12 (dk_at dksX6_actKin_1 20 rfl rfl)
theorem dX6_actKin_45 : decode cX6_actKin 45 = .ok (.aload_n 0, 1) := dk_42 (dk_at dksX6_actKin_1 23 rfl rfl)
theorem dX6_actKin_46 : decode cX6_actKin 46 = .ok (.getfield 104, 3) := dk_180 0 104 (dk_at dksX6_actKin_2 0 rfl rfl)
theorem dX6_actKin_49 : decode cX6_actKin 49 = .ok (.iload_n 3, 1) := dk_29 (dk_at dksX6_actKin_2 3 rfl rfl)
theorem dX6_actKin_50 : decode cX6_actKin 50 = .ok (.iaload, 1) := dk_46 (dk_at dksX6_actKin_2 4 rfl rfl)
theorem dX6_actKin_51 : decode cX6_actKin 51 = .ok (.ifCond .lt 5, 3) := dk_155 0 5 (dk_at dksX6_actKin_2 5 rfl rfl)
theorem dX6_actKin_54 : decode cX6_actKin 54 = .ok (.iconst (-1), 1) := dk_2 (dk_at dksX6_actKin_2 8 rfl rfl)
theorem dX6_actKin_55 : decode cX6_actKin 55 = .ok (.ireturn, 1) := dk_172 (dk_at dksX6_actKin_2 9 rfl rfl)
theorem dX6_actKin_56 : decode cX6_actKin 56 = .ok (.aload_n 0, 1) := dk_42 (dk_at dksX6_actKin_2 10 rfl rfl)
theorem dX6_actKin_57 : decode cX6_actKin 57 = .ok (.getfield 104, 3) := dk_180 0 104 (dk_at dksX6_actKin_2 11 rfl rfl)
theorem dX6_actKin_60 : decode cX6_actKin 60 = .ok (.iload_n 1, 1) := dk_27 (dk_at dksX6_actKin_2 14 rfl rfl)
theorem dX6_actKin_61 : decode cX6_actKin 61 = .ok (.iload_n 3, 1) := dk_29 (dk_at dksX6_actKin_2 15 rfl rfl)
theorem dX6_actKin_62 : decode cX6_actKin 62 = .ok (.iastore, 1) := dk_79 (dk_at dksX6_actKin_2 16 rfl rfl)
theorem dX6_actKin_63 : decode cX6_actKin 63 = .ok (.aload_n 0, 1) := dk_42 (dk_at dksX6_actKin_2 17 rfl rfl)
theorem dX6_actKin_64 : decode cX6_actKin 64 = .ok (.getfield 104, 3) := dk_180 0 104 (dk_at dksX6_actKin_2 18 rfl rfl)
theorem dX6_actKin_67 : decode cX6_actKin 67 = .ok (.iload_n 3, 1) := dk_29 (dk_at dksX6_actKin_2 21 rfl rfl)
theorem dX6_actKin_68 : decode cX6_actKin 68 = .ok (.iload_n 1, 1) := dk_27 (dk_at dksX6_actKin_2 22 rfl rfl)
theorem dX6_actKin_69 : decode cX6_actKin 69 = .ok (.iastore, 1) := dk_79 (dk_at dksX6_actKin_2 23 rfl rfl)
theorem dX6_actKin_70 : decode cX6_actKin 70 = .ok (.iconst 0, 1) := dk_3 (dk_at dksX6_actKin_3 0 rfl rfl)
theorem dX6_actKin_71 : decode cX6_actKin 71 = .ok (.ireturn, 1) := dk_172 (dk_at dksX6_actKin_3 1 rfl rfl)
theorem dX6_actKin_72 : decode cX6_actKin 72 = .ok (.aload_n 0, 1) := dk_42 (dk_at dksX6_actKin_3 2 rfl rfl)
theorem dX6_actKin_73 : decode cX6_actKin 73 = .ok (.getfield 107, 3) := dk_180 0 107 (dk_at dksX6_actKin_3 3 rfl rfl)
theorem dX6_actKin_76 : decode cX6_actKin 76 = .ok (.iload_n 3, 1) := dk_29 (dk_at dksX6_actKin_3 6 rfl rfl)
theorem dX6_actKin_77 : decode cX6_actKin 77 = .ok (.iaload, 1) := dk_46 (dk_at dksX6_actKin_3 7 rfl rfl)
theorem dX6_actKin_78 : decode cX6_actKin 78 = .ok (.iload_n 1, 1) := dk_27 (dk_at dksX6_actKin_3 8 rfl rfl)
theorem dX6_actKin_79 : decode cX6_actKin 79 = .ok (.if_icmp .eq 37, 3) := dk_159 0 37 (dk_at dksX6_actKin_3 9 rfl rfl)
theorem dX6_actKin_82 : decode cX6_actKin 82 = .ok (.aload_n 0, 1) := dk_42 (dk_at dksX6_actKin_3 12 rfl rfl)
theorem dX6_actKin_83 : decode cX6_actKin 83 = .ok (.getfield 110, 3) := dk_180 0 110 (dk_at dksX6_actKin_3 13 rfl rfl)
theorem dX6_actKin_86 : decode cX6_actKin 86 = .ok (.iload_n 3, 1) := dk_29 (dk_at dksX6_actKin_3 16 rfl rfl)
theorem dX6_actKin_87 : decode cX6_actKin 87 = .ok (.iaload, 1) := dk_46 (dk_at dksX6_actKin_3 17 rfl rfl)
theorem dX6_actKin_88 : decode cX6_actKin 88 = .ok (.iload_n 1, 1) := dk_27 (dk_at dksX6_actKin_3 18 rfl rfl)
theorem dX6_actKin_89 : decode cX6_actKin 89 = .ok (.if_icmp .eq 27, 3) := dk_159 0 27 (dk_at dksX6_actKin_3 19 rfl rfl)
theorem dX6_actKin_92 : decode cX6_actKin 92 = .ok (.aload_n 0, 1) := dk_42 (dk_at dksX6_actKin_3 22 rfl rfl)
theorem dX6_actKin_93 : decode cX6_actKin 93 = .ok (.getfield 80, 3) := dk_180 0 80 (dk_at dksX6_actKin_4 0 rfl rfl)
theorem dX6_actKin_96 : decode cX6_actKin 96 = .ok (.iload_n 1, 1) := dk_27 (dk_at dksX6_actKin_4 3 rfl rfl)
theorem dX6_actKin_97 : decode cX6_actKin 97 = .ok (.iaload, 1) := dk_46 (dk_at dksX6_actKin_4 4 rfl rfl)
theorem dX6_actKin_98 : decode cX6_actKin 98 = .ok (.aload_n 0, 1) := dk_42 (dk_at dksX6_actKin_4 5 rfl rfl)
theorem dX6_actKin_99 : decode cX6_actKin 99 = .ok (.getfield 80, 3) := dk_180 0 80 (dk_at dksX6_actKin_4 6 rfl rfl)
theorem dX6_actKin_102 : decode cX6_actKin 102 = .ok (.iload_n 3, 1) := dk_29 (dk_at dksX6_actKin_4 9 rfl rfl)
theorem dX6_actKin_103 : decode cX6_actKin 103 = .ok (.iaload, 1) := dk_46 (dk_at dksX6_actKin_4 10 rfl rfl)
theorem dX6_actKin_104 : decode cX6_actKin 104 = .ok (.if_icmp .ge 12, 3) := dk_162 0 12 (dk_at dksX6_actKin_4 11 rfl rfl)
theorem dX6_actKin_107 : decode cX6_actKin 107 = .ok (.aload_n 0, 1) := dk_42 (dk_at dksX6_actKin_4 14 rfl rfl)
theorem dX6_actKin_108 : decode cX6_actKin 108 = .ok (.getfield 110, 3) := dk_180 0 110 (dk_at dksX6_actKin_4 15 rfl rfl)
theorem dX6_actKin_111 : decode cX6_actKin 111 = .ok (.iload_n 3, 1) := dk_29 (dk_at dksX6_actKin_4 18 rfl rfl)
theorem dX6_actKin_112 : decode cX6_actKin 112 = .ok (.iaload, 1) := dk_46 (dk_at dksX6_actKin_4 19 rfl rfl)
theorem dX6_actKin_113 : decode cX6_actKin 113 = .ok (.ifCond .lt 5, 3) := dk_155 0 5 (dk_at dksX6_actKin_4 20 rfl rfl)
theorem dX6_actKin_116 : decode cX6_actKin 116 = .ok (.iconst (-1), 1) := dk_2 (dk_at dksX6_actKin_4 23 rfl rfl)
theorem dX6_actKin_117 : decode cX6_actKin 117 = .ok (.ireturn, 1) := dk_172 (dk_at dksX6_actKin_5 0 rfl rfl)
theorem dX6_actKin_118 : decode cX6_actKin 118 = .ok (.aload_n 0, 1) := dk_42 (dk_at dksX6_actKin_5 1 rfl rfl)
theorem dX6_actKin_119 : decode cX6_actKin 119 = .ok (.getfield 107, 3) := dk_180 0 107 (dk_at dksX6_actKin_5 2 rfl rfl)
theorem dX6_actKin_122 : decode cX6_actKin 122 = .ok (.iload_n 3, 1) := dk_29 (dk_at dksX6_actKin_5 5 rfl rfl)
theorem dX6_actKin_123 : decode cX6_actKin 123 = .ok (.iaload, 1) := dk_46 (dk_at dksX6_actKin_5 6 rfl rfl)
theorem dX6_actKin_124 : decode cX6_actKin 124 = .ok (.ifCond .ge 13, 3) := dk_156 0 13 (dk_at dksX6_actKin_5 7 rfl rfl)
theorem dX6_actKin_127 : decode cX6_actKin 127 = .ok (.aload_n 0, 1) := dk_42 (dk_at dksX6_actKin_5 10 rfl rfl)
theorem dX6_actKin_128 : decode cX6_actKin 128 = .ok (.getfield 107, 3) := dk_180 0 107 (dk_at dksX6_actKin_5 11 rfl rfl)
theorem dX6_actKin_131 : decode cX6_actKin 131 = .ok (.iload_n 3, 1) := dk_29 (dk_at dksX6_actKin_5 14 rfl rfl)
theorem dX6_actKin_132 : decode cX6_actKin 132 = .ok (.iload_n 1, 1) := dk_27 (dk_at dksX6_actKin_5 15 rfl rfl)
theorem dX6_actKin_133 : decode cX6_actKin 133 = .ok (.iastore, 1) := dk_79 (dk_at dksX6_actKin_5 16 rfl rfl)
theorem dX6_actKin_134 : decode cX6_actKin 134 = .ok (.goto 10, 3) := dk_167 0 10 (dk_at dksX6_actKin_5 17 rfl rfl)
theorem dX6_actKin_137 : decode cX6_actKin 137 = .ok (.aload_n 0, 1) := dk_42 (dk_at dksX6_actKin_5 20 rfl rfl)
theorem dX6_actKin_138 : decode cX6_actKin 138 = .ok (.getfield 110, 3) := dk_180 0 110 (dk_at dksX6_actKin_5 21 rfl rfl)
theorem dX6_actKin_141 : decode cX6_actKin 141 = .ok (.iload_n 3, 1) := dk_29 (dk_at dksX6_actKin_6 0 rfl rfl)
theorem dX6_actKin_142 : decode cX6_actKin 142 = .ok (.iload_n 1, 1) := dk_27 (dk_at dksX6_actKin_6 1 rfl rfl)
theorem dX6_actKin_143 : decode cX6_actKin 143 = .ok (.iastore, 1) := dk_79 (dk_at dksX6_actKin_6 2 rfl rfl)
theorem dX6_actKin_144 : decode cX6_actKin 144 = .ok (.iconst 0, 1) := dk_3 (dk_at dksX6_actKin_6 3 rfl rfl)
theorem dX6_actKin_145 : decode cX6_actKin 145 = .ok (.ireturn, 1) := dk_172 (dk_at dksX6_actKin_6 4 rfl rfl)
abbrev cX6_isPerson : ByteArray := prog_21_method_18_code
def yX6_isPerson : MethodName := ⟨RX6, "isPerson", "(I)Z"⟩
def dkwX6_isPerson_0 : List UInt8 := [27, 155, 0, 15, 27, 42, 180, 0, 144, 162, 0, 7, 4, 167, 0, 4, 3, 172]
abbrev dktX6_isPerson_0 : List UInt8 := dkwX6_isPerson_0 ++ []
theorem dksX6_isPerson_0 : cX6_isPerson.data.toList.drop 0 = dktX6_isPerson_0 := by decide +kernel
theorem dX6_isPerson_0 : decode cX6_isPerson 0 = .ok (.iload_n 1, 1) := dk_27 (dk_at dksX6_isPerson_0 0 rfl rfl)
theorem dX6_isPerson_1 : decode cX6_isPerson 1 = .ok (.ifCond .lt 15, 3) := dk_155 0 15 (dk_at dksX6_isPerson_0 1 rfl rfl)
theorem dX6_isPerson_4 : decode cX6_isPerson 4 = .ok (.iload_n 1, 1) := dk_27 (dk_at dksX6_isPerson_0 4 rfl rfl)
theorem dX6_isPerson_5 : decode cX6_isPerson 5 = .ok (.aload_n 0, 1) := dk_42 (dk_at dksX6_isPerson_0 5 rfl rfl)
theorem dX6_isPerson_6 : decode cX6_isPerson 6 = .ok (.getfield 144, 3) := dk_180 0 144 (dk_at dksX6_isPerson_0 6 rfl rfl)
theorem dX6_isPerson_9 : decode cX6_isPerson 9 = .ok (.if_icmp .ge 7, 3) := dk_162 0 7 (dk_at dksX6_isPerson_0 9 rfl rfl)
theorem dX6_isPerson_12 : decode cX6_isPerson 12 = .ok (.iconst 1, 1) := dk_4 (dk_at dksX6_isPerson_0 12 rfl rfl)
theorem dX6_isPerson_13 : decode cX6_isPerson 13 = .ok (.goto 4, 3) := dk_167 0 4 (dk_at dksX6_isPerson_0 13 rfl rfl)
theorem dX6_isPerson_16 : decode cX6_isPerson 16 = .ok (.iconst 0, 1) := dk_3 (dk_at dksX6_isPerson_0 16 rfl rfl)
theorem dX6_isPerson_17 : decode cX6_isPerson 17 = .ok (.ireturn, 1) := dk_172 (dk_at dksX6_isPerson_0 17 rfl rfl)
abbrev cX6_actPaper : ByteArray := prog_21_method_23_code
def yX6_actPaper : MethodName := ⟨RX6, "actPaper", "(II)I"⟩
def dkwX6_actPaper_1 : List UInt8 := [180, 0, 83, 27, 51, 153, 0, 5, 2, 172, 42, 180, 0, 113, 27, 28, 79, 3, 172]
abbrev dktX6_actPaper_1 : List UInt8 := dkwX6_actPaper_1 ++ []
def dkwX6_actPaper_0 : List UInt8 := [42, 27, 182, 0, 183, 153, 0, 25, 42, 28, 182, 0, 183, 153, 0, 17, 27, 28, 159, 0, 12, 42]
abbrev dktX6_actPaper_0 : List UInt8 := dkwX6_actPaper_0 ++ dktX6_actPaper_1
theorem dksX6_actPaper_0 : cX6_actPaper.data.toList.drop 0 = dktX6_actPaper_0 := by decide +kernel
theorem dksX6_actPaper_1 : cX6_actPaper.data.toList.drop 22 = dktX6_actPaper_1 := dk_seg dksX6_actPaper_0 22 rfl rfl
theorem dX6_actPaper_0 : decode cX6_actPaper 0 = .ok (.aload_n 0, 1) := dk_42 (dk_at dksX6_actPaper_0 0 rfl rfl)
theorem dX6_actPaper_1 : decode cX6_actPaper 1 = .ok (.iload_n 1, 1) := dk_27 (dk_at dksX6_actPaper_0 1 rfl rfl)
theorem dX6_actPaper_2 : decode cX6_actPaper 2 = .ok (.invokevirtual 183, 3) := dk_182 0 183 (dk_at dksX6_actPaper_0 2 rfl rfl)
theorem dX6_actPaper_5 : decode cX6_actPaper 5 = .ok (.ifCond .eq 25, 3) := dk_153 0 25 (dk_at dksX6_actPaper_0 5 rfl rfl)
theorem dX6_actPaper_8 : decode cX6_actPaper 8 = .ok (.aload_n 0, 1) := dk_42 (dk_at dksX6_actPaper_0 8 rfl rfl)
theorem dX6_actPaper_9 : decode cX6_actPaper 9 = .ok (.iload_n 2, 1) := dk_28 (dk_at dksX6_actPaper_0 9 rfl rfl)
theorem dX6_actPaper_10 : decode cX6_actPaper 10 = .ok (.invokevirtual 183, 3) := dk_182 0 183 (dk_at dksX6_actPaper_0 10 rfl rfl)
theorem dX6_actPaper_13 : decode cX6_actPaper 13 = .ok (.ifCond .eq 17, 3) := dk_153 0 17 (dk_at dksX6_actPaper_0 13 rfl rfl)
theorem dX6_actPaper_16 : decode cX6_actPaper 16 = .ok (.iload_n 1, 1) := dk_27 (dk_at dksX6_actPaper_0 16 rfl rfl)
theorem dX6_actPaper_17 : decode cX6_actPaper 17 = .ok (.iload_n 2, 1) := dk_28 (dk_at dksX6_actPaper_0 17 rfl rfl)
theorem dX6_actPaper_18 : decode cX6_actPaper 18 = .ok (.if_icmp .eq 12, 3) := dk_159 0 12 (dk_at dksX6_actPaper_0 18 rfl rfl)
theorem dX6_actPaper_21 : decode cX6_actPaper 21 = .ok (.aload_n 0, 1) := dk_42 (dk_at dksX6_actPaper_0 21 rfl rfl)
theorem dX6_actPaper_22 : decode cX6_actPaper 22 = .ok (.getfield 83, 3) := dk_180 0 83 (dk_at dksX6_actPaper_1 0 rfl rfl)
theorem dX6_actPaper_25 : decode cX6_actPaper 25 = .ok (.iload_n 1, 1) := dk_27 (dk_at dksX6_actPaper_1 3 rfl rfl)
theorem dX6_actPaper_26 : decode cX6_actPaper 26 = .ok (.baload, 1) := dk_51 (dk_at dksX6_actPaper_1 4 rfl rfl)
theorem dX6_actPaper_27 : decode cX6_actPaper 27 = .ok (.ifCond .eq 5, 3) := dk_153 0 5 (dk_at dksX6_actPaper_1 5 rfl rfl)
theorem dX6_actPaper_30 : decode cX6_actPaper 30 = .ok (.iconst (-1), 1) := dk_2 (dk_at dksX6_actPaper_1 8 rfl rfl)
theorem dX6_actPaper_31 : decode cX6_actPaper 31 = .ok (.ireturn, 1) := dk_172 (dk_at dksX6_actPaper_1 9 rfl rfl)
theorem dX6_actPaper_32 : decode cX6_actPaper 32 = .ok (.aload_n 0, 1) := dk_42 (dk_at dksX6_actPaper_1 10 rfl rfl)
theorem dX6_actPaper_33 : decode cX6_actPaper 33 = .ok (.getfield 113, 3) := dk_180 0 113 (dk_at dksX6_actPaper_1 11 rfl rfl)
theorem dX6_actPaper_36 : decode cX6_actPaper 36 = .ok (.iload_n 1, 1) := dk_27 (dk_at dksX6_actPaper_1 14 rfl rfl)
theorem dX6_actPaper_37 : decode cX6_actPaper 37 = .ok (.iload_n 2, 1) := dk_28 (dk_at dksX6_actPaper_1 15 rfl rfl)
theorem dX6_actPaper_38 : decode cX6_actPaper 38 = .ok (.iastore, 1) := dk_79 (dk_at dksX6_actPaper_1 16 rfl rfl)
theorem dX6_actPaper_39 : decode cX6_actPaper 39 = .ok (.iconst 0, 1) := dk_3 (dk_at dksX6_actPaper_1 17 rfl rfl)
theorem dX6_actPaper_40 : decode cX6_actPaper 40 = .ok (.ireturn, 1) := dk_172 (dk_at dksX6_actPaper_1 18 rfl rfl)
abbrev cX6_actRight : ByteArray := prog_21_method_25_code
def yX6_actRight : MethodName := ⟨RX6, "actRight", "(III)I"⟩
def dkwX6_actRight_4 : List UInt8 := [180, 0, 150, 29, 42, 27, 182, 0, 189, 104, 96, 181, 0, 150, 29, 42, 27, 182, 0, 189, 104, 172]
abbrev dktX6_actRight_4 : List UInt8 := dkwX6_actRight_4 ++ []
def dkwX6_actRight_3 : List UInt8 := [180, 0, 35, 27, 28, 79, 42, 180, 0, 38, 27, 42, 180, 0, 135, 17, 1, 109, 29, 104, 96, 79, 42, 89]
abbrev dktX6_actRight_3 : List UInt8 := dkwX6_actRight_3 ++ dktX6_actRight_4
def dkwX6_actRight_2 : List UInt8 := [16, 254, 172, 42, 180, 0, 83, 28, 51, 153, 0, 6, 16, 253, 172, 42, 180, 0, 32, 27, 4, 79, 42]
abbrev dktX6_actRight_2 : List UInt8 := dkwX6_actRight_2 ++ dktX6_actRight_3
def dkwX6_actRight_1 : List UInt8 := [164, 0, 5, 2, 172, 42, 180, 0, 32, 27, 46, 154, 0, 13, 42, 180, 0, 29, 27, 46, 8, 160, 0, 6]
abbrev dktX6_actRight_1 : List UInt8 := dkwX6_actRight_1 ++ dktX6_actRight_2
def dkwX6_actRight_0 : List UInt8 := [42, 27, 182, 0, 186, 153, 0, 22, 42, 28, 182, 0, 183, 153, 0, 14, 29, 4, 161, 0, 9, 29, 16, 20]
abbrev dktX6_actRight_0 : List UInt8 := dkwX6_actRight_0 ++ dktX6_actRight_1
theorem dksX6_actRight_0 : cX6_actRight.data.toList.drop 0 = dktX6_actRight_0 := by decide +kernel
theorem dksX6_actRight_1 : cX6_actRight.data.toList.drop 24 = dktX6_actRight_1 := dk_seg dksX6_actRight_0 24 rfl rfl
theorem dksX6_actRight_2 : cX6_actRight.data.toList.drop 48 = dktX6_actRight_2 := dk_seg dksX6_actRight_1 24 rfl rfl
theorem dksX6_actRight_3 : cX6_actRight.data.toList.drop 71 = dktX6_actRight_3 := dk_seg dksX6_actRight_2 23 rfl rfl
theorem dksX6_actRight_4 : cX6_actRight.data.toList.drop 95 = dktX6_actRight_4 := dk_seg dksX6_actRight_3 24 rfl rfl
theorem dX6_actRight_0 : decode cX6_actRight 0 = .ok (.aload_n 0, 1) := dk_42 (dk_at dksX6_actRight_0 0 rfl rfl)
theorem dX6_actRight_1 : decode cX6_actRight 1 = .ok (.iload_n 1, 1) := dk_27 (dk_at dksX6_actRight_0 1 rfl rfl)
theorem dX6_actRight_2 : decode cX6_actRight 2 = .ok (.invokevirtual 186, 3) := dk_182 0 186 (dk_at dksX6_actRight_0 2 rfl rfl)
theorem dX6_actRight_5 : decode cX6_actRight 5 = .ok (.ifCond .eq 22, 3) := dk_153 0 22 (dk_at dksX6_actRight_0 5 rfl rfl)
theorem dX6_actRight_8 : decode cX6_actRight 8 = .ok (.aload_n 0, 1) := dk_42 (dk_at dksX6_actRight_0 8 rfl rfl)
theorem dX6_actRight_9 : decode cX6_actRight 9 = .ok (.iload_n 2, 1) := dk_28 (dk_at dksX6_actRight_0 9 rfl rfl)
theorem dX6_actRight_10 : decode cX6_actRight 10 = .ok (.invokevirtual 183, 3) := dk_182 0 183 (dk_at dksX6_actRight_0 10 rfl rfl)
theorem dX6_actRight_13 : decode cX6_actRight 13 = .ok (.ifCond .eq 14, 3) := dk_153 0 14 (dk_at dksX6_actRight_0 13 rfl rfl)
theorem dX6_actRight_16 : decode cX6_actRight 16 = .ok (.iload_n 3, 1) := dk_29 (dk_at dksX6_actRight_0 16 rfl rfl)
theorem dX6_actRight_17 : decode cX6_actRight 17 = .ok (.iconst 1, 1) := dk_4 (dk_at dksX6_actRight_0 17 rfl rfl)
theorem dX6_actRight_18 : decode cX6_actRight 18 = .ok (.if_icmp .lt 9, 3) := dk_161 0 9 (dk_at dksX6_actRight_0 18 rfl rfl)
theorem dX6_actRight_21 : decode cX6_actRight 21 = .ok (.iload_n 3, 1) := dk_29 (dk_at dksX6_actRight_0 21 rfl rfl)
theorem dX6_actRight_22 : decode cX6_actRight 22 = .ok (.bipush 20, 2) := dk_16 20 (dk_at dksX6_actRight_0 22 rfl rfl)
theorem dX6_actRight_24 : decode cX6_actRight 24 = .ok (.if_icmp .le 5, 3) := dk_164 0 5 (dk_at dksX6_actRight_1 0 rfl rfl)
theorem dX6_actRight_27 : decode cX6_actRight 27 = .ok (.iconst (-1), 1) := dk_2 (dk_at dksX6_actRight_1 3 rfl rfl)
theorem dX6_actRight_28 : decode cX6_actRight 28 = .ok (.ireturn, 1) := dk_172 (dk_at dksX6_actRight_1 4 rfl rfl)
theorem dX6_actRight_29 : decode cX6_actRight 29 = .ok (.aload_n 0, 1) := dk_42 (dk_at dksX6_actRight_1 5 rfl rfl)
theorem dX6_actRight_30 : decode cX6_actRight 30 = .ok (.getfield 32, 3) := dk_180 0 32 (dk_at dksX6_actRight_1 6 rfl rfl)
theorem dX6_actRight_33 : decode cX6_actRight 33 = .ok (.iload_n 1, 1) := dk_27 (dk_at dksX6_actRight_1 9 rfl rfl)
theorem dX6_actRight_34 : decode cX6_actRight 34 = .ok (.iaload, 1) := dk_46 (dk_at dksX6_actRight_1 10 rfl rfl)
theorem dX6_actRight_35 : decode cX6_actRight 35 = .ok (.ifCond .ne 13, 3) := dk_154 0 13 (dk_at dksX6_actRight_1 11 rfl rfl)
theorem dX6_actRight_38 : decode cX6_actRight 38 = .ok (.aload_n 0, 1) := dk_42 (dk_at dksX6_actRight_1 14 rfl rfl)
theorem dX6_actRight_39 : decode cX6_actRight 39 = .ok (.getfield 29, 3) := dk_180 0 29 (dk_at dksX6_actRight_1 15 rfl rfl)
theorem dX6_actRight_42 : decode cX6_actRight 42 = .ok (.iload_n 1, 1) := dk_27 (dk_at dksX6_actRight_1 18 rfl rfl)
theorem dX6_actRight_43 : decode cX6_actRight 43 = .ok (.iaload, 1) := dk_46 (dk_at dksX6_actRight_1 19 rfl rfl)
theorem dX6_actRight_44 : decode cX6_actRight 44 = .ok (.iconst 5, 1) := dk_8 (dk_at dksX6_actRight_1 20 rfl rfl)
theorem dX6_actRight_45 : decode cX6_actRight 45 = .ok (.if_icmp .ne 6, 3) := dk_160 0 6 (dk_at dksX6_actRight_1 21 rfl rfl)
theorem dX6_actRight_48 : decode cX6_actRight 48 = .ok (.bipush (-2), 2) := dk_16 254 (dk_at dksX6_actRight_2 0 rfl rfl)
theorem dX6_actRight_50 : decode cX6_actRight 50 = .ok (.ireturn, 1) := dk_172 (dk_at dksX6_actRight_2 2 rfl rfl)
theorem dX6_actRight_51 : decode cX6_actRight 51 = .ok (.aload_n 0, 1) := dk_42 (dk_at dksX6_actRight_2 3 rfl rfl)
theorem dX6_actRight_52 : decode cX6_actRight 52 = .ok (.getfield 83, 3) := dk_180 0 83 (dk_at dksX6_actRight_2 4 rfl rfl)
theorem dX6_actRight_55 : decode cX6_actRight 55 = .ok (.iload_n 2, 1) := dk_28 (dk_at dksX6_actRight_2 7 rfl rfl)
theorem dX6_actRight_56 : decode cX6_actRight 56 = .ok (.baload, 1) := dk_51 (dk_at dksX6_actRight_2 8 rfl rfl)
theorem dX6_actRight_57 : decode cX6_actRight 57 = .ok (.ifCond .eq 6, 3) := dk_153 0 6 (dk_at dksX6_actRight_2 9 rfl rfl)
theorem dX6_actRight_60 : decode cX6_actRight 60 = .ok (.bipush (-3), 2) := dk_16 253 (dk_at dksX6_actRight_2 12 rfl rfl)
theorem dX6_actRight_62 : decode cX6_actRight 62 = .ok (.ireturn, 1) := dk_172 (dk_at dksX6_actRight_2 14 rfl rfl)
theorem dX6_actRight_63 : decode cX6_actRight 63 = .ok (.aload_n 0, 1) := dk_42 (dk_at dksX6_actRight_2 15 rfl rfl)
theorem dX6_actRight_64 : decode cX6_actRight 64 = .ok (.getfield 32, 3) := dk_180 0 32 (dk_at dksX6_actRight_2 16 rfl rfl)
theorem dX6_actRight_67 : decode cX6_actRight 67 = .ok (.iload_n 1, 1) := dk_27 (dk_at dksX6_actRight_2 19 rfl rfl)
theorem dX6_actRight_68 : decode cX6_actRight 68 = .ok (.iconst 1, 1) := dk_4 (dk_at dksX6_actRight_2 20 rfl rfl)
theorem dX6_actRight_69 : decode cX6_actRight 69 = .ok (.iastore, 1) := dk_79 (dk_at dksX6_actRight_2 21 rfl rfl)
theorem dX6_actRight_70 : decode cX6_actRight 70 = .ok (.aload_n 0, 1) := dk_42 (dk_at dksX6_actRight_2 22 rfl rfl)
theorem dX6_actRight_71 : decode cX6_actRight 71 = .ok (.getfield 35, 3) := dk_180 0 35 (dk_at dksX6_actRight_3 0 rfl rfl)
theorem dX6_actRight_74 : decode cX6_actRight 74 = .ok (.iload_n 1, 1) := dk_27 (dk_at dksX6_actRight_3 3 rfl rfl)
theorem dX6_actRight_75 : decode cX6_actRight 75 = .ok (.iload_n 2, 1) := dk_28 (dk_at dksX6_actRight_3 4 rfl rfl)
theorem dX6_actRight_76 : decode cX6_actRight 76 = .ok (.iastore, 1) := dk_79 (dk_at dksX6_actRight_3 5 rfl rfl)
theorem dX6_actRight_77 : decode cX6_actRight 77 = .ok (.aload_n 0, 1) := dk_42 (dk_at dksX6_actRight_3 6 rfl rfl)
theorem dX6_actRight_78 : decode cX6_actRight 78 = .ok (.getfield 38, 3) := dk_180 0 38 (dk_at dksX6_actRight_3 7 rfl rfl)
theorem dX6_actRight_81 : decode cX6_actRight 81 = .ok (.iload_n 1, 1) := dk_27 (dk_at dksX6_actRight_3 10 rfl rfl)
theorem dX6_actRight_82 : decode cX6_actRight 82 = .ok (.aload_n 0, 1) := dk_42 (dk_at dksX6_actRight_3 11 rfl rfl)
theorem dX6_actRight_83 : decode cX6_actRight 83 = .ok (.getfield 135, 3) := dk_180 0 135 (dk_at dksX6_actRight_3 12 rfl rfl)
theorem dX6_actRight_86 : decode cX6_actRight 86 = .ok (.sipush 365, 3) := dk_17 1 109 (dk_at dksX6_actRight_3 15 rfl rfl)
theorem dX6_actRight_89 : decode cX6_actRight 89 = .ok (.iload_n 3, 1) := dk_29 (dk_at dksX6_actRight_3 18 rfl rfl)
theorem dX6_actRight_90 : decode cX6_actRight 90 = .ok (.imul, 1) := dk_104 (dk_at dksX6_actRight_3 19 rfl rfl)
theorem dX6_actRight_91 : decode cX6_actRight 91 = .ok (.iadd, 1) := dk_96 (dk_at dksX6_actRight_3 20 rfl rfl)
theorem dX6_actRight_92 : decode cX6_actRight 92 = .ok (.iastore, 1) := dk_79 (dk_at dksX6_actRight_3 21 rfl rfl)
theorem dX6_actRight_93 : decode cX6_actRight 93 = .ok (.aload_n 0, 1) := dk_42 (dk_at dksX6_actRight_3 22 rfl rfl)
theorem dX6_actRight_94 : decode cX6_actRight 94 = .ok (.dup, 1) := dk_89 (dk_at dksX6_actRight_3 23 rfl rfl)
theorem dX6_actRight_95 : decode cX6_actRight 95 = .ok (.getfield 150, 3) := dk_180 0 150 (dk_at dksX6_actRight_4 0 rfl rfl)
theorem dX6_actRight_98 : decode cX6_actRight 98 = .ok (.iload_n 3, 1) := dk_29 (dk_at dksX6_actRight_4 3 rfl rfl)
theorem dX6_actRight_99 : decode cX6_actRight 99 = .ok (.aload_n 0, 1) := dk_42 (dk_at dksX6_actRight_4 4 rfl rfl)
theorem dX6_actRight_100 : decode cX6_actRight 100 = .ok (.iload_n 1, 1) := dk_27 (dk_at dksX6_actRight_4 5 rfl rfl)
theorem dX6_actRight_101 : decode cX6_actRight 101 = .ok (.invokevirtual 189, 3) := dk_182 0 189 (dk_at dksX6_actRight_4 6 rfl rfl)
theorem dX6_actRight_104 : decode cX6_actRight 104 = .ok (.imul, 1) := dk_104 (dk_at dksX6_actRight_4 9 rfl rfl)
theorem dX6_actRight_105 : decode cX6_actRight 105 = .ok (.iadd, 1) := dk_96 (dk_at dksX6_actRight_4 10 rfl rfl)
theorem dX6_actRight_106 : decode cX6_actRight 106 = .ok (.putfield 150, 3) := dk_181 0 150 (dk_at dksX6_actRight_4 11 rfl rfl)
theorem dX6_actRight_109 : decode cX6_actRight 109 = .ok (.iload_n 3, 1) := dk_29 (dk_at dksX6_actRight_4 14 rfl rfl)
theorem dX6_actRight_110 : decode cX6_actRight 110 = .ok (.aload_n 0, 1) := dk_42 (dk_at dksX6_actRight_4 15 rfl rfl)
theorem dX6_actRight_111 : decode cX6_actRight 111 = .ok (.iload_n 1, 1) := dk_27 (dk_at dksX6_actRight_4 16 rfl rfl)
theorem dX6_actRight_112 : decode cX6_actRight 112 = .ok (.invokevirtual 189, 3) := dk_182 0 189 (dk_at dksX6_actRight_4 17 rfl rfl)
theorem dX6_actRight_115 : decode cX6_actRight 115 = .ok (.imul, 1) := dk_104 (dk_at dksX6_actRight_4 20 rfl rfl)
theorem dX6_actRight_116 : decode cX6_actRight 116 = .ok (.ireturn, 1) := dk_172 (dk_at dksX6_actRight_4 21 rfl rfl)
abbrev cX6_isGrave : ByteArray := prog_21_method_17_code
def yX6_isGrave : MethodName := ⟨RX6, "isGrave", "(I)Z"⟩
def dkwX6_isGrave_0 : List UInt8 := [27, 155, 0, 15, 27, 42, 180, 0, 141, 162, 0, 7, 4, 167, 0, 4, 3, 172]
abbrev dktX6_isGrave_0 : List UInt8 := dkwX6_isGrave_0 ++ []
theorem dksX6_isGrave_0 : cX6_isGrave.data.toList.drop 0 = dktX6_isGrave_0 := by decide +kernel
theorem dX6_isGrave_0 : decode cX6_isGrave 0 = .ok (.iload_n 1, 1) := dk_27 (dk_at dksX6_isGrave_0 0 rfl rfl)
theorem dX6_isGrave_1 : decode cX6_isGrave 1 = .ok (.ifCond .lt 15, 3) := dk_155 0 15 (dk_at dksX6_isGrave_0 1 rfl rfl)
theorem dX6_isGrave_4 : decode cX6_isGrave 4 = .ok (.iload_n 1, 1) := dk_27 (dk_at dksX6_isGrave_0 4 rfl rfl)
theorem dX6_isGrave_5 : decode cX6_isGrave 5 = .ok (.aload_n 0, 1) := dk_42 (dk_at dksX6_isGrave_0 5 rfl rfl)
theorem dX6_isGrave_6 : decode cX6_isGrave 6 = .ok (.getfield 141, 3) := dk_180 0 141 (dk_at dksX6_isGrave_0 6 rfl rfl)
theorem dX6_isGrave_9 : decode cX6_isGrave 9 = .ok (.if_icmp .ge 7, 3) := dk_162 0 7 (dk_at dksX6_isGrave_0 9 rfl rfl)
theorem dX6_isGrave_12 : decode cX6_isGrave 12 = .ok (.iconst 1, 1) := dk_4 (dk_at dksX6_isGrave_0 12 rfl rfl)
theorem dX6_isGrave_13 : decode cX6_isGrave 13 = .ok (.goto 4, 3) := dk_167 0 4 (dk_at dksX6_isGrave_0 13 rfl rfl)
theorem dX6_isGrave_16 : decode cX6_isGrave 16 = .ok (.iconst 0, 1) := dk_3 (dk_at dksX6_isGrave_0 16 rfl rfl)
theorem dX6_isGrave_17 : decode cX6_isGrave 17 = .ok (.ireturn, 1) := dk_172 (dk_at dksX6_isGrave_0 17 rfl rfl)
abbrev cX6_yearly : ByteArray := prog_21_method_20_code
def yX6_yearly : MethodName := ⟨RX6, "yearly", "(I)I"⟩
def dkwX6_yearly_1 : List UInt8 := [27, 46, 4, 100, 104, 167, 0, 4, 3, 96, 172]
abbrev dktX6_yearly_1 : List UInt8 := dkwX6_yearly_1 ++ []
def dkwX6_yearly_0 : List UInt8 := [16, 10, 42, 180, 0, 53, 27, 46, 104, 42, 180, 0, 29, 27, 46, 6, 160, 0, 16, 8, 42, 180, 0, 53]
abbrev dktX6_yearly_0 : List UInt8 := dkwX6_yearly_0 ++ dktX6_yearly_1
theorem dksX6_yearly_0 : cX6_yearly.data.toList.drop 0 = dktX6_yearly_0 := by decide +kernel
theorem dksX6_yearly_1 : cX6_yearly.data.toList.drop 24 = dktX6_yearly_1 := dk_seg dksX6_yearly_0 24 rfl rfl
theorem dX6_yearly_0 : decode cX6_yearly 0 = .ok (.bipush 10, 2) := dk_16 10 (dk_at dksX6_yearly_0 0 rfl rfl)
theorem dX6_yearly_2 : decode cX6_yearly 2 = .ok (.aload_n 0, 1) := dk_42 (dk_at dksX6_yearly_0 2 rfl rfl)
theorem dX6_yearly_3 : decode cX6_yearly 3 = .ok (.getfield 53, 3) := dk_180 0 53 (dk_at dksX6_yearly_0 3 rfl rfl)
theorem dX6_yearly_6 : decode cX6_yearly 6 = .ok (.iload_n 1, 1) := dk_27 (dk_at dksX6_yearly_0 6 rfl rfl)
theorem dX6_yearly_7 : decode cX6_yearly 7 = .ok (.iaload, 1) := dk_46 (dk_at dksX6_yearly_0 7 rfl rfl)
theorem dX6_yearly_8 : decode cX6_yearly 8 = .ok (.imul, 1) := dk_104 (dk_at dksX6_yearly_0 8 rfl rfl)
theorem dX6_yearly_9 : decode cX6_yearly 9 = .ok (.aload_n 0, 1) := dk_42 (dk_at dksX6_yearly_0 9 rfl rfl)
theorem dX6_yearly_10 : decode cX6_yearly 10 = .ok (.getfield 29, 3) := dk_180 0 29 (dk_at dksX6_yearly_0 10 rfl rfl)
theorem dX6_yearly_13 : decode cX6_yearly 13 = .ok (.iload_n 1, 1) := dk_27 (dk_at dksX6_yearly_0 13 rfl rfl)
theorem dX6_yearly_14 : decode cX6_yearly 14 = .ok (.iaload, 1) := dk_46 (dk_at dksX6_yearly_0 14 rfl rfl)
theorem dX6_yearly_15 : decode cX6_yearly 15 = .ok (.iconst 3, 1) := dk_6 (dk_at dksX6_yearly_0 15 rfl rfl)
theorem dX6_yearly_16 : decode cX6_yearly 16 = .ok (.if_icmp .ne 16, 3) := dk_160 0 16 (dk_at dksX6_yearly_0 16 rfl rfl)
theorem dX6_yearly_19 : decode cX6_yearly 19 = .ok (.iconst 5, 1) := dk_8 (dk_at dksX6_yearly_0 19 rfl rfl)
theorem dX6_yearly_20 : decode cX6_yearly 20 = .ok (.aload_n 0, 1) := dk_42 (dk_at dksX6_yearly_0 20 rfl rfl)
theorem dX6_yearly_21 : decode cX6_yearly 21 = .ok (.getfield 53, 3) := dk_180 0 53 (dk_at dksX6_yearly_0 21 rfl rfl)
theorem dX6_yearly_24 : decode cX6_yearly 24 = .ok (.iload_n 1, 1) := dk_27 (dk_at dksX6_yearly_1 0 rfl rfl)
theorem dX6_yearly_25 : decode cX6_yearly 25 = .ok (.iaload, 1) := dk_46 (dk_at dksX6_yearly_1 1 rfl rfl)
theorem dX6_yearly_26 : decode cX6_yearly 26 = .ok (.iconst 1, 1) := dk_4 (dk_at dksX6_yearly_1 2 rfl rfl)
theorem dX6_yearly_27 : decode cX6_yearly 27 = .ok (.isub, 1) := dk_100 (dk_at dksX6_yearly_1 3 rfl rfl)
theorem dX6_yearly_28 : decode cX6_yearly 28 = .ok (.imul, 1) := dk_104 (dk_at dksX6_yearly_1 4 rfl rfl)
theorem dX6_yearly_29 : decode cX6_yearly 29 = .ok (.goto 4, 3) := dk_167 0 4 (dk_at dksX6_yearly_1 5 rfl rfl)
theorem dX6_yearly_32 : decode cX6_yearly 32 = .ok (.iconst 0, 1) := dk_3 (dk_at dksX6_yearly_1 8 rfl rfl)
theorem dX6_yearly_33 : decode cX6_yearly 33 = .ok (.iadd, 1) := dk_96 (dk_at dksX6_yearly_1 9 rfl rfl)
theorem dX6_yearly_34 : decode cX6_yearly 34 = .ok (.ireturn, 1) := dk_172 (dk_at dksX6_yearly_1 10 rfl rfl)
abbrev cX6_actLonger : ByteArray := prog_21_method_26_code
def yX6_actLonger : MethodName := ⟨RX6, "actLonger", "(II)I"⟩
def dkwX6_actLonger_3 : List UInt8 := [104, 172]
abbrev dktX6_actLonger_3 : List UInt8 := dkwX6_actLonger_3 ++ []
def dkwX6_actLonger_2 : List UInt8 := [96, 79, 42, 89, 180, 0, 150, 28, 42, 27, 182, 0, 189, 104, 96, 181, 0, 150, 28, 42, 27, 182, 0, 189]
abbrev dktX6_actLonger_2 : List UInt8 := dkwX6_actLonger_2 ++ dktX6_actLonger_3
def dkwX6_actLonger_1 : List UInt8 := [180, 0, 32, 27, 46, 4, 159, 0, 6, 16, 254, 172, 42, 180, 0, 38, 27, 92, 46, 17, 1, 109, 28, 104]
abbrev dktX6_actLonger_1 : List UInt8 := dkwX6_actLonger_1 ++ dktX6_actLonger_2
def dkwX6_actLonger_0 : List UInt8 := [42, 27, 182, 0, 186, 153, 0, 14, 28, 4, 161, 0, 9, 28, 16, 20, 164, 0, 5, 2, 172, 42]
abbrev dktX6_actLonger_0 : List UInt8 := dkwX6_actLonger_0 ++ dktX6_actLonger_1
theorem dksX6_actLonger_0 : cX6_actLonger.data.toList.drop 0 = dktX6_actLonger_0 := by decide +kernel
theorem dksX6_actLonger_1 : cX6_actLonger.data.toList.drop 22 = dktX6_actLonger_1 := dk_seg dksX6_actLonger_0 22 rfl rfl
theorem dksX6_actLonger_2 : cX6_actLonger.data.toList.drop 46 = dktX6_actLonger_2 := dk_seg dksX6_actLonger_1 24 rfl rfl
theorem dksX6_actLonger_3 : cX6_actLonger.data.toList.drop 70 = dktX6_actLonger_3 := dk_seg dksX6_actLonger_2 24 rfl rfl
theorem dX6_actLonger_0 : decode cX6_actLonger 0 = .ok (.aload_n 0, 1) := dk_42 (dk_at dksX6_actLonger_0 0 rfl rfl)
theorem dX6_actLonger_1 : decode cX6_actLonger 1 = .ok (.iload_n 1, 1) := dk_27 (dk_at dksX6_actLonger_0 1 rfl rfl)
theorem dX6_actLonger_2 : decode cX6_actLonger 2 = .ok (.invokevirtual 186, 3) := dk_182 0 186 (dk_at dksX6_actLonger_0 2 rfl rfl)
theorem dX6_actLonger_5 : decode cX6_actLonger 5 = .ok (.ifCond .eq 14, 3) := dk_153 0 14 (dk_at dksX6_actLonger_0 5 rfl rfl)
theorem dX6_actLonger_8 : decode cX6_actLonger 8 = .ok (.iload_n 2, 1) := dk_28 (dk_at dksX6_actLonger_0 8 rfl rfl)
theorem dX6_actLonger_9 : decode cX6_actLonger 9 = .ok (.iconst 1, 1) := dk_4 (dk_at dksX6_actLonger_0 9 rfl rfl)
theorem dX6_actLonger_10 : decode cX6_actLonger 10 = .ok (.if_icmp .lt 9, 3) := dk_161 0 9 (dk_at dksX6_actLonger_0 10 rfl rfl)
theorem dX6_actLonger_13 : decode cX6_actLonger 13 = .ok (.iload_n 2, 1) := dk_28 (dk_at dksX6_actLonger_0 13 rfl rfl)
theorem dX6_actLonger_14 : decode cX6_actLonger 14 = .ok (.bipush 20, 2) := dk_16 20 (dk_at dksX6_actLonger_0 14 rfl rfl)
theorem dX6_actLonger_16 : decode cX6_actLonger 16 = .ok (.if_icmp .le 5, 3) := dk_164 0 5 (dk_at dksX6_actLonger_0 16 rfl rfl)
theorem dX6_actLonger_19 : decode cX6_actLonger 19 = .ok (.iconst (-1), 1) := dk_2 (dk_at dksX6_actLonger_0 19 rfl rfl)
theorem dX6_actLonger_20 : decode cX6_actLonger 20 = .ok (.ireturn, 1) := dk_172 (dk_at dksX6_actLonger_0 20 rfl rfl)
theorem dX6_actLonger_21 : decode cX6_actLonger 21 = .ok (.aload_n 0, 1) := dk_42 (dk_at dksX6_actLonger_0 21 rfl rfl)
theorem dX6_actLonger_22 : decode cX6_actLonger 22 = .ok (.getfield 32, 3) := dk_180 0 32 (dk_at dksX6_actLonger_1 0 rfl rfl)
theorem dX6_actLonger_25 : decode cX6_actLonger 25 = .ok (.iload_n 1, 1) := dk_27 (dk_at dksX6_actLonger_1 3 rfl rfl)
theorem dX6_actLonger_26 : decode cX6_actLonger 26 = .ok (.iaload, 1) := dk_46 (dk_at dksX6_actLonger_1 4 rfl rfl)
theorem dX6_actLonger_27 : decode cX6_actLonger 27 = .ok (.iconst 1, 1) := dk_4 (dk_at dksX6_actLonger_1 5 rfl rfl)
theorem dX6_actLonger_28 : decode cX6_actLonger 28 = .ok (.if_icmp .eq 6, 3) := dk_159 0 6 (dk_at dksX6_actLonger_1 6 rfl rfl)
theorem dX6_actLonger_31 : decode cX6_actLonger 31 = .ok (.bipush (-2), 2) := dk_16 254 (dk_at dksX6_actLonger_1 9 rfl rfl)
theorem dX6_actLonger_33 : decode cX6_actLonger 33 = .ok (.ireturn, 1) := dk_172 (dk_at dksX6_actLonger_1 11 rfl rfl)
theorem dX6_actLonger_34 : decode cX6_actLonger 34 = .ok (.aload_n 0, 1) := dk_42 (dk_at dksX6_actLonger_1 12 rfl rfl)
theorem dX6_actLonger_35 : decode cX6_actLonger 35 = .ok (.getfield 38, 3) := dk_180 0 38 (dk_at dksX6_actLonger_1 13 rfl rfl)
theorem dX6_actLonger_38 : decode cX6_actLonger 38 = .ok (.iload_n 1, 1) := dk_27 (dk_at dksX6_actLonger_1 16 rfl rfl)
theorem dX6_actLonger_39 : decode cX6_actLonger 39 = .ok (.dup2, 1) := dk_92 (dk_at dksX6_actLonger_1 17 rfl rfl)
theorem dX6_actLonger_40 : decode cX6_actLonger 40 = .ok (.iaload, 1) := dk_46 (dk_at dksX6_actLonger_1 18 rfl rfl)
theorem dX6_actLonger_41 : decode cX6_actLonger 41 = .ok (.sipush 365, 3) := dk_17 1 109 (dk_at dksX6_actLonger_1 19 rfl rfl)
theorem dX6_actLonger_44 : decode cX6_actLonger 44 = .ok (.iload_n 2, 1) := dk_28 (dk_at dksX6_actLonger_1 22 rfl rfl)
theorem dX6_actLonger_45 : decode cX6_actLonger 45 = .ok (.imul, 1) := dk_104 (dk_at dksX6_actLonger_1 23 rfl rfl)
theorem dX6_actLonger_46 : decode cX6_actLonger 46 = .ok (.iadd, 1) := dk_96 (dk_at dksX6_actLonger_2 0 rfl rfl)
theorem dX6_actLonger_47 : decode cX6_actLonger 47 = .ok (.iastore, 1) := dk_79 (dk_at dksX6_actLonger_2 1 rfl rfl)
theorem dX6_actLonger_48 : decode cX6_actLonger 48 = .ok (.aload_n 0, 1) := dk_42 (dk_at dksX6_actLonger_2 2 rfl rfl)
theorem dX6_actLonger_49 : decode cX6_actLonger 49 = .ok (.dup, 1) := dk_89 (dk_at dksX6_actLonger_2 3 rfl rfl)
theorem dX6_actLonger_50 : decode cX6_actLonger 50 = .ok (.getfield 150, 3) := dk_180 0 150 (dk_at dksX6_actLonger_2 4 rfl rfl)
theorem dX6_actLonger_53 : decode cX6_actLonger 53 = .ok (.iload_n 2, 1) := dk_28 (dk_at dksX6_actLonger_2 7 rfl rfl)
theorem dX6_actLonger_54 : decode cX6_actLonger 54 = .ok (.aload_n 0, 1) := dk_42 (dk_at dksX6_actLonger_2 8 rfl rfl)
theorem dX6_actLonger_55 : decode cX6_actLonger 55 = .ok (.iload_n 1, 1) := dk_27 (dk_at dksX6_actLonger_2 9 rfl rfl)
theorem dX6_actLonger_56 : decode cX6_actLonger 56 = .ok (.invokevirtual 189, 3) := dk_182 0 189 (dk_at dksX6_actLonger_2 10 rfl rfl)
theorem dX6_actLonger_59 : decode cX6_actLonger 59 = .ok (.imul, 1) := dk_104 (dk_at dksX6_actLonger_2 13 rfl rfl)
theorem dX6_actLonger_60 : decode cX6_actLonger 60 = .ok (.iadd, 1) := dk_96 (dk_at dksX6_actLonger_2 14 rfl rfl)
theorem dX6_actLonger_61 : decode cX6_actLonger 61 = .ok (.putfield 150, 3) := dk_181 0 150 (dk_at dksX6_actLonger_2 15 rfl rfl)
theorem dX6_actLonger_64 : decode cX6_actLonger 64 = .ok (.iload_n 2, 1) := dk_28 (dk_at dksX6_actLonger_2 18 rfl rfl)
theorem dX6_actLonger_65 : decode cX6_actLonger 65 = .ok (.aload_n 0, 1) := dk_42 (dk_at dksX6_actLonger_2 19 rfl rfl)
theorem dX6_actLonger_66 : decode cX6_actLonger 66 = .ok (.iload_n 1, 1) := dk_27 (dk_at dksX6_actLonger_2 20 rfl rfl)
theorem dX6_actLonger_67 : decode cX6_actLonger 67 = .ok (.invokevirtual 189, 3) := dk_182 0 189 (dk_at dksX6_actLonger_2 21 rfl rfl)
theorem dX6_actLonger_70 : decode cX6_actLonger 70 = .ok (.imul, 1) := dk_104 (dk_at dksX6_actLonger_3 0 rfl rfl)
theorem dX6_actLonger_71 : decode cX6_actLonger 71 = .ok (.ireturn, 1) := dk_172 (dk_at dksX6_actLonger_3 1 rfl rfl)
abbrev cX6_actAgree : ByteArray := prog_21_method_27_code
def yX6_actAgree : MethodName := ⟨RX6, "actAgree", "(III)I"⟩
def dkwX6_actAgree_2 : List UInt8 := [17, 0, 150, 27, 104, 28, 96, 29, 4, 160, 0, 7, 4, 167, 0, 4, 3, 84, 3, 172]
abbrev dktX6_actAgree_2 : List UInt8 := dkwX6_actAgree_2 ++ []
def dkwX6_actAgree_1 : List UInt8 := [164, 0, 5, 2, 172, 42, 180, 0, 32, 27, 46, 4, 159, 0, 6, 16, 254, 172, 42, 180, 0, 59]
abbrev dktX6_actAgree_1 : List UInt8 := dkwX6_actAgree_1 ++ dktX6_actAgree_2
def dkwX6_actAgree_0 : List UInt8 := [42, 27, 182, 0, 186, 153, 0, 20, 42, 28, 182, 0, 183, 153, 0, 12, 29, 155, 0, 8, 29, 4]
abbrev dktX6_actAgree_0 : List UInt8 := dkwX6_actAgree_0 ++ dktX6_actAgree_1
theorem dksX6_actAgree_0 : cX6_actAgree.data.toList.drop 0 = dktX6_actAgree_0 := by decide +kernel
theorem dksX6_actAgree_1 : cX6_actAgree.data.toList.drop 22 = dktX6_actAgree_1 := dk_seg dksX6_actAgree_0 22 rfl rfl
theorem dksX6_actAgree_2 : cX6_actAgree.data.toList.drop 44 = dktX6_actAgree_2 := dk_seg dksX6_actAgree_1 22 rfl rfl
theorem dX6_actAgree_0 : decode cX6_actAgree 0 = .ok (.aload_n 0, 1) := dk_42 (dk_at dksX6_actAgree_0 0 rfl rfl)
theorem dX6_actAgree_1 : decode cX6_actAgree 1 = .ok (.iload_n 1, 1) := dk_27 (dk_at dksX6_actAgree_0 1 rfl rfl)
theorem dX6_actAgree_2 : decode cX6_actAgree 2 = .ok (.invokevirtual 186, 3) := dk_182 0 186 (dk_at dksX6_actAgree_0 2 rfl rfl)
theorem dX6_actAgree_5 : decode cX6_actAgree 5 = .ok (.ifCond .eq 20, 3) := dk_153 0 20 (dk_at dksX6_actAgree_0 5 rfl rfl)
theorem dX6_actAgree_8 : decode cX6_actAgree 8 = .ok (.aload_n 0, 1) := dk_42 (dk_at dksX6_actAgree_0 8 rfl rfl)
theorem dX6_actAgree_9 : decode cX6_actAgree 9 = .ok (.iload_n 2, 1) := dk_28 (dk_at dksX6_actAgree_0 9 rfl rfl)
theorem dX6_actAgree_10 : decode cX6_actAgree 10 = .ok (.invokevirtual 183, 3) := dk_182 0 183 (dk_at dksX6_actAgree_0 10 rfl rfl)
theorem dX6_actAgree_13 : decode cX6_actAgree 13 = .ok (.ifCond .eq 12, 3) := dk_153 0 12 (dk_at dksX6_actAgree_0 13 rfl rfl)
theorem dX6_actAgree_16 : decode cX6_actAgree 16 = .ok (.iload_n 3, 1) := dk_29 (dk_at dksX6_actAgree_0 16 rfl rfl)
theorem dX6_actAgree_17 : decode cX6_actAgree 17 = .ok (.ifCond .lt 8, 3) := dk_155 0 8 (dk_at dksX6_actAgree_0 17 rfl rfl)
theorem dX6_actAgree_20 : decode cX6_actAgree 20 = .ok (.iload_n 3, 1) := dk_29 (dk_at dksX6_actAgree_0 20 rfl rfl)
theorem dX6_actAgree_21 : decode cX6_actAgree 21 = .ok (.iconst 1, 1) := dk_4 (dk_at dksX6_actAgree_0 21 rfl rfl)
theorem dX6_actAgree_22 : decode cX6_actAgree 22 = .ok (.if_icmp .le 5, 3) := dk_164 0 5 (dk_at dksX6_actAgree_1 0 rfl rfl)
theorem dX6_actAgree_25 : decode cX6_actAgree 25 = .ok (.iconst (-1), 1) := dk_2 (dk_at dksX6_actAgree_1 3 rfl rfl)
theorem dX6_actAgree_26 : decode cX6_actAgree 26 = .ok (.ireturn, 1) := dk_172 (dk_at dksX6_actAgree_1 4 rfl rfl)
theorem dX6_actAgree_27 : decode cX6_actAgree 27 = .ok (.aload_n 0, 1) := dk_42 (dk_at dksX6_actAgree_1 5 rfl rfl)
theorem dX6_actAgree_28 : decode cX6_actAgree 28 = .ok (.getfield 32, 3) := dk_180 0 32 (dk_at dksX6_actAgree_1 6 rfl rfl)
theorem dX6_actAgree_31 : decode cX6_actAgree 31 = .ok (.iload_n 1, 1) := dk_27 (dk_at dksX6_actAgree_1 9 rfl rfl)
theorem dX6_actAgree_32 : decode cX6_actAgree 32 = .ok (.iaload, 1) := dk_46 (dk_at dksX6_actAgree_1 10 rfl rfl)
theorem dX6_actAgree_33 : decode cX6_actAgree 33 = .ok (.iconst 1, 1) := dk_4 (dk_at dksX6_actAgree_1 11 rfl rfl)
theorem dX6_actAgree_34 : decode cX6_actAgree 34 = .ok (.if_icmp .eq 6, 3) := dk_159 0 6 (dk_at dksX6_actAgree_1 12 rfl rfl)
theorem dX6_actAgree_37 : decode cX6_actAgree 37 = .ok (.bipush (-2), 2) := dk_16 254 (dk_at dksX6_actAgree_1 15 rfl rfl)
theorem dX6_actAgree_39 : decode cX6_actAgree 39 = .ok (.ireturn, 1) := dk_172 (dk_at dksX6_actAgree_1 17 rfl rfl)
theorem dX6_actAgree_40 : decode cX6_actAgree 40 = .ok (.aload_n 0, 1) := dk_42 (dk_at dksX6_actAgree_1 18 rfl rfl)
theorem dX6_actAgree_41 : decode cX6_actAgree 41 = .ok (.getfield 59, 3) := dk_180 0 59 (dk_at dksX6_actAgree_1 19 rfl rfl)
theorem dX6_actAgree_44 : decode cX6_actAgree 44 = .ok (.sipush 150, 3) := dk_17 0 150 (dk_at dksX6_actAgree_2 0 rfl rfl)
theorem dX6_actAgree_47 : decode cX6_actAgree 47 = .ok (.iload_n 1, 1) := dk_27 (dk_at dksX6_actAgree_2 3 rfl rfl)
theorem dX6_actAgree_48 : decode cX6_actAgree 48 = .ok (.imul, 1) := dk_104 (dk_at dksX6_actAgree_2 4 rfl rfl)
theorem dX6_actAgree_49 : decode cX6_actAgree 49 = .ok (.iload_n 2, 1) := dk_28 (dk_at dksX6_actAgree_2 5 rfl rfl)
theorem dX6_actAgree_50 : decode cX6_actAgree 50 = .ok (.iadd, 1) := dk_96 (dk_at dksX6_actAgree_2 6 rfl rfl)
theorem dX6_actAgree_51 : decode cX6_actAgree 51 = .ok (.iload_n 3, 1) := dk_29 (dk_at dksX6_actAgree_2 7 rfl rfl)
theorem dX6_actAgree_52 : decode cX6_actAgree 52 = .ok (.iconst 1, 1) := dk_4 (dk_at dksX6_actAgree_2 8 rfl rfl)
theorem dX6_actAgree_53 : decode cX6_actAgree 53 = .ok (.if_icmp .ne 7, 3) := dk_160 0 7 (dk_at dksX6_actAgree_2 9 rfl rfl)
theorem dX6_actAgree_56 : decode cX6_actAgree 56 = .ok (.iconst 1, 1) := dk_4 (dk_at dksX6_actAgree_2 12 rfl rfl)
theorem dX6_actAgree_57 : decode cX6_actAgree 57 = .ok (.goto 4, 3) := dk_167 0 4 (dk_at dksX6_actAgree_2 13 rfl rfl)
theorem dX6_actAgree_60 : decode cX6_actAgree 60 = .ok (.iconst 0, 1) := dk_3 (dk_at dksX6_actAgree_2 16 rfl rfl)
theorem dX6_actAgree_61 : decode cX6_actAgree 61 = .ok (.bastore, 1) := dk_84 (dk_at dksX6_actAgree_2 17 rfl rfl)
theorem dX6_actAgree_62 : decode cX6_actAgree 62 = .ok (.iconst 0, 1) := dk_3 (dk_at dksX6_actAgree_2 18 rfl rfl)
theorem dX6_actAgree_63 : decode cX6_actAgree 63 = .ok (.ireturn, 1) := dk_172 (dk_at dksX6_actAgree_2 19 rfl rfl)
abbrev cX6_actDies : ByteArray := prog_21_method_34_code
def yX6_actDies : MethodName := ⟨RX6, "actDies", "(I)I"⟩
def dkwX6_actDies_5 : List UInt8 := [180, 0, 41, 29, 46, 27, 160, 0, 8, 42, 29, 182, 0, 216, 132, 3, 1, 167, 255, 220, 28, 172]
abbrev dktX6_actDies_5 : List UInt8 := dkwX6_actDies_5 ++ []
def dkwX6_actDies_4 : List UInt8 := [167, 255, 201, 3, 62, 29, 42, 180, 0, 141, 162, 0, 34, 42, 180, 0, 32, 29, 46, 5, 160, 0, 18, 42]
abbrev dktX6_actDies_4 : List UInt8 := dkwX6_actDies_4 ++ dktX6_actDies_5
def dkwX6_actDies_3 : List UInt8 := [180, 0, 32, 29, 5, 79, 42, 29, 27, 182, 0, 213, 42, 29, 182, 0, 209, 132, 2, 1, 132, 3, 1]
abbrev dktX6_actDies_3 : List UInt8 := dkwX6_actDies_3 ++ dktX6_actDies_4
def dkwX6_actDies_2 : List UInt8 := [180, 0, 32, 29, 46, 4, 160, 0, 37, 42, 180, 0, 35, 29, 46, 27, 159, 0, 6, 167, 0, 24, 42]
abbrev dktX6_actDies_2 : List UInt8 := dkwX6_actDies_2 ++ dktX6_actDies_3
def dkwX6_actDies_1 : List UInt8 := [4, 84, 42, 180, 0, 86, 27, 4, 79, 3, 61, 3, 62, 29, 42, 180, 0, 141, 162, 0, 53, 42]
abbrev dktX6_actDies_1 : List UInt8 := dkwX6_actDies_1 ++ dktX6_actDies_2
def dkwX6_actDies_0 : List UInt8 := [42, 27, 182, 0, 183, 153, 0, 12, 42, 180, 0, 83, 27, 51, 153, 0, 5, 2, 172, 42, 180, 0, 83, 27]
abbrev dktX6_actDies_0 : List UInt8 := dkwX6_actDies_0 ++ dktX6_actDies_1
theorem dksX6_actDies_0 : cX6_actDies.data.toList.drop 0 = dktX6_actDies_0 := by decide +kernel
theorem dksX6_actDies_1 : cX6_actDies.data.toList.drop 24 = dktX6_actDies_1 := dk_seg dksX6_actDies_0 24 rfl rfl
theorem dksX6_actDies_2 : cX6_actDies.data.toList.drop 46 = dktX6_actDies_2 := dk_seg dksX6_actDies_1 22 rfl rfl
theorem dksX6_actDies_3 : cX6_actDies.data.toList.drop 69 = dktX6_actDies_3 := dk_seg dksX6_actDies_2 23 rfl rfl
theorem dksX6_actDies_4 : cX6_actDies.data.toList.drop 92 = dktX6_actDies_4 := dk_seg dksX6_actDies_3 23 rfl rfl
theorem dksX6_actDies_5 : cX6_actDies.data.toList.drop 116 = dktX6_actDies_5 := dk_seg dksX6_actDies_4 24 rfl rfl
theorem dX6_actDies_0 : decode cX6_actDies 0 = .ok (.aload_n 0, 1) := dk_42 (dk_at dksX6_actDies_0 0 rfl rfl)
theorem dX6_actDies_1 : decode cX6_actDies 1 = .ok (.iload_n 1, 1) := dk_27 (dk_at dksX6_actDies_0 1 rfl rfl)
theorem dX6_actDies_2 : decode cX6_actDies 2 = .ok (.invokevirtual 183, 3) := dk_182 0 183 (dk_at dksX6_actDies_0 2 rfl rfl)
theorem dX6_actDies_5 : decode cX6_actDies 5 = .ok (.ifCond .eq 12, 3) := dk_153 0 12 (dk_at dksX6_actDies_0 5 rfl rfl)
theorem dX6_actDies_8 : decode cX6_actDies 8 = .ok (.aload_n 0, 1) := dk_42 (dk_at dksX6_actDies_0 8 rfl rfl)
theorem dX6_actDies_9 : decode cX6_actDies 9 = .ok (.getfield 83, 3) := dk_180 0 83 (dk_at dksX6_actDies_0 9 rfl rfl)
theorem dX6_actDies_12 : decode cX6_actDies 12 = .ok (.iload_n 1, 1) := dk_27 (dk_at dksX6_actDies_0 12 rfl rfl)
theorem dX6_actDies_13 : decode cX6_actDies 13 = .ok (.baload, 1) := dk_51 (dk_at dksX6_actDies_0 13 rfl rfl)
theorem dX6_actDies_14 : decode cX6_actDies 14 = .ok (.ifCond .eq 5, 3) := dk_153 0 5 (dk_at dksX6_actDies_0 14 rfl rfl)
theorem dX6_actDies_17 : decode cX6_actDies 17 = .ok (.iconst (-1), 1) := dk_2 (dk_at dksX6_actDies_0 17 rfl rfl)
theorem dX6_actDies_18 : decode cX6_actDies 18 = .ok (.ireturn, 1) := dk_172 (dk_at dksX6_actDies_0 18 rfl rfl)
theorem dX6_actDies_19 : decode cX6_actDies 19 = .ok (.aload_n 0, 1) := dk_42 (dk_at dksX6_actDies_0 19 rfl rfl)
theorem dX6_actDies_20 : decode cX6_actDies 20 = .ok (.getfield 83, 3) := dk_180 0 83 (dk_at dksX6_actDies_0 20 rfl rfl)
theorem dX6_actDies_23 : decode cX6_actDies 23 = .ok (.iload_n 1, 1) := dk_27 (dk_at dksX6_actDies_0 23 rfl rfl)
theorem dX6_actDies_24 : decode cX6_actDies 24 = .ok (.iconst 1, 1) := dk_4 (dk_at dksX6_actDies_1 0 rfl rfl)
theorem dX6_actDies_25 : decode cX6_actDies 25 = .ok (.bastore, 1) := dk_84 (dk_at dksX6_actDies_1 1 rfl rfl)
theorem dX6_actDies_26 : decode cX6_actDies 26 = .ok (.aload_n 0, 1) := dk_42 (dk_at dksX6_actDies_1 2 rfl rfl)
theorem dX6_actDies_27 : decode cX6_actDies 27 = .ok (.getfield 86, 3) := dk_180 0 86 (dk_at dksX6_actDies_1 3 rfl rfl)
theorem dX6_actDies_30 : decode cX6_actDies 30 = .ok (.iload_n 1, 1) := dk_27 (dk_at dksX6_actDies_1 6 rfl rfl)
theorem dX6_actDies_31 : decode cX6_actDies 31 = .ok (.iconst 1, 1) := dk_4 (dk_at dksX6_actDies_1 7 rfl rfl)
theorem dX6_actDies_32 : decode cX6_actDies 32 = .ok (.iastore, 1) := dk_79 (dk_at dksX6_actDies_1 8 rfl rfl)
theorem dX6_actDies_33 : decode cX6_actDies 33 = .ok (.iconst 0, 1) := dk_3 (dk_at dksX6_actDies_1 9 rfl rfl)
theorem dX6_actDies_34 : decode cX6_actDies 34 = .ok (.istore_n 2, 1) := dk_61 (dk_at dksX6_actDies_1 10 rfl rfl)
theorem dX6_actDies_35 : decode cX6_actDies 35 = .ok (.iconst 0, 1) := dk_3 (dk_at dksX6_actDies_1 11 rfl rfl)
theorem dX6_actDies_36 : decode cX6_actDies 36 = .ok (.istore_n 3, 1) := dk_62 (dk_at dksX6_actDies_1 12 rfl rfl)
theorem dX6_actDies_37 : decode cX6_actDies 37 = .ok (.iload_n 3, 1) := dk_29 (dk_at dksX6_actDies_1 13 rfl rfl)
theorem dX6_actDies_38 : decode cX6_actDies 38 = .ok (.aload_n 0, 1) := dk_42 (dk_at dksX6_actDies_1 14 rfl rfl)
theorem dX6_actDies_39 : decode cX6_actDies 39 = .ok (.getfield 141, 3) := dk_180 0 141 (dk_at dksX6_actDies_1 15 rfl rfl)
theorem dX6_actDies_42 : decode cX6_actDies 42 = .ok (.if_icmp .ge 53, 3) := dk_162 0 53 (dk_at dksX6_actDies_1 18 rfl rfl)
theorem dX6_actDies_45 : decode cX6_actDies 45 = .ok (.aload_n 0, 1) := dk_42 (dk_at dksX6_actDies_1 21 rfl rfl)
theorem dX6_actDies_46 : decode cX6_actDies 46 = .ok (.getfield 32, 3) := dk_180 0 32 (dk_at dksX6_actDies_2 0 rfl rfl)
theorem dX6_actDies_49 : decode cX6_actDies 49 = .ok (.iload_n 3, 1) := dk_29 (dk_at dksX6_actDies_2 3 rfl rfl)
theorem dX6_actDies_50 : decode cX6_actDies 50 = .ok (.iaload, 1) := dk_46 (dk_at dksX6_actDies_2 4 rfl rfl)
theorem dX6_actDies_51 : decode cX6_actDies 51 = .ok (.iconst 1, 1) := dk_4 (dk_at dksX6_actDies_2 5 rfl rfl)
theorem dX6_actDies_52 : decode cX6_actDies 52 = .ok (.if_icmp .ne 37, 3) := dk_160 0 37 (dk_at dksX6_actDies_2 6 rfl rfl)
theorem dX6_actDies_55 : decode cX6_actDies 55 = .ok (.aload_n 0, 1) := dk_42 (dk_at dksX6_actDies_2 9 rfl rfl)
theorem dX6_actDies_56 : decode cX6_actDies 56 = .ok (.getfield 35, 3) := dk_180 0 35 (dk_at dksX6_actDies_2 10 rfl rfl)
theorem dX6_actDies_59 : decode cX6_actDies 59 = .ok (.iload_n 3, 1) := dk_29 (dk_at dksX6_actDies_2 13 rfl rfl)
theorem dX6_actDies_60 : decode cX6_actDies 60 = .ok (.iaload, 1) := dk_46 (dk_at dksX6_actDies_2 14 rfl rfl)
theorem dX6_actDies_61 : decode cX6_actDies 61 = .ok (.iload_n 1, 1) := dk_27 (dk_at dksX6_actDies_2 15 rfl rfl)
theorem dX6_actDies_62 : decode cX6_actDies 62 = .ok (.if_icmp .eq 6, 3) := dk_159 0 6 (dk_at dksX6_actDies_2 16 rfl rfl)
theorem dX6_actDies_65 : decode cX6_actDies 65 = .ok (.goto 24, 3) := dk_167 0 24 (dk_at dksX6_actDies_2 19 rfl rfl)
theorem dX6_actDies_68 : decode cX6_actDies 68 = .ok (.aload_n 0, 1) := dk_42 (dk_at dksX6_actDies_2 22 rfl rfl)
theorem dX6_actDies_69 : decode cX6_actDies 69 = .ok (.getfield 32, 3) := dk_180 0 32 (dk_at dksX6_actDies_3 0 rfl rfl)
theorem dX6_actDies_72 : decode cX6_actDies 72 = .ok (.iload_n 3, 1) := dk_29 (dk_at dksX6_actDies_3 3 rfl rfl)
theorem dX6_actDies_73 : decode cX6_actDies 73 = .ok (.iconst 2, 1) := dk_5 (dk_at dksX6_actDies_3 4 rfl rfl)
theorem dX6_actDies_74 : decode cX6_actDies 74 = .ok (.iastore, 1) := dk_79 (dk_at dksX6_actDies_3 5 rfl rfl)
theorem dX6_actDies_75 : decode cX6_actDies 75 = .ok (.aload_n 0, 1) := dk_42 (dk_at dksX6_actDies_3 6 rfl rfl)
theorem dX6_actDies_76 : decode cX6_actDies 76 = .ok (.iload_n 3, 1) := dk_29 (dk_at dksX6_actDies_3 7 rfl rfl)
theorem dX6_actDies_77 : decode cX6_actDies 77 = .ok (.iload_n 1, 1) := dk_27 (dk_at dksX6_actDies_3 8 rfl rfl)
theorem dX6_actDies_78 : decode cX6_actDies 78 = .ok (.invokevirtual 213, 3) := dk_182 0 213 (dk_at dksX6_actDies_3 9 rfl rfl)
theorem dX6_actDies_81 : decode cX6_actDies 81 = .ok (.aload_n 0, 1) := dk_42 (dk_at dksX6_actDies_3 12 rfl rfl)
theorem dX6_actDies_82 : decode cX6_actDies 82 = .ok (.iload_n 3, 1) := dk_29 (dk_at dksX6_actDies_3 13 rfl rfl)
theorem dX6_actDies_83 : decode cX6_actDies 83 = .ok (.invokevirtual 209, 3) := dk_182 0 209 (dk_at dksX6_actDies_3 14 rfl rfl)
theorem dX6_actDies_86 : decode cX6_actDies 86 = .ok (.iinc 2 1, 3) := dk_132 2 1 (dk_at dksX6_actDies_3 17 rfl rfl)
theorem dX6_actDies_89 : decode cX6_actDies 89 = .ok (.iinc 3 1, 3) := dk_132 3 1 (dk_at dksX6_actDies_3 20 rfl rfl)
theorem dX6_actDies_92 : decode cX6_actDies 92 = .ok (.goto (-55), 3) := dk_167 255 201 (dk_at dksX6_actDies_4 0 rfl rfl)
theorem dX6_actDies_95 : decode cX6_actDies 95 = .ok (.iconst 0, 1) := dk_3 (dk_at dksX6_actDies_4 3 rfl rfl)
theorem dX6_actDies_96 : decode cX6_actDies 96 = .ok (.istore_n 3, 1) := dk_62 (dk_at dksX6_actDies_4 4 rfl rfl)
theorem dX6_actDies_97 : decode cX6_actDies 97 = .ok (.iload_n 3, 1) := dk_29 (dk_at dksX6_actDies_4 5 rfl rfl)
theorem dX6_actDies_98 : decode cX6_actDies 98 = .ok (.aload_n 0, 1) := dk_42 (dk_at dksX6_actDies_4 6 rfl rfl)
theorem dX6_actDies_99 : decode cX6_actDies 99 = .ok (.getfield 141, 3) := dk_180 0 141 (dk_at dksX6_actDies_4 7 rfl rfl)
theorem dX6_actDies_102 : decode cX6_actDies 102 = .ok (.if_icmp .ge 34, 3) := dk_162 0 34 (dk_at dksX6_actDies_4 10 rfl rfl)
theorem dX6_actDies_105 : decode cX6_actDies 105 = .ok (.aload_n 0, 1) := dk_42 (dk_at dksX6_actDies_4 13 rfl rfl)
theorem dX6_actDies_106 : decode cX6_actDies 106 = .ok (.getfield 32, 3) := dk_180 0 32 (dk_at dksX6_actDies_4 14 rfl rfl)
theorem dX6_actDies_109 : decode cX6_actDies 109 = .ok (.iload_n 3, 1) := dk_29 (dk_at dksX6_actDies_4 17 rfl rfl)
theorem dX6_actDies_110 : decode cX6_actDies 110 = .ok (.iaload, 1) := dk_46 (dk_at dksX6_actDies_4 18 rfl rfl)
theorem dX6_actDies_111 : decode cX6_actDies 111 = .ok (.iconst 2, 1) := dk_5 (dk_at dksX6_actDies_4 19 rfl rfl)
theorem dX6_actDies_112 : decode cX6_actDies 112 = .ok (.if_icmp .ne 18, 3) := dk_160 0 18 (dk_at dksX6_actDies_4 20 rfl rfl)
theorem dX6_actDies_115 : decode cX6_actDies 115 = .ok (.aload_n 0, 1) := dk_42 (dk_at dksX6_actDies_4 23 rfl rfl)
theorem dX6_actDies_116 : decode cX6_actDies 116 = .ok (.getfield 41, 3) := dk_180 0 41 (dk_at dksX6_actDies_5 0 rfl rfl)
theorem dX6_actDies_119 : decode cX6_actDies 119 = .ok (.iload_n 3, 1) := dk_29 (dk_at dksX6_actDies_5 3 rfl rfl)
theorem dX6_actDies_120 : decode cX6_actDies 120 = .ok (.iaload, 1) := dk_46 (dk_at dksX6_actDies_5 4 rfl rfl)
theorem dX6_actDies_121 : decode cX6_actDies 121 = .ok (.iload_n 1, 1) := dk_27 (dk_at dksX6_actDies_5 5 rfl rfl)
theorem dX6_actDies_122 : decode cX6_actDies 122 = .ok (.if_icmp .ne 8, 3) := dk_160 0 8 (dk_at dksX6_actDies_5 6 rfl rfl)
theorem dX6_actDies_125 : decode cX6_actDies 125 = .ok (.aload_n 0, 1) := dk_42 (dk_at dksX6_actDies_5 9 rfl rfl)
theorem dX6_actDies_126 : decode cX6_actDies 126 = .ok (.iload_n 3, 1) := dk_29 (dk_at dksX6_actDies_5 10 rfl rfl)
theorem dX6_actDies_127 : decode cX6_actDies 127 = .ok (.invokevirtual 216, 3) := dk_182 0 216 (dk_at dksX6_actDies_5 11 rfl rfl)
theorem dX6_actDies_130 : decode cX6_actDies 130 = .ok (.iinc 3 1, 3) := dk_132 3 1 (dk_at dksX6_actDies_5 14 rfl rfl)
theorem dX6_actDies_133 : decode cX6_actDies 133 = .ok (.goto (-36), 3) := dk_167 255 220 (dk_at dksX6_actDies_5 17 rfl rfl)
theorem dX6_actDies_136 : decode cX6_actDies 136 = .ok (.iload_n 2, 1) := dk_28 (dk_at dksX6_actDies_5 20 rfl rfl)
theorem dX6_actDies_137 : decode cX6_actDies 137 = .ok (.ireturn, 1) := dk_172 (dk_at dksX6_actDies_5 21 rfl rfl)
abbrev cX6_orders : ByteArray := prog_21_method_31_code
def yX6_orders : MethodName := ⟨RX6, "orders", "(II)V"⟩
def dkwX6_orders_5 : List UInt8 := [182, 0, 201, 42, 27, 21, 4, 182, 0, 201, 42, 27, 28, 4, 182, 0, 205, 177]
abbrev dktX6_orders_5 : List UInt8 := dkwX6_orders_5 ++ []
def dkwX6_orders_4 : List UInt8 := [160, 0, 12, 42, 180, 0, 110, 28, 46, 167, 0, 9, 42, 180, 0, 107, 28, 46, 54, 4, 42, 27, 29]
abbrev dktX6_orders_4 : List UInt8 := dkwX6_orders_4 ++ dktX6_orders_5
def dkwX6_orders_3 : List UInt8 := [180, 0, 107, 28, 46, 167, 0, 9, 42, 180, 0, 110, 28, 46, 62, 29, 42, 180, 0, 107, 28, 46]
abbrev dktX6_orders_3 : List UInt8 := dkwX6_orders_3 ++ dktX6_orders_4
def dkwX6_orders_2 : List UInt8 := [180, 0, 107, 28, 46, 42, 180, 0, 110, 28, 46, 161, 0, 12, 42, 180, 0, 110, 28, 46, 156, 0, 12, 42]
abbrev dktX6_orders_2 : List UInt8 := dkwX6_orders_2 ++ dktX6_orders_3
def dkwX6_orders_1 : List UInt8 := [182, 0, 201, 42, 27, 42, 180, 0, 104, 28, 46, 182, 0, 201, 42, 27, 28, 3, 182, 0, 205, 42]
abbrev dktX6_orders_1 : List UInt8 := dkwX6_orders_1 ++ dktX6_orders_2
def dkwX6_orders_0 : List UInt8 := [42, 180, 0, 65, 27, 3, 79, 42, 180, 0, 68, 27, 3, 79, 42, 27, 42, 180, 0, 113, 28, 46]
abbrev dktX6_orders_0 : List UInt8 := dkwX6_orders_0 ++ dktX6_orders_1
theorem dksX6_orders_0 : cX6_orders.data.toList.drop 0 = dktX6_orders_0 := by decide +kernel
theorem dksX6_orders_1 : cX6_orders.data.toList.drop 22 = dktX6_orders_1 := dk_seg dksX6_orders_0 22 rfl rfl
theorem dksX6_orders_2 : cX6_orders.data.toList.drop 44 = dktX6_orders_2 := dk_seg dksX6_orders_1 22 rfl rfl
theorem dksX6_orders_3 : cX6_orders.data.toList.drop 68 = dktX6_orders_3 := dk_seg dksX6_orders_2 24 rfl rfl
theorem dksX6_orders_4 : cX6_orders.data.toList.drop 90 = dktX6_orders_4 := dk_seg dksX6_orders_3 22 rfl rfl
theorem dksX6_orders_5 : cX6_orders.data.toList.drop 113 = dktX6_orders_5 := dk_seg dksX6_orders_4 23 rfl rfl
theorem dX6_orders_0 : decode cX6_orders 0 = .ok (.aload_n 0, 1) := dk_42 (dk_at dksX6_orders_0 0 rfl rfl)
theorem dX6_orders_1 : decode cX6_orders 1 = .ok (.getfield 65, 3) := dk_180 0 65 (dk_at dksX6_orders_0 1 rfl rfl)
theorem dX6_orders_4 : decode cX6_orders 4 = .ok (.iload_n 1, 1) := dk_27 (dk_at dksX6_orders_0 4 rfl rfl)
theorem dX6_orders_5 : decode cX6_orders 5 = .ok (.iconst 0, 1) := dk_3 (dk_at dksX6_orders_0 5 rfl rfl)
theorem dX6_orders_6 : decode cX6_orders 6 = .ok (.iastore, 1) := dk_79 (dk_at dksX6_orders_0 6 rfl rfl)
theorem dX6_orders_7 : decode cX6_orders 7 = .ok (.aload_n 0, 1) := dk_42 (dk_at dksX6_orders_0 7 rfl rfl)
theorem dX6_orders_8 : decode cX6_orders 8 = .ok (.getfield 68, 3) := dk_180 0 68 (dk_at dksX6_orders_0 8 rfl rfl)
theorem dX6_orders_11 : decode cX6_orders 11 = .ok (.iload_n 1, 1) := dk_27 (dk_at dksX6_orders_0 11 rfl rfl)
theorem dX6_orders_12 : decode cX6_orders 12 = .ok (.iconst 0, 1) := dk_3 (dk_at dksX6_orders_0 12 rfl rfl)
theorem dX6_orders_13 : decode cX6_orders 13 = .ok (.iastore, 1) := dk_79 (dk_at dksX6_orders_0 13 rfl rfl)
theorem dX6_orders_14 : decode cX6_orders 14 = .ok (.aload_n 0, 1) := dk_42 (dk_at dksX6_orders_0 14 rfl rfl)
theorem dX6_orders_15 : decode cX6_orders 15 = .ok (.iload_n 1, 1) := dk_27 (dk_at dksX6_orders_0 15 rfl rfl)
theorem dX6_orders_16 : decode cX6_orders 16 = .ok (.aload_n 0, 1) := dk_42 (dk_at dksX6_orders_0 16 rfl rfl)
theorem dX6_orders_17 : decode cX6_orders 17 = .ok (.getfield 113, 3) := dk_180 0 113 (dk_at dksX6_orders_0 17 rfl rfl)
theorem dX6_orders_20 : decode cX6_orders 20 = .ok (.iload_n 2, 1) := dk_28 (dk_at dksX6_orders_0 20 rfl rfl)
theorem dX6_orders_21 : decode cX6_orders 21 = .ok (.iaload, 1) := dk_46 (dk_at dksX6_orders_0 21 rfl rfl)
theorem dX6_orders_22 : decode cX6_orders 22 = .ok (.invokevirtual 201, 3) := dk_182 0 201 (dk_at dksX6_orders_1 0 rfl rfl)
theorem dX6_orders_25 : decode cX6_orders 25 = .ok (.aload_n 0, 1) := dk_42 (dk_at dksX6_orders_1 3 rfl rfl)
theorem dX6_orders_26 : decode cX6_orders 26 = .ok (.iload_n 1, 1) := dk_27 (dk_at dksX6_orders_1 4 rfl rfl)
theorem dX6_orders_27 : decode cX6_orders 27 = .ok (.aload_n 0, 1) := dk_42 (dk_at dksX6_orders_1 5 rfl rfl)
theorem dX6_orders_28 : decode cX6_orders 28 = .ok (.getfield 104, 3) := dk_180 0 104 (dk_at dksX6_orders_1 6 rfl rfl)
theorem dX6_orders_31 : decode cX6_orders 31 = .ok (.iload_n 2, 1) := dk_28 (dk_at dksX6_orders_1 9 rfl rfl)
theorem dX6_orders_32 : decode cX6_orders 32 = .ok (.iaload, 1) := dk_46 (dk_at dksX6_orders_1 10 rfl rfl)
theorem dX6_orders_33 : decode cX6_orders 33 = .ok (.invokevirtual 201, 3) := dk_182 0 201 (dk_at dksX6_orders_1 11 rfl rfl)
theorem dX6_orders_36 : decode cX6_orders 36 = .ok (.aload_n 0, 1) := dk_42 (dk_at dksX6_orders_1 14 rfl rfl)
theorem dX6_orders_37 : decode cX6_orders 37 = .ok (.iload_n 1, 1) := dk_27 (dk_at dksX6_orders_1 15 rfl rfl)
theorem dX6_orders_38 : decode cX6_orders 38 = .ok (.iload_n 2, 1) := dk_28 (dk_at dksX6_orders_1 16 rfl rfl)
theorem dX6_orders_39 : decode cX6_orders 39 = .ok (.iconst 0, 1) := dk_3 (dk_at dksX6_orders_1 17 rfl rfl)
theorem dX6_orders_40 : decode cX6_orders 40 = .ok (.invokevirtual 205, 3) := dk_182 0 205 (dk_at dksX6_orders_1 18 rfl rfl)
theorem dX6_orders_43 : decode cX6_orders 43 = .ok (.aload_n 0, 1) := dk_42 (dk_at dksX6_orders_1 21 rfl rfl)
theorem dX6_orders_44 : decode cX6_orders 44 = .ok (.getfield 107, 3) := dk_180 0 107 (dk_at dksX6_orders_2 0 rfl rfl)
theorem dX6_orders_47 : decode cX6_orders 47 = .ok (.iload_n 2, 1) := dk_28 (dk_at dksX6_orders_2 3 rfl rfl)
theorem dX6_orders_48 : decode cX6_orders 48 = .ok (.iaload, 1) := dk_46 (dk_at dksX6_orders_2 4 rfl rfl)
theorem dX6_orders_49 : decode cX6_orders 49 = .ok (.aload_n 0, 1) := dk_42 (dk_at dksX6_orders_2 5 rfl rfl)
theorem dX6_orders_50 : decode cX6_orders 50 = .ok (.getfield 110, 3) := dk_180 0 110 (dk_at dksX6_orders_2 6 rfl rfl)
theorem dX6_orders_53 : decode cX6_orders 53 = .ok (.iload_n 2, 1) := dk_28 (dk_at dksX6_orders_2 9 rfl rfl)
theorem dX6_orders_54 : decode cX6_orders 54 = .ok (.iaload, 1) := dk_46 (dk_at dksX6_orders_2 10 rfl rfl)
theorem dX6_orders_55 : decode cX6_orders 55 = .ok (.if_icmp .lt 12, 3) := dk_161 0 12 (dk_at dksX6_orders_2 11 rfl rfl)
theorem dX6_orders_58 : decode cX6_orders 58 = .ok (.aload_n 0, 1) := dk_42 (dk_at dksX6_orders_2 14 rfl rfl)
theorem dX6_orders_59 : decode cX6_orders 59 = .ok (.getfield 110, 3) := dk_180 0 110 (dk_at dksX6_orders_2 15 rfl rfl)
theorem dX6_orders_62 : decode cX6_orders 62 = .ok (.iload_n 2, 1) := dk_28 (dk_at dksX6_orders_2 18 rfl rfl)
theorem dX6_orders_63 : decode cX6_orders 63 = .ok (.iaload, 1) := dk_46 (dk_at dksX6_orders_2 19 rfl rfl)
theorem dX6_orders_64 : decode cX6_orders 64 = .ok (.ifCond .ge 12, 3) := dk_156 0 12 (dk_at dksX6_orders_2 20 rfl rfl)
theorem dX6_orders_67 : decode cX6_orders 67 = .ok (.aload_n 0, 1) := dk_42 (dk_at dksX6_orders_2 23 rfl rfl)
theorem dX6_orders_68 : decode cX6_orders 68 = .ok (.getfield 107, 3) := dk_180 0 107 (dk_at dksX6_orders_3 0 rfl rfl)
theorem dX6_orders_71 : decode cX6_orders 71 = .ok (.iload_n 2, 1) := dk_28 (dk_at dksX6_orders_3 3 rfl rfl)
theorem dX6_orders_72 : decode cX6_orders 72 = .ok (.iaload, 1) := dk_46 (dk_at dksX6_orders_3 4 rfl rfl)
theorem dX6_orders_73 : decode cX6_orders 73 = .ok (.goto 9, 3) := dk_167 0 9 (dk_at dksX6_orders_3 5 rfl rfl)
theorem dX6_orders_76 : decode cX6_orders 76 = .ok (.aload_n 0, 1) := dk_42 (dk_at dksX6_orders_3 8 rfl rfl)
theorem dX6_orders_77 : decode cX6_orders 77 = .ok (.getfield 110, 3) := dk_180 0 110 (dk_at dksX6_orders_3 9 rfl rfl)
theorem dX6_orders_80 : decode cX6_orders 80 = .ok (.iload_n 2, 1) := dk_28 (dk_at dksX6_orders_3 12 rfl rfl)
theorem dX6_orders_81 : decode cX6_orders 81 = .ok (.iaload, 1) := dk_46 (dk_at dksX6_orders_3 13 rfl rfl)
theorem dX6_orders_82 : decode cX6_orders 82 = .ok (.istore_n 3, 1) := dk_62 (dk_at dksX6_orders_3 14 rfl rfl)
theorem dX6_orders_83 : decode cX6_orders 83 = .ok (.iload_n 3, 1) := dk_29 (dk_at dksX6_orders_3 15 rfl rfl)
theorem dX6_orders_84 : decode cX6_orders 84 = .ok (.aload_n 0, 1) := dk_42 (dk_at dksX6_orders_3 16 rfl rfl)
theorem dX6_orders_85 : decode cX6_orders 85 = .ok (.getfield 107, 3) := dk_180 0 107 (dk_at dksX6_orders_3 17 rfl rfl)
theorem dX6_orders_88 : decode cX6_orders 88 = .ok (.iload_n 2, 1) := dk_28 (dk_at dksX6_orders_3 20 rfl rfl)
theorem dX6_orders_89 : decode cX6_orders 89 = .ok (.iaload, 1) := dk_46 (dk_at dksX6_orders_3 21 rfl rfl)
theorem dX6_orders_90 : decode cX6_orders 90 = .ok (.if_icmp .ne 12, 3) := dk_160 0 12 (dk_at dksX6_orders_4 0 rfl rfl)
theorem dX6_orders_93 : decode cX6_orders 93 = .ok (.aload_n 0, 1) := dk_42 (dk_at dksX6_orders_4 3 rfl rfl)
theorem dX6_orders_94 : decode cX6_orders 94 = .ok (.getfield 110, 3) := dk_180 0 110 (dk_at dksX6_orders_4 4 rfl rfl)
theorem dX6_orders_97 : decode cX6_orders 97 = .ok (.iload_n 2, 1) := dk_28 (dk_at dksX6_orders_4 7 rfl rfl)
theorem dX6_orders_98 : decode cX6_orders 98 = .ok (.iaload, 1) := dk_46 (dk_at dksX6_orders_4 8 rfl rfl)
theorem dX6_orders_99 : decode cX6_orders 99 = .ok (.goto 9, 3) := dk_167 0 9 (dk_at dksX6_orders_4 9 rfl rfl)
theorem dX6_orders_102 : decode cX6_orders 102 = .ok (.aload_n 0, 1) := dk_42 (dk_at dksX6_orders_4 12 rfl rfl)
theorem dX6_orders_103 : decode cX6_orders 103 = .ok (.getfield 107, 3) := dk_180 0 107 (dk_at dksX6_orders_4 13 rfl rfl)
theorem dX6_orders_106 : decode cX6_orders 106 = .ok (.iload_n 2, 1) := dk_28 (dk_at dksX6_orders_4 16 rfl rfl)
theorem dX6_orders_107 : decode cX6_orders 107 = .ok (.iaload, 1) := dk_46 (dk_at dksX6_orders_4 17 rfl rfl)
theorem dX6_orders_108 : decode cX6_orders 108 = .ok (.istore 4, 2) := dk_54 4 (dk_at dksX6_orders_4 18 rfl rfl)
theorem dX6_orders_110 : decode cX6_orders 110 = .ok (.aload_n 0, 1) := dk_42 (dk_at dksX6_orders_4 20 rfl rfl)
theorem dX6_orders_111 : decode cX6_orders 111 = .ok (.iload_n 1, 1) := dk_27 (dk_at dksX6_orders_4 21 rfl rfl)
theorem dX6_orders_112 : decode cX6_orders 112 = .ok (.iload_n 3, 1) := dk_29 (dk_at dksX6_orders_4 22 rfl rfl)
theorem dX6_orders_113 : decode cX6_orders 113 = .ok (.invokevirtual 201, 3) := dk_182 0 201 (dk_at dksX6_orders_5 0 rfl rfl)
theorem dX6_orders_116 : decode cX6_orders 116 = .ok (.aload_n 0, 1) := dk_42 (dk_at dksX6_orders_5 3 rfl rfl)
theorem dX6_orders_117 : decode cX6_orders 117 = .ok (.iload_n 1, 1) := dk_27 (dk_at dksX6_orders_5 4 rfl rfl)
theorem dX6_orders_118 : decode cX6_orders 118 = .ok (.iload 4, 2) := dk_21 4 (dk_at dksX6_orders_5 5 rfl rfl)
theorem dX6_orders_120 : decode cX6_orders 120 = .ok (.invokevirtual 201, 3) := dk_182 0 201 (dk_at dksX6_orders_5 7 rfl rfl)
theorem dX6_orders_123 : decode cX6_orders 123 = .ok (.aload_n 0, 1) := dk_42 (dk_at dksX6_orders_5 10 rfl rfl)
theorem dX6_orders_124 : decode cX6_orders 124 = .ok (.iload_n 1, 1) := dk_27 (dk_at dksX6_orders_5 11 rfl rfl)
theorem dX6_orders_125 : decode cX6_orders 125 = .ok (.iload_n 2, 1) := dk_28 (dk_at dksX6_orders_5 12 rfl rfl)
theorem dX6_orders_126 : decode cX6_orders 126 = .ok (.iconst 1, 1) := dk_4 (dk_at dksX6_orders_5 13 rfl rfl)
theorem dX6_orders_127 : decode cX6_orders 127 = .ok (.invokevirtual 205, 3) := dk_182 0 205 (dk_at dksX6_orders_5 14 rfl rfl)
theorem dX6_orders_130 : decode cX6_orders 130 = .ok (.return_, 1) := dk_177 (dk_at dksX6_orders_5 17 rfl rfl)
abbrev cX6_names : ByteArray := prog_21_method_28_code
def yX6_names : MethodName := ⟨RX6, "names", "(II)V"⟩
def dkwX6_names_3 : List UInt8 := [180, 0, 65, 27, 92, 46, 4, 96, 79, 177]
abbrev dktX6_names_3 : List UInt8 := dkwX6_names_3 ++ []
def dkwX6_names_2 : List UInt8 := [167, 255, 226, 42, 180, 0, 62, 17, 0, 150, 27, 104, 42, 180, 0, 65, 27, 46, 96, 28, 79, 42]
abbrev dktX6_names_2 : List UInt8 := dkwX6_names_2 ++ dktX6_names_3
def dkwX6_names_1 : List UInt8 := [162, 0, 26, 42, 180, 0, 62, 17, 0, 150, 27, 104, 29, 96, 46, 28, 160, 0, 4, 177, 132, 3, 1]
abbrev dktX6_names_1 : List UInt8 := dkwX6_names_1 ++ dktX6_names_2
def dkwX6_names_0 : List UInt8 := [28, 155, 0, 12, 42, 180, 0, 83, 28, 51, 153, 0, 4, 177, 3, 62, 29, 42, 180, 0, 65, 27, 46]
abbrev dktX6_names_0 : List UInt8 := dkwX6_names_0 ++ dktX6_names_1
theorem dksX6_names_0 : cX6_names.data.toList.drop 0 = dktX6_names_0 := by decide +kernel
theorem dksX6_names_1 : cX6_names.data.toList.drop 23 = dktX6_names_1 := dk_seg dksX6_names_0 23 rfl rfl
theorem dksX6_names_2 : cX6_names.data.toList.drop 46 = dktX6_names_2 := dk_seg dksX6_names_1 23 rfl rfl
theorem dksX6_names_3 : cX6_names.data.toList.drop 68 = dktX6_names_3 := dk_seg dksX6_names_2 22 rfl rfl
theorem dX6_names_0 : decode cX6_names 0 = .ok (.iload_n 2, 1) := dk_28 (dk_at dksX6_names_0 0 rfl rfl)
theorem dX6_names_1 : decode cX6_names 1 = .ok (.ifCond .lt 12, 3) := dk_155 0 12 (dk_at dksX6_names_0 1 rfl rfl)
theorem dX6_names_4 : decode cX6_names 4 = .ok (.aload_n 0, 1) := dk_42 (dk_at dksX6_names_0 4 rfl rfl)
theorem dX6_names_5 : decode cX6_names 5 = .ok (.getfield 83, 3) := dk_180 0 83 (dk_at dksX6_names_0 5 rfl rfl)
theorem dX6_names_8 : decode cX6_names 8 = .ok (.iload_n 2, 1) := dk_28 (dk_at dksX6_names_0 8 rfl rfl)
theorem dX6_names_9 : decode cX6_names 9 = .ok (.baload, 1) := dk_51 (dk_at dksX6_names_0 9 rfl rfl)
theorem dX6_names_10 : decode cX6_names 10 = .ok (.ifCond .eq 4, 3) := dk_153 0 4 (dk_at dksX6_names_0 10 rfl rfl)
theorem dX6_names_13 : decode cX6_names 13 = .ok (.return_, 1) := dk_177 (dk_at dksX6_names_0 13 rfl rfl)
theorem dX6_names_14 : decode cX6_names 14 = .ok (.iconst 0, 1) := dk_3 (dk_at dksX6_names_0 14 rfl rfl)
theorem dX6_names_15 : decode cX6_names 15 = .ok (.istore_n 3, 1) := dk_62 (dk_at dksX6_names_0 15 rfl rfl)
theorem dX6_names_16 : decode cX6_names 16 = .ok (.iload_n 3, 1) := dk_29 (dk_at dksX6_names_0 16 rfl rfl)
theorem dX6_names_17 : decode cX6_names 17 = .ok (.aload_n 0, 1) := dk_42 (dk_at dksX6_names_0 17 rfl rfl)
theorem dX6_names_18 : decode cX6_names 18 = .ok (.getfield 65, 3) := dk_180 0 65 (dk_at dksX6_names_0 18 rfl rfl)
theorem dX6_names_21 : decode cX6_names 21 = .ok (.iload_n 1, 1) := dk_27 (dk_at dksX6_names_0 21 rfl rfl)
theorem dX6_names_22 : decode cX6_names 22 = .ok (.iaload, 1) := dk_46 (dk_at dksX6_names_0 22 rfl rfl)
theorem dX6_names_23 : decode cX6_names 23 = .ok (.if_icmp .ge 26, 3) := dk_162 0 26 (dk_at dksX6_names_1 0 rfl rfl)
theorem dX6_names_26 : decode cX6_names 26 = .ok (.aload_n 0, 1) := dk_42 (dk_at dksX6_names_1 3 rfl rfl)
theorem dX6_names_27 : decode cX6_names 27 = .ok (.getfield 62, 3) := dk_180 0 62 (dk_at dksX6_names_1 4 rfl rfl)
theorem dX6_names_30 : decode cX6_names 30 = .ok (.sipush 150, 3) := dk_17 0 150 (dk_at dksX6_names_1 7 rfl rfl)
theorem dX6_names_33 : decode cX6_names 33 = .ok (.iload_n 1, 1) := dk_27 (dk_at dksX6_names_1 10 rfl rfl)
theorem dX6_names_34 : decode cX6_names 34 = .ok (.imul, 1) := dk_104 (dk_at dksX6_names_1 11 rfl rfl)
theorem dX6_names_35 : decode cX6_names 35 = .ok (.iload_n 3, 1) := dk_29 (dk_at dksX6_names_1 12 rfl rfl)
theorem dX6_names_36 : decode cX6_names 36 = .ok (.iadd, 1) := dk_96 (dk_at dksX6_names_1 13 rfl rfl)
theorem dX6_names_37 : decode cX6_names 37 = .ok (.iaload, 1) := dk_46 (dk_at dksX6_names_1 14 rfl rfl)
theorem dX6_names_38 : decode cX6_names 38 = .ok (.iload_n 2, 1) := dk_28 (dk_at dksX6_names_1 15 rfl rfl)
theorem dX6_names_39 : decode cX6_names 39 = .ok (.if_icmp .ne 4, 3) := dk_160 0 4 (dk_at dksX6_names_1 16 rfl rfl)
theorem dX6_names_42 : decode cX6_names 42 = .ok (.return_, 1) := dk_177 (dk_at dksX6_names_1 19 rfl rfl)
theorem dX6_names_43 : decode cX6_names 43 = .ok (.iinc 3 1, 3) := dk_132 3 1 (dk_at dksX6_names_1 20 rfl rfl)
theorem dX6_names_46 : decode cX6_names 46 = .ok (.goto (-30), 3) := dk_167 255 226 (dk_at dksX6_names_2 0 rfl rfl)
theorem dX6_names_49 : decode cX6_names 49 = .ok (.aload_n 0, 1) := dk_42 (dk_at dksX6_names_2 3 rfl rfl)
theorem dX6_names_50 : decode cX6_names 50 = .ok (.getfield 62, 3) := dk_180 0 62 (dk_at dksX6_names_2 4 rfl rfl)
theorem dX6_names_53 : decode cX6_names 53 = .ok (.sipush 150, 3) := dk_17 0 150 (dk_at dksX6_names_2 7 rfl rfl)
theorem dX6_names_56 : decode cX6_names 56 = .ok (.iload_n 1, 1) := dk_27 (dk_at dksX6_names_2 10 rfl rfl)
theorem dX6_names_57 : decode cX6_names 57 = .ok (.imul, 1) := dk_104 (dk_at dksX6_names_2 11 rfl rfl)
theorem dX6_names_58 : decode cX6_names 58 = .ok (.aload_n 0, 1) := dk_42 (dk_at dksX6_names_2 12 rfl rfl)
theorem dX6_names_59 : decode cX6_names 59 = .ok (.getfield 65, 3) := dk_180 0 65 (dk_at dksX6_names_2 13 rfl rfl)
theorem dX6_names_62 : decode cX6_names 62 = .ok (.iload_n 1, 1) := dk_27 (dk_at dksX6_names_2 16 rfl rfl)
theorem dX6_names_63 : decode cX6_names 63 = .ok (.iaload, 1) := dk_46 (dk_at dksX6_names_2 17 rfl rfl)
theorem dX6_names_64 : decode cX6_names 64 = .ok (.iadd, 1) := dk_96 (dk_at dksX6_names_2 18 rfl rfl)
theorem dX6_names_65 : decode cX6_names 65 = .ok (.iload_n 2, 1) := dk_28 (dk_at dksX6_names_2 19 rfl rfl)
theorem dX6_names_66 : decode cX6_names 66 = .ok (.iastore, 1) := dk_79 (dk_at dksX6_names_2 20 rfl rfl)
theorem dX6_names_67 : decode cX6_names 67 = .ok (.aload_n 0, 1) := dk_42 (dk_at dksX6_names_2 21 rfl rfl)
theorem dX6_names_68 : decode cX6_names 68 = .ok (.getfield 65, 3) := dk_180 0 65 (dk_at dksX6_names_3 0 rfl rfl)
theorem dX6_names_71 : decode cX6_names 71 = .ok (.iload_n 1, 1) := dk_27 (dk_at dksX6_names_3 3 rfl rfl)
theorem dX6_names_72 : decode cX6_names 72 = .ok (.dup2, 1) := dk_92 (dk_at dksX6_names_3 4 rfl rfl)
theorem dX6_names_73 : decode cX6_names 73 = .ok (.iaload, 1) := dk_46 (dk_at dksX6_names_3 5 rfl rfl)
theorem dX6_names_74 : decode cX6_names 74 = .ok (.iconst 1, 1) := dk_4 (dk_at dksX6_names_3 6 rfl rfl)
theorem dX6_names_75 : decode cX6_names 75 = .ok (.iadd, 1) := dk_96 (dk_at dksX6_names_3 7 rfl rfl)
theorem dX6_names_76 : decode cX6_names 76 = .ok (.iastore, 1) := dk_79 (dk_at dksX6_names_3 8 rfl rfl)
theorem dX6_names_77 : decode cX6_names 77 = .ok (.return_, 1) := dk_177 (dk_at dksX6_names_3 9 rfl rfl)
abbrev cX6_namesBorn : ByteArray := prog_21_method_30_code
def yX6_namesBorn : MethodName := ⟨RX6, "namesBorn", "(III)V"⟩
def dkwX6_namesBorn_7 : List UInt8 := [182, 0, 198, 153, 0, 10, 42, 27, 21, 7, 182, 0, 201, 132, 7, 1, 167, 255, 193, 167, 255, 81, 177]
abbrev dktX6_namesBorn_7 : List UInt8 := dkwX6_namesBorn_7 ++ []
def dkwX6_namesBorn_6 : List UInt8 := [160, 0, 37, 29, 154, 0, 16, 42, 28, 21, 7, 182, 0, 193, 153, 0, 23, 167, 0, 13, 42, 21, 7, 28]
abbrev dktX6_namesBorn_6 : List UInt8 := dkwX6_namesBorn_6 ++ dktX6_namesBorn_7
def dkwX6_namesBorn_5 : List UInt8 := [21, 7, 42, 180, 0, 144, 162, 0, 60, 21, 5, 153, 0, 55, 42, 180, 0, 80, 21, 7, 46, 21, 4]
abbrev dktX6_namesBorn_5 : List UInt8 := dkwX6_namesBorn_5 ++ dktX6_namesBorn_6
def dkwX6_namesBorn_4 : List UInt8 := [167, 255, 183, 21, 6, 18, 197, 162, 0, 7, 4, 167, 0, 4, 3, 54, 5, 21, 6, 54, 4, 3, 54, 7]
abbrev dktX6_namesBorn_4 : List UInt8 := dkwX6_namesBorn_4 ++ dktX6_namesBorn_5
def dkwX6_namesBorn_3 : List UInt8 := [180, 0, 80, 21, 7, 46, 21, 6, 162, 0, 12, 42, 180, 0, 80, 21, 7, 46, 54, 6, 132, 7, 1]
abbrev dktX6_namesBorn_3 : List UInt8 := dkwX6_namesBorn_3 ++ dktX6_namesBorn_4
def dkwX6_namesBorn_2 : List UInt8 := [182, 0, 198, 54, 8, 21, 8, 153, 0, 36, 42, 180, 0, 80, 21, 7, 46, 21, 4, 164, 0, 24, 42]
abbrev dktX6_namesBorn_2 : List UInt8 := dkwX6_namesBorn_2 ++ dktX6_namesBorn_3
def dkwX6_namesBorn_1 : List UInt8 := [180, 0, 144, 162, 0, 70, 29, 154, 0, 13, 42, 28, 21, 7, 182, 0, 193, 167, 0, 10, 42, 21, 7, 28]
abbrev dktX6_namesBorn_1 : List UInt8 := dkwX6_namesBorn_1 ++ dktX6_namesBorn_2
def dkwX6_namesBorn_0 : List UInt8 := [18, 196, 54, 4, 4, 54, 5, 21, 5, 153, 0, 176, 18, 197, 54, 6, 3, 54, 7, 21, 7, 42]
abbrev dktX6_namesBorn_0 : List UInt8 := dkwX6_namesBorn_0 ++ dktX6_namesBorn_1
theorem dksX6_namesBorn_0 : cX6_namesBorn.data.toList.drop 0 = dktX6_namesBorn_0 := by decide +kernel
theorem dksX6_namesBorn_1 : cX6_namesBorn.data.toList.drop 22 = dktX6_namesBorn_1 := dk_seg dksX6_namesBorn_0 22 rfl rfl
theorem dksX6_namesBorn_2 : cX6_namesBorn.data.toList.drop 46 = dktX6_namesBorn_2 := dk_seg dksX6_namesBorn_1 24 rfl rfl
theorem dksX6_namesBorn_3 : cX6_namesBorn.data.toList.drop 69 = dktX6_namesBorn_3 := dk_seg dksX6_namesBorn_2 23 rfl rfl
theorem dksX6_namesBorn_4 : cX6_namesBorn.data.toList.drop 92 = dktX6_namesBorn_4 := dk_seg dksX6_namesBorn_3 23 rfl rfl
theorem dksX6_namesBorn_5 : cX6_namesBorn.data.toList.drop 116 = dktX6_namesBorn_5 := dk_seg dksX6_namesBorn_4 24 rfl rfl
theorem dksX6_namesBorn_6 : cX6_namesBorn.data.toList.drop 139 = dktX6_namesBorn_6 := dk_seg dksX6_namesBorn_5 23 rfl rfl
theorem dksX6_namesBorn_7 : cX6_namesBorn.data.toList.drop 163 = dktX6_namesBorn_7 := dk_seg dksX6_namesBorn_6 24 rfl rfl
theorem dX6_namesBorn_0 : decode cX6_namesBorn 0 = .ok (.ldc 196, 2) := dk_18 196 (dk_at dksX6_namesBorn_0 0 rfl rfl)
theorem dX6_namesBorn_2 : decode cX6_namesBorn 2 = .ok (.istore 4, 2) := dk_54 4 (dk_at dksX6_namesBorn_0 2 rfl rfl)
theorem dX6_namesBorn_4 : decode cX6_namesBorn 4 = .ok (.iconst 1, 1) := dk_4 (dk_at dksX6_namesBorn_0 4 rfl rfl)
theorem dX6_namesBorn_5 : decode cX6_namesBorn 5 = .ok (.istore 5, 2) := dk_54 5 (dk_at dksX6_namesBorn_0 5 rfl rfl)
theorem dX6_namesBorn_7 : decode cX6_namesBorn 7 = .ok (.iload 5, 2) := dk_21 5 (dk_at dksX6_namesBorn_0 7 rfl rfl)
theorem dX6_namesBorn_9 : decode cX6_namesBorn 9 = .ok (.ifCond .eq 176, 3) := dk_153 0 176 (dk_at dksX6_namesBorn_0 9 rfl rfl)
theorem dX6_namesBorn_12 : decode cX6_namesBorn 12 = .ok (.ldc 197, 2) := dk_18 197 (dk_at dksX6_namesBorn_0 12 rfl rfl)
theorem dX6_namesBorn_14 : decode cX6_namesBorn 14 = .ok (.istore 6, 2) := dk_54 6 (dk_at dksX6_namesBorn_0 14 rfl rfl)
theorem dX6_namesBorn_16 : decode cX6_namesBorn 16 = .ok (.iconst 0, 1) := dk_3 (dk_at dksX6_namesBorn_0 16 rfl rfl)
theorem dX6_namesBorn_17 : decode cX6_namesBorn 17 = .ok (.istore 7, 2) := dk_54 7 (dk_at dksX6_namesBorn_0 17 rfl rfl)
theorem dX6_namesBorn_19 : decode cX6_namesBorn 19 = .ok (.iload 7, 2) := dk_21 7 (dk_at dksX6_namesBorn_0 19 rfl rfl)
theorem dX6_namesBorn_21 : decode cX6_namesBorn 21 = .ok (.aload_n 0, 1) := dk_42 (dk_at dksX6_namesBorn_0 21 rfl rfl)
theorem dX6_namesBorn_22 : decode cX6_namesBorn 22 = .ok (.getfield 144, 3) := dk_180 0 144 (dk_at dksX6_namesBorn_1 0 rfl rfl)
theorem dX6_namesBorn_25 : decode cX6_namesBorn 25 = .ok (.if_icmp .ge 70, 3) := dk_162 0 70 (dk_at dksX6_namesBorn_1 3 rfl rfl)
theorem dX6_namesBorn_28 : decode cX6_namesBorn 28 = .ok (.iload_n 3, 1) := dk_29 (dk_at dksX6_namesBorn_1 6 rfl rfl)
theorem dX6_namesBorn_29 : decode cX6_namesBorn 29 = .ok (.ifCond .ne 13, 3) := dk_154 0 13 (dk_at dksX6_namesBorn_1 7 rfl rfl)
theorem dX6_namesBorn_32 : decode cX6_namesBorn 32 = .ok (.aload_n 0, 1) := dk_42 (dk_at dksX6_namesBorn_1 10 rfl rfl)
theorem dX6_namesBorn_33 : decode cX6_namesBorn 33 = .ok (.iload_n 2, 1) := dk_28 (dk_at dksX6_namesBorn_1 11 rfl rfl)
theorem dX6_namesBorn_34 : decode cX6_namesBorn 34 = .ok (.iload 7, 2) := dk_21 7 (dk_at dksX6_namesBorn_1 12 rfl rfl)
theorem dX6_namesBorn_36 : decode cX6_namesBorn 36 = .ok (.invokevirtual 193, 3) := dk_182 0 193 (dk_at dksX6_namesBorn_1 14 rfl rfl)
theorem dX6_namesBorn_39 : decode cX6_namesBorn 39 = .ok (.goto 10, 3) := dk_167 0 10 (dk_at dksX6_namesBorn_1 17 rfl rfl)
theorem dX6_namesBorn_42 : decode cX6_namesBorn 42 = .ok (.aload_n 0, 1) := dk_42 (dk_at dksX6_namesBorn_1 20 rfl rfl)
theorem dX6_namesBorn_43 : decode cX6_namesBorn 43 = .ok (.iload 7, 2) := dk_21 7 (dk_at dksX6_namesBorn_1 21 rfl rfl)
theorem dX6_namesBorn_45 : decode cX6_namesBorn 45 = .ok (.iload_n 2, 1) := dk_28 (dk_at dksX6_namesBorn_1 23 rfl rfl)
theorem dX6_namesBorn_46 : decode cX6_namesBorn 46 = .ok (.invokevirtual 198, 3) := dk_182 0 198 (dk_at dksX6_namesBorn_2 0 rfl rfl)
theorem dX6_namesBorn_49 : decode cX6_namesBorn 49 = .ok (.istore 8, 2) := dk_54 8 (dk_at dksX6_namesBorn_2 3 rfl rfl)
theorem dX6_namesBorn_51 : decode cX6_namesBorn 51 = .ok (.iload 8, 2) := dk_21 8 (dk_at dksX6_namesBorn_2 5 rfl rfl)
theorem dX6_namesBorn_53 : decode cX6_namesBorn 53 = .ok (.ifCond .eq 36, 3) := dk_153 0 36 (dk_at dksX6_namesBorn_2 7 rfl rfl)
theorem dX6_namesBorn_56 : decode cX6_namesBorn 56 = .ok (.aload_n 0, 1) := dk_42 (dk_at dksX6_namesBorn_2 10 rfl rfl)
theorem dX6_namesBorn_57 : decode cX6_namesBorn 57 = .ok (.getfield 80, 3) := dk_180 0 80 (dk_at dksX6_namesBorn_2 11 rfl rfl)
theorem dX6_namesBorn_60 : decode cX6_namesBorn 60 = .ok (.iload 7, 2) := dk_21 7 (dk_at dksX6_namesBorn_2 14 rfl rfl)
theorem dX6_namesBorn_62 : decode cX6_namesBorn 62 = .ok (.iaload, 1) := dk_46 (dk_at dksX6_namesBorn_2 16 rfl rfl)
theorem dX6_namesBorn_63 : decode cX6_namesBorn 63 = .ok (.iload 4, 2) := dk_21 4 (dk_at dksX6_namesBorn_2 17 rfl rfl)
theorem dX6_namesBorn_65 : decode cX6_namesBorn 65 = .ok (.if_icmp .le 24, 3) := dk_164 0 24 (dk_at dksX6_namesBorn_2 19 rfl rfl)
theorem dX6_namesBorn_68 : decode cX6_namesBorn 68 = .ok (.aload_n 0, 1) := dk_42 (dk_at dksX6_namesBorn_2 22 rfl rfl)
theorem dX6_namesBorn_69 : decode cX6_namesBorn 69 = .ok (.getfield 80, 3) := dk_180 0 80 (dk_at dksX6_namesBorn_3 0 rfl rfl)
theorem dX6_namesBorn_72 : decode cX6_namesBorn 72 = .ok (.iload 7, 2) := dk_21 7 (dk_at dksX6_namesBorn_3 3 rfl rfl)
theorem dX6_namesBorn_74 : decode cX6_namesBorn 74 = .ok (.iaload, 1) := dk_46 (dk_at dksX6_namesBorn_3 5 rfl rfl)
theorem dX6_namesBorn_75 : decode cX6_namesBorn 75 = .ok (.iload 6, 2) := dk_21 6 (dk_at dksX6_namesBorn_3 6 rfl rfl)
theorem dX6_namesBorn_77 : decode cX6_namesBorn 77 = .ok (.if_icmp .ge 12, 3) := dk_162 0 12 (dk_at dksX6_namesBorn_3 8 rfl rfl)
theorem dX6_namesBorn_80 : decode cX6_namesBorn 80 = .ok (.aload_n 0, 1) := dk_42 (dk_at dksX6_namesBorn_3 11 rfl rfl)
theorem dX6_namesBorn_81 : decode cX6_namesBorn 81 = .ok (.getfield 80, 3) := dk_180 0 80 (dk_at dksX6_namesBorn_3 12 rfl rfl)
theorem dX6_namesBorn_84 : decode cX6_namesBorn 84 = .ok (.iload 7, 2) := dk_21 7 (dk_at dksX6_namesBorn_3 15 rfl rfl)
theorem dX6_namesBorn_86 : decode cX6_namesBorn 86 = .ok (.iaload, 1) := dk_46 (dk_at dksX6_namesBorn_3 17 rfl rfl)
theorem dX6_namesBorn_87 : decode cX6_namesBorn 87 = .ok (.istore 6, 2) := dk_54 6 (dk_at dksX6_namesBorn_3 18 rfl rfl)
theorem dX6_namesBorn_89 : decode cX6_namesBorn 89 = .ok (.iinc 7 1, 3) := dk_132 7 1 (dk_at dksX6_namesBorn_3 20 rfl rfl)
theorem dX6_namesBorn_92 : decode cX6_namesBorn 92 = .ok (.goto (-73), 3) := dk_167 255 183 (dk_at dksX6_namesBorn_4 0 rfl rfl)
theorem dX6_namesBorn_95 : decode cX6_namesBorn 95 = .ok (.iload 6, 2) := dk_21 6 (dk_at dksX6_namesBorn_4 3 rfl rfl)
theorem dX6_namesBorn_97 : decode cX6_namesBorn 97 = .ok (.ldc 197, 2) := dk_18 197 (dk_at dksX6_namesBorn_4 5 rfl rfl)
theorem dX6_namesBorn_99 : decode cX6_namesBorn 99 = .ok (.if_icmp .ge 7, 3) := dk_162 0 7 (dk_at dksX6_namesBorn_4 7 rfl rfl)
theorem dX6_namesBorn_102 : decode cX6_namesBorn 102 = .ok (.iconst 1, 1) := dk_4 (dk_at dksX6_namesBorn_4 10 rfl rfl)
theorem dX6_namesBorn_103 : decode cX6_namesBorn 103 = .ok (.goto 4, 3) := dk_167 0 4 (dk_at dksX6_namesBorn_4 11 rfl rfl)
theorem dX6_namesBorn_106 : decode cX6_namesBorn 106 = .ok (.iconst 0, 1) := dk_3 (dk_at dksX6_namesBorn_4 14 rfl rfl)
theorem dX6_namesBorn_107 : decode cX6_namesBorn 107 = .ok (.istore 5, 2) := dk_54 5 (dk_at dksX6_namesBorn_4 15 rfl rfl)
theorem dX6_namesBorn_109 : decode cX6_namesBorn 109 = .ok (.iload 6, 2) := dk_21 6 (dk_at dksX6_namesBorn_4 17 rfl rfl)
theorem dX6_namesBorn_111 : decode cX6_namesBorn 111 = .ok (.istore 4, 2) := dk_54 4 (dk_at dksX6_namesBorn_4 19 rfl rfl)
theorem dX6_namesBorn_113 : decode cX6_namesBorn 113 = .ok (.iconst 0, 1) := dk_3 (dk_at dksX6_namesBorn_4 21 rfl rfl)
theorem dX6_namesBorn_114 : decode cX6_namesBorn 114 = .ok (.istore 7, 2) := dk_54 7 (dk_at dksX6_namesBorn_4 22 rfl rfl)
theorem dX6_namesBorn_116 : decode cX6_namesBorn 116 = .ok (.iload 7, 2) := dk_21 7 (dk_at dksX6_namesBorn_5 0 rfl rfl)
theorem dX6_namesBorn_118 : decode cX6_namesBorn 118 = .ok (.aload_n 0, 1) := dk_42 (dk_at dksX6_namesBorn_5 2 rfl rfl)
theorem dX6_namesBorn_119 : decode cX6_namesBorn 119 = .ok (.getfield 144, 3) := dk_180 0 144 (dk_at dksX6_namesBorn_5 3 rfl rfl)
theorem dX6_namesBorn_122 : decode cX6_namesBorn 122 = .ok (.if_icmp .ge 60, 3) := dk_162 0 60 (dk_at dksX6_namesBorn_5 6 rfl rfl)
theorem dX6_namesBorn_125 : decode cX6_namesBorn 125 = .ok (.iload 5, 2) := dk_21 5 (dk_at dksX6_namesBorn_5 9 rfl rfl)
theorem dX6_namesBorn_127 : decode cX6_namesBorn 127 = .ok (.ifCond .eq 55, 3) := dk_153 0 55 (dk_at dksX6_namesBorn_5 11 rfl rfl)
theorem dX6_namesBorn_130 : decode cX6_namesBorn 130 = .ok (.aload_n 0, 1) := dk_42 (dk_at dksX6_namesBorn_5 14 rfl rfl)
theorem dX6_namesBorn_131 : decode cX6_namesBorn 131 = .ok (.getfield 80, 3) := dk_180 0 80 (dk_at dksX6_namesBorn_5 15 rfl rfl)
theorem dX6_namesBorn_134 : decode cX6_namesBorn 134 = .ok (.iload 7, 2) := dk_21 7 (dk_at dksX6_namesBorn_5 18 rfl rfl)
theorem dX6_namesBorn_136 : decode cX6_namesBorn 136 = .ok (.iaload, 1) := dk_46 (dk_at dksX6_namesBorn_5 20 rfl rfl)
theorem dX6_namesBorn_137 : decode cX6_namesBorn 137 = .ok (.iload 4, 2) := dk_21 4 (dk_at dksX6_namesBorn_5 21 rfl rfl)
theorem dX6_namesBorn_139 : decode cX6_namesBorn 139 = .ok (.if_icmp .ne 37, 3) := dk_160 0 37 (dk_at dksX6_namesBorn_6 0 rfl rfl)
theorem dX6_namesBorn_142 : decode cX6_namesBorn 142 = .ok (.iload_n 3, 1) := dk_29 (dk_at dksX6_namesBorn_6 3 rfl rfl)
theorem dX6_namesBorn_143 : decode cX6_namesBorn 143 = .ok (.ifCond .ne 16, 3) := dk_154 0 16 (dk_at dksX6_namesBorn_6 4 rfl rfl)
theorem dX6_namesBorn_146 : decode cX6_namesBorn 146 = .ok (.aload_n 0, 1) := dk_42 (dk_at dksX6_namesBorn_6 7 rfl rfl)
theorem dX6_namesBorn_147 : decode cX6_namesBorn 147 = .ok (.iload_n 2, 1) := dk_28 (dk_at dksX6_namesBorn_6 8 rfl rfl)
theorem dX6_namesBorn_148 : decode cX6_namesBorn 148 = .ok (.iload 7, 2) := dk_21 7 (dk_at dksX6_namesBorn_6 9 rfl rfl)
theorem dX6_namesBorn_150 : decode cX6_namesBorn 150 = .ok (.invokevirtual 193, 3) := dk_182 0 193 (dk_at dksX6_namesBorn_6 11 rfl rfl)
theorem dX6_namesBorn_153 : decode cX6_namesBorn 153 = .ok (.ifCond .eq 23, 3) := dk_153 0 23 (dk_at dksX6_namesBorn_6 14 rfl rfl)
theorem dX6_namesBorn_156 : decode cX6_namesBorn 156 = .ok (.goto 13, 3) := dk_167 0 13 (dk_at dksX6_namesBorn_6 17 rfl rfl)
theorem dX6_namesBorn_159 : decode cX6_namesBorn 159 = .ok (.aload_n 0, 1) := dk_42 (dk_at dksX6_namesBorn_6 20 rfl rfl)
theorem dX6_namesBorn_160 : decode cX6_namesBorn 160 = .ok (.iload 7, 2) := dk_21 7 (dk_at dksX6_namesBorn_6 21 rfl rfl)
theorem dX6_namesBorn_162 : decode cX6_namesBorn 162 = .ok (.iload_n 2, 1) := dk_28 (dk_at dksX6_namesBorn_6 23 rfl rfl)
theorem dX6_namesBorn_163 : decode cX6_namesBorn 163 = .ok (.invokevirtual 198, 3) := dk_182 0 198 (dk_at dksX6_namesBorn_7 0 rfl rfl)
theorem dX6_namesBorn_166 : decode cX6_namesBorn 166 = .ok (.ifCond .eq 10, 3) := dk_153 0 10 (dk_at dksX6_namesBorn_7 3 rfl rfl)
theorem dX6_namesBorn_169 : decode cX6_namesBorn 169 = .ok (.aload_n 0, 1) := dk_42 (dk_at dksX6_namesBorn_7 6 rfl rfl)
theorem dX6_namesBorn_170 : decode cX6_namesBorn 170 = .ok (.iload_n 1, 1) := dk_27 (dk_at dksX6_namesBorn_7 7 rfl rfl)
theorem dX6_namesBorn_171 : decode cX6_namesBorn 171 = .ok (.iload 7, 2) := dk_21 7 (dk_at dksX6_namesBorn_7 8 rfl rfl)
theorem dX6_namesBorn_173 : decode cX6_namesBorn 173 = .ok (.invokevirtual 201, 3) := dk_182 0 201 (dk_at dksX6_namesBorn_7 10 rfl rfl)
theorem dX6_namesBorn_176 : decode cX6_namesBorn 176 = .ok (.iinc 7 1, 3) := dk_132 7 1 (dk_at dksX6_namesBorn_7 13 rfl rfl)
theorem dX6_namesBorn_179 : decode cX6_namesBorn 179 = .ok (.goto (-63), 3) := dk_167 255 193 (dk_at dksX6_namesBorn_7 16 rfl rfl)
theorem dX6_namesBorn_182 : decode cX6_namesBorn 182 = .ok (.goto (-175), 3) := dk_167 255 81 (dk_at dksX6_namesBorn_7 19 rfl rfl)
theorem dX6_namesBorn_185 : decode cX6_namesBorn 185 = .ok (.return_, 1) := dk_177 (dk_at dksX6_namesBorn_7 22 rfl rfl)
abbrev cX6_isParent : ByteArray := prog_21_method_24_code
def yX6_isParent : MethodName := ⟨RX6, "isParent", "(II)Z"⟩
def dkwX6_isParent_1 : List UInt8 := [3, 172]
abbrev dktX6_isParent_1 : List UInt8 := dkwX6_isParent_1 ++ []
def dkwX6_isParent_0 : List UInt8 := [42, 180, 0, 107, 28, 46, 27, 159, 0, 13, 42, 180, 0, 110, 28, 46, 27, 160, 0, 7, 4, 167, 0, 4]
abbrev dktX6_isParent_0 : List UInt8 := dkwX6_isParent_0 ++ dktX6_isParent_1
theorem dksX6_isParent_0 : cX6_isParent.data.toList.drop 0 = dktX6_isParent_0 := by decide +kernel
theorem dksX6_isParent_1 : cX6_isParent.data.toList.drop 24 = dktX6_isParent_1 := dk_seg dksX6_isParent_0 24 rfl rfl
theorem dX6_isParent_0 : decode cX6_isParent 0 = .ok (.aload_n 0, 1) := dk_42 (dk_at dksX6_isParent_0 0 rfl rfl)
theorem dX6_isParent_1 : decode cX6_isParent 1 = .ok (.getfield 107, 3) := dk_180 0 107 (dk_at dksX6_isParent_0 1 rfl rfl)
theorem dX6_isParent_4 : decode cX6_isParent 4 = .ok (.iload_n 2, 1) := dk_28 (dk_at dksX6_isParent_0 4 rfl rfl)
theorem dX6_isParent_5 : decode cX6_isParent 5 = .ok (.iaload, 1) := dk_46 (dk_at dksX6_isParent_0 5 rfl rfl)
theorem dX6_isParent_6 : decode cX6_isParent 6 = .ok (.iload_n 1, 1) := dk_27 (dk_at dksX6_isParent_0 6 rfl rfl)
theorem dX6_isParent_7 : decode cX6_isParent 7 = .ok (.if_icmp .eq 13, 3) := dk_159 0 13 (dk_at dksX6_isParent_0 7 rfl rfl)
theorem dX6_isParent_10 : decode cX6_isParent 10 = .ok (.aload_n 0, 1) := dk_42 (dk_at dksX6_isParent_0 10 rfl rfl)
theorem dX6_isParent_11 : decode cX6_isParent 11 = .ok (.getfield 110, 3) := dk_180 0 110 (dk_at dksX6_isParent_0 11 rfl rfl)
theorem dX6_isParent_14 : decode cX6_isParent 14 = .ok (.iload_n 2, 1) := dk_28 (dk_at dksX6_isParent_0 14 rfl rfl)
theorem dX6_isParent_15 : decode cX6_isParent 15 = .ok (.iaload, 1) := dk_46 (dk_at dksX6_isParent_0 15 rfl rfl)
theorem dX6_isParent_16 : decode cX6_isParent 16 = .ok (.iload_n 1, 1) := dk_27 (dk_at dksX6_isParent_0 16 rfl rfl)
theorem dX6_isParent_17 : decode cX6_isParent 17 = .ok (.if_icmp .ne 7, 3) := dk_160 0 7 (dk_at dksX6_isParent_0 17 rfl rfl)
theorem dX6_isParent_20 : decode cX6_isParent 20 = .ok (.iconst 1, 1) := dk_4 (dk_at dksX6_isParent_0 20 rfl rfl)
theorem dX6_isParent_21 : decode cX6_isParent 21 = .ok (.goto 4, 3) := dk_167 0 4 (dk_at dksX6_isParent_0 21 rfl rfl)
theorem dX6_isParent_24 : decode cX6_isParent 24 = .ok (.iconst 0, 1) := dk_3 (dk_at dksX6_isParent_1 0 rfl rfl)
theorem dX6_isParent_25 : decode cX6_isParent 25 = .ok (.ireturn, 1) := dk_172 (dk_at dksX6_isParent_1 1 rfl rfl)
abbrev cX6_isSibling : ByteArray := prog_21_method_29_code
def yX6_isSibling : MethodName := ⟨RX6, "isSibling", "(II)Z"⟩
def dkwX6_isSibling_2 : List UInt8 := [182, 0, 193, 153, 0, 7, 4, 167, 0, 4, 3, 172]
abbrev dktX6_isSibling_2 : List UInt8 := dkwX6_isSibling_2 ++ []
def dkwX6_isSibling_1 : List UInt8 := [182, 0, 193, 154, 0, 26, 42, 180, 0, 110, 28, 46, 155, 0, 21, 42, 42, 180, 0, 110, 28, 46, 27]
abbrev dktX6_isSibling_1 : List UInt8 := dkwX6_isSibling_1 ++ dktX6_isSibling_2
def dkwX6_isSibling_0 : List UInt8 := [27, 28, 160, 0, 5, 3, 172, 42, 180, 0, 107, 28, 46, 155, 0, 17, 42, 42, 180, 0, 107, 28, 46, 27]
abbrev dktX6_isSibling_0 : List UInt8 := dkwX6_isSibling_0 ++ dktX6_isSibling_1
theorem dksX6_isSibling_0 : cX6_isSibling.data.toList.drop 0 = dktX6_isSibling_0 := by decide +kernel
theorem dksX6_isSibling_1 : cX6_isSibling.data.toList.drop 24 = dktX6_isSibling_1 := dk_seg dksX6_isSibling_0 24 rfl rfl
theorem dksX6_isSibling_2 : cX6_isSibling.data.toList.drop 47 = dktX6_isSibling_2 := dk_seg dksX6_isSibling_1 23 rfl rfl
theorem dX6_isSibling_0 : decode cX6_isSibling 0 = .ok (.iload_n 1, 1) := dk_27 (dk_at dksX6_isSibling_0 0 rfl rfl)
theorem dX6_isSibling_1 : decode cX6_isSibling 1 = .ok (.iload_n 2, 1) := dk_28 (dk_at dksX6_isSibling_0 1 rfl rfl)
theorem dX6_isSibling_2 : decode cX6_isSibling 2 = .ok (.if_icmp .ne 5, 3) := dk_160 0 5 (dk_at dksX6_isSibling_0 2 rfl rfl)
theorem dX6_isSibling_5 : decode cX6_isSibling 5 = .ok (.iconst 0, 1) := dk_3 (dk_at dksX6_isSibling_0 5 rfl rfl)
theorem dX6_isSibling_6 : decode cX6_isSibling 6 = .ok (.ireturn, 1) := dk_172 (dk_at dksX6_isSibling_0 6 rfl rfl)
theorem dX6_isSibling_7 : decode cX6_isSibling 7 = .ok (.aload_n 0, 1) := dk_42 (dk_at dksX6_isSibling_0 7 rfl rfl)
theorem dX6_isSibling_8 : decode cX6_isSibling 8 = .ok (.getfield 107, 3) := dk_180 0 107 (dk_at dksX6_isSibling_0 8 rfl rfl)
theorem dX6_isSibling_11 : decode cX6_isSibling 11 = .ok (.iload_n 2, 1) := dk_28 (dk_at dksX6_isSibling_0 11 rfl rfl)
theorem dX6_isSibling_12 : decode cX6_isSibling 12 = .ok (.iaload, 1) := dk_46 (dk_at dksX6_isSibling_0 12 rfl rfl)
theorem dX6_isSibling_13 : decode cX6_isSibling 13 = .ok (.ifCond .lt 17, 3) := dk_155 0 17 (dk_at dksX6_isSibling_0 13 rfl rfl)
theorem dX6_isSibling_16 : decode cX6_isSibling 16 = .ok (.aload_n 0, 1) := dk_42 (dk_at dksX6_isSibling_0 16 rfl rfl)
theorem dX6_isSibling_17 : decode cX6_isSibling 17 = .ok (.aload_n 0, 1) := dk_42 (dk_at dksX6_isSibling_0 17 rfl rfl)
theorem dX6_isSibling_18 : decode cX6_isSibling 18 = .ok (.getfield 107, 3) := dk_180 0 107 (dk_at dksX6_isSibling_0 18 rfl rfl)
theorem dX6_isSibling_21 : decode cX6_isSibling 21 = .ok (.iload_n 2, 1) := dk_28 (dk_at dksX6_isSibling_0 21 rfl rfl)
theorem dX6_isSibling_22 : decode cX6_isSibling 22 = .ok (.iaload, 1) := dk_46 (dk_at dksX6_isSibling_0 22 rfl rfl)
theorem dX6_isSibling_23 : decode cX6_isSibling 23 = .ok (.iload_n 1, 1) := dk_27 (dk_at dksX6_isSibling_0 23 rfl rfl)
theorem dX6_isSibling_24 : decode cX6_isSibling 24 = .ok (.invokevirtual 193, 3) := dk_182 0 193 (dk_at dksX6_isSibling_1 0 rfl rfl)
theorem dX6_isSibling_27 : decode cX6_isSibling 27 = .ok (.ifCond .ne 26, 3) := dk_154 0 26 (dk_at dksX6_isSibling_1 3 rfl rfl)
theorem dX6_isSibling_30 : decode cX6_isSibling 30 = .ok (.aload_n 0, 1) := dk_42 (dk_at dksX6_isSibling_1 6 rfl rfl)
theorem dX6_isSibling_31 : decode cX6_isSibling 31 = .ok (.getfield 110, 3) := dk_180 0 110 (dk_at dksX6_isSibling_1 7 rfl rfl)
theorem dX6_isSibling_34 : decode cX6_isSibling 34 = .ok (.iload_n 2, 1) := dk_28 (dk_at dksX6_isSibling_1 10 rfl rfl)
theorem dX6_isSibling_35 : decode cX6_isSibling 35 = .ok (.iaload, 1) := dk_46 (dk_at dksX6_isSibling_1 11 rfl rfl)
theorem dX6_isSibling_36 : decode cX6_isSibling 36 = .ok (.ifCond .lt 21, 3) := dk_155 0 21 (dk_at dksX6_isSibling_1 12 rfl rfl)
theorem dX6_isSibling_39 : decode cX6_isSibling 39 = .ok (.aload_n 0, 1) := dk_42 (dk_at dksX6_isSibling_1 15 rfl rfl)
theorem dX6_isSibling_40 : decode cX6_isSibling 40 = .ok (.aload_n 0, 1) := dk_42 (dk_at dksX6_isSibling_1 16 rfl rfl)
theorem dX6_isSibling_41 : decode cX6_isSibling 41 = .ok (.getfield 110, 3) := dk_180 0 110 (dk_at dksX6_isSibling_1 17 rfl rfl)
theorem dX6_isSibling_44 : decode cX6_isSibling 44 = .ok (.iload_n 2, 1) := dk_28 (dk_at dksX6_isSibling_1 20 rfl rfl)
theorem dX6_isSibling_45 : decode cX6_isSibling 45 = .ok (.iaload, 1) := dk_46 (dk_at dksX6_isSibling_1 21 rfl rfl)
theorem dX6_isSibling_46 : decode cX6_isSibling 46 = .ok (.iload_n 1, 1) := dk_27 (dk_at dksX6_isSibling_1 22 rfl rfl)
theorem dX6_isSibling_47 : decode cX6_isSibling 47 = .ok (.invokevirtual 193, 3) := dk_182 0 193 (dk_at dksX6_isSibling_2 0 rfl rfl)
theorem dX6_isSibling_50 : decode cX6_isSibling 50 = .ok (.ifCond .eq 7, 3) := dk_153 0 7 (dk_at dksX6_isSibling_2 3 rfl rfl)
theorem dX6_isSibling_53 : decode cX6_isSibling 53 = .ok (.iconst 1, 1) := dk_4 (dk_at dksX6_isSibling_2 6 rfl rfl)
theorem dX6_isSibling_54 : decode cX6_isSibling 54 = .ok (.goto 4, 3) := dk_167 0 4 (dk_at dksX6_isSibling_2 7 rfl rfl)
theorem dX6_isSibling_57 : decode cX6_isSibling 57 = .ok (.iconst 0, 1) := dk_3 (dk_at dksX6_isSibling_2 10 rfl rfl)
theorem dX6_isSibling_58 : decode cX6_isSibling 58 = .ok (.ireturn, 1) := dk_172 (dk_at dksX6_isSibling_2 11 rfl rfl)
abbrev cX6_offers : ByteArray := prog_21_method_32_code
def yX6_offers : MethodName := ⟨RX6, "offers", "(I)V"⟩
def dkwX6_offers_5 : List UInt8 := [180, 0, 135, 16, 60, 96, 167, 0, 7, 42, 180, 0, 135, 79, 177]
abbrev dktX6_offers_5 : List UInt8 := dkwX6_offers_5 ++ []
def dkwX6_offers_4 : List UInt8 := [180, 0, 68, 27, 46, 96, 46, 167, 0, 4, 2, 79, 42, 180, 0, 44, 27, 28, 153, 0, 13, 42]
abbrev dktX6_offers_4 : List UInt8 := dkwX6_offers_4 ++ dktX6_offers_5
def dkwX6_offers_3 : List UInt8 := [167, 0, 4, 3, 61, 42, 180, 0, 41, 27, 28, 153, 0, 23, 42, 180, 0, 62, 17, 0, 150, 27, 104, 42]
abbrev dktX6_offers_3 : List UInt8 := dkwX6_offers_3 ++ dktX6_offers_4
def dkwX6_offers_2 : List UInt8 := [4, 96, 79, 167, 255, 206, 42, 180, 0, 68, 27, 46, 42, 180, 0, 65, 27, 46, 162, 0, 7, 4]
abbrev dktX6_offers_2 : List UInt8 := dkwX6_offers_2 ++ dktX6_offers_3
def dkwX6_offers_1 : List UInt8 := [17, 0, 150, 27, 104, 42, 180, 0, 68, 27, 46, 96, 46, 51, 153, 0, 16, 42, 180, 0, 68, 27, 92, 46]
abbrev dktX6_offers_1 : List UInt8 := dkwX6_offers_1 ++ dktX6_offers_2
def dkwX6_offers_0 : List UInt8 := [42, 180, 0, 68, 27, 46, 42, 180, 0, 65, 27, 46, 162, 0, 41, 42, 180, 0, 83, 42, 180, 0, 62]
abbrev dktX6_offers_0 : List UInt8 := dkwX6_offers_0 ++ dktX6_offers_1
theorem dksX6_offers_0 : cX6_offers.data.toList.drop 0 = dktX6_offers_0 := by decide +kernel
theorem dksX6_offers_1 : cX6_offers.data.toList.drop 23 = dktX6_offers_1 := dk_seg dksX6_offers_0 23 rfl rfl
theorem dksX6_offers_2 : cX6_offers.data.toList.drop 47 = dktX6_offers_2 := dk_seg dksX6_offers_1 24 rfl rfl
theorem dksX6_offers_3 : cX6_offers.data.toList.drop 69 = dktX6_offers_3 := dk_seg dksX6_offers_2 22 rfl rfl
theorem dksX6_offers_4 : cX6_offers.data.toList.drop 93 = dktX6_offers_4 := dk_seg dksX6_offers_3 24 rfl rfl
theorem dksX6_offers_5 : cX6_offers.data.toList.drop 115 = dktX6_offers_5 := dk_seg dksX6_offers_4 22 rfl rfl
theorem dX6_offers_0 : decode cX6_offers 0 = .ok (.aload_n 0, 1) := dk_42 (dk_at dksX6_offers_0 0 rfl rfl)
theorem dX6_offers_1 : decode cX6_offers 1 = .ok (.getfield 68, 3) := dk_180 0 68 (dk_at dksX6_offers_0 1 rfl rfl)
theorem dX6_offers_4 : decode cX6_offers 4 = .ok (.iload_n 1, 1) := dk_27 (dk_at dksX6_offers_0 4 rfl rfl)
theorem dX6_offers_5 : decode cX6_offers 5 = .ok (.iaload, 1) := dk_46 (dk_at dksX6_offers_0 5 rfl rfl)
theorem dX6_offers_6 : decode cX6_offers 6 = .ok (.aload_n 0, 1) := dk_42 (dk_at dksX6_offers_0 6 rfl rfl)
theorem dX6_offers_7 : decode cX6_offers 7 = .ok (.getfield 65, 3) := dk_180 0 65 (dk_at dksX6_offers_0 7 rfl rfl)
theorem dX6_offers_10 : decode cX6_offers 10 = .ok (.iload_n 1, 1) := dk_27 (dk_at dksX6_offers_0 10 rfl rfl)
theorem dX6_offers_11 : decode cX6_offers 11 = .ok (.iaload, 1) := dk_46 (dk_at dksX6_offers_0 11 rfl rfl)
theorem dX6_offers_12 : decode cX6_offers 12 = .ok (.if_icmp .ge 41, 3) := dk_162 0 41 (dk_at dksX6_offers_0 12 rfl rfl)
theorem dX6_offers_15 : decode cX6_offers 15 = .ok (.aload_n 0, 1) := dk_42 (dk_at dksX6_offers_0 15 rfl rfl)
theorem dX6_offers_16 : decode cX6_offers 16 = .ok (.getfield 83, 3) := dk_180 0 83 (dk_at dksX6_offers_0 16 rfl rfl)
theorem dX6_offers_19 : decode cX6_offers 19 = .ok (.aload_n 0, 1) := dk_42 (dk_at dksX6_offers_0 19 rfl rfl)
theorem dX6_offers_20 : decode cX6_offers 20 = .ok (.getfield 62, 3) := dk_180 0 62 (dk_at dksX6_offers_0 20 rfl rfl)
theorem dX6_offers_23 : decode cX6_offers 23 = .ok (.sipush 150, 3) := dk_17 0 150 (dk_at dksX6_offers_1 0 rfl rfl)
theorem dX6_offers_26 : decode cX6_offers 26 = .ok (.iload_n 1, 1) := dk_27 (dk_at dksX6_offers_1 3 rfl rfl)
theorem dX6_offers_27 : decode cX6_offers 27 = .ok (.imul, 1) := dk_104 (dk_at dksX6_offers_1 4 rfl rfl)
theorem dX6_offers_28 : decode cX6_offers 28 = .ok (.aload_n 0, 1) := dk_42 (dk_at dksX6_offers_1 5 rfl rfl)
theorem dX6_offers_29 : decode cX6_offers 29 = .ok (.getfield 68, 3) := dk_180 0 68 (dk_at dksX6_offers_1 6 rfl rfl)
theorem dX6_offers_32 : decode cX6_offers 32 = .ok (.iload_n 1, 1) := dk_27 (dk_at dksX6_offers_1 9 rfl rfl)
theorem dX6_offers_33 : decode cX6_offers 33 = .ok (.iaload, 1) := dk_46 (dk_at dksX6_offers_1 10 rfl rfl)
theorem dX6_offers_34 : decode cX6_offers 34 = .ok (.iadd, 1) := dk_96 (dk_at dksX6_offers_1 11 rfl rfl)
theorem dX6_offers_35 : decode cX6_offers 35 = .ok (.iaload, 1) := dk_46 (dk_at dksX6_offers_1 12 rfl rfl)
theorem dX6_offers_36 : decode cX6_offers 36 = .ok (.baload, 1) := dk_51 (dk_at dksX6_offers_1 13 rfl rfl)
theorem dX6_offers_37 : decode cX6_offers 37 = .ok (.ifCond .eq 16, 3) := dk_153 0 16 (dk_at dksX6_offers_1 14 rfl rfl)
theorem dX6_offers_40 : decode cX6_offers 40 = .ok (.aload_n 0, 1) := dk_42 (dk_at dksX6_offers_1 17 rfl rfl)
theorem dX6_offers_41 : decode cX6_offers 41 = .ok (.getfield 68, 3) := dk_180 0 68 (dk_at dksX6_offers_1 18 rfl rfl)
theorem dX6_offers_44 : decode cX6_offers 44 = .ok (.iload_n 1, 1) := dk_27 (dk_at dksX6_offers_1 21 rfl rfl)
theorem dX6_offers_45 : decode cX6_offers 45 = .ok (.dup2, 1) := dk_92 (dk_at dksX6_offers_1 22 rfl rfl)
theorem dX6_offers_46 : decode cX6_offers 46 = .ok (.iaload, 1) := dk_46 (dk_at dksX6_offers_1 23 rfl rfl)
theorem dX6_offers_47 : decode cX6_offers 47 = .ok (.iconst 1, 1) := dk_4 (dk_at dksX6_offers_2 0 rfl rfl)
theorem dX6_offers_48 : decode cX6_offers 48 = .ok (.iadd, 1) := dk_96 (dk_at dksX6_offers_2 1 rfl rfl)
theorem dX6_offers_49 : decode cX6_offers 49 = .ok (.iastore, 1) := dk_79 (dk_at dksX6_offers_2 2 rfl rfl)
theorem dX6_offers_50 : decode cX6_offers 50 = .ok (.goto (-50), 3) := dk_167 255 206 (dk_at dksX6_offers_2 3 rfl rfl)
theorem dX6_offers_53 : decode cX6_offers 53 = .ok (.aload_n 0, 1) := dk_42 (dk_at dksX6_offers_2 6 rfl rfl)
theorem dX6_offers_54 : decode cX6_offers 54 = .ok (.getfield 68, 3) := dk_180 0 68 (dk_at dksX6_offers_2 7 rfl rfl)
theorem dX6_offers_57 : decode cX6_offers 57 = .ok (.iload_n 1, 1) := dk_27 (dk_at dksX6_offers_2 10 rfl rfl)
theorem dX6_offers_58 : decode cX6_offers 58 = .ok (.iaload, 1) := dk_46 (dk_at dksX6_offers_2 11 rfl rfl)
theorem dX6_offers_59 : decode cX6_offers 59 = .ok (.aload_n 0, 1) := dk_42 (dk_at dksX6_offers_2 12 rfl rfl)
theorem dX6_offers_60 : decode cX6_offers 60 = .ok (.getfield 65, 3) := dk_180 0 65 (dk_at dksX6_offers_2 13 rfl rfl)
theorem dX6_offers_63 : decode cX6_offers 63 = .ok (.iload_n 1, 1) := dk_27 (dk_at dksX6_offers_2 16 rfl rfl)
theorem dX6_offers_64 : decode cX6_offers 64 = .ok (.iaload, 1) := dk_46 (dk_at dksX6_offers_2 17 rfl rfl)
theorem dX6_offers_65 : decode cX6_offers 65 = .ok (.if_icmp .ge 7, 3) := dk_162 0 7 (dk_at dksX6_offers_2 18 rfl rfl)
theorem dX6_offers_68 : decode cX6_offers 68 = .ok (.iconst 1, 1) := dk_4 (dk_at dksX6_offers_2 21 rfl rfl)
theorem dX6_offers_69 : decode cX6_offers 69 = .ok (.goto 4, 3) := dk_167 0 4 (dk_at dksX6_offers_3 0 rfl rfl)
theorem dX6_offers_72 : decode cX6_offers 72 = .ok (.iconst 0, 1) := dk_3 (dk_at dksX6_offers_3 3 rfl rfl)
theorem dX6_offers_73 : decode cX6_offers 73 = .ok (.istore_n 2, 1) := dk_61 (dk_at dksX6_offers_3 4 rfl rfl)
theorem dX6_offers_74 : decode cX6_offers 74 = .ok (.aload_n 0, 1) := dk_42 (dk_at dksX6_offers_3 5 rfl rfl)
theorem dX6_offers_75 : decode cX6_offers 75 = .ok (.getfield 41, 3) := dk_180 0 41 (dk_at dksX6_offers_3 6 rfl rfl)
theorem dX6_offers_78 : decode cX6_offers 78 = .ok (.iload_n 1, 1) := dk_27 (dk_at dksX6_offers_3 9 rfl rfl)
theorem dX6_offers_79 : decode cX6_offers 79 = .ok (.iload_n 2, 1) := dk_28 (dk_at dksX6_offers_3 10 rfl rfl)
theorem dX6_offers_80 : decode cX6_offers 80 = .ok (.ifCond .eq 23, 3) := dk_153 0 23 (dk_at dksX6_offers_3 11 rfl rfl)
theorem dX6_offers_83 : decode cX6_offers 83 = .ok (.aload_n 0, 1) := dk_42 (dk_at dksX6_offers_3 14 rfl rfl)
theorem dX6_offers_84 : decode cX6_offers 84 = .ok (.getfield 62, 3) := dk_180 0 62 (dk_at dksX6_offers_3 15 rfl rfl)
theorem dX6_offers_87 : decode cX6_offers 87 = .ok (.sipush 150, 3) := dk_17 0 150 (dk_at dksX6_offers_3 18 rfl rfl)
theorem dX6_offers_90 : decode cX6_offers 90 = .ok (.iload_n 1, 1) := dk_27 (dk_at dksX6_offers_3 21 rfl rfl)
theorem dX6_offers_91 : decode cX6_offers 91 = .ok (.imul, 1) := dk_104 (dk_at dksX6_offers_3 22 rfl rfl)
theorem dX6_offers_92 : decode cX6_offers 92 = .ok (.aload_n 0, 1) := dk_42 (dk_at dksX6_offers_3 23 rfl rfl)
theorem dX6_offers_93 : decode cX6_offers 93 = .ok (.getfield 68, 3) := dk_180 0 68 (dk_at dksX6_offers_4 0 rfl rfl)
theorem dX6_offers_96 : decode cX6_offers 96 = .ok (.iload_n 1, 1) := dk_27 (dk_at dksX6_offers_4 3 rfl rfl)
theorem dX6_offers_97 : decode cX6_offers 97 = .ok (.iaload, 1) := dk_46 (dk_at dksX6_offers_4 4 rfl rfl)
theorem dX6_offers_98 : decode cX6_offers 98 = .ok (.iadd, 1) := dk_96 (dk_at dksX6_offers_4 5 rfl rfl)
theorem dX6_offers_99 : decode cX6_offers 99 = .ok (.iaload, 1) := dk_46 (dk_at dksX6_offers_4 6 rfl rfl)
theorem dX6_offers_100 : decode cX6_offers 100 = .ok (.goto 4, 3) := dk_167 0 4 (dk_at dksX6_offers_4 7 rfl rfl)
theorem dX6_offers_103 : decode cX6_offers 103 = .ok (.iconst (-1), 1) := dk_2 (dk_at dksX6_offers_4 10 rfl rfl)
theorem dX6_offers_104 : decode cX6_offers 104 = .ok (.iastore, 1) := dk_79 (dk_at dksX6_offers_4 11 rfl rfl)
theorem dX6_offers_105 : decode cX6_offers 105 = .ok (.aload_n 0, 1) := dk_42 (dk_at dksX6_offers_4 12 rfl rfl)
theorem dX6_offers_106 : decode cX6_offers 106 = .ok (.getfield 44, 3) := dk_180 0 44 (dk_at dksX6_offers_4 13 rfl rfl)
theorem dX6_offers_109 : decode cX6_offers 109 = .ok (.iload_n 1, 1) := dk_27 (dk_at dksX6_offers_4 16 rfl rfl)
theorem dX6_offers_110 : decode cX6_offers 110 = .ok (.iload_n 2, 1) := dk_28 (dk_at dksX6_offers_4 17 rfl rfl)
theorem dX6_offers_111 : decode cX6_offers 111 = .ok (.ifCond .eq 13, 3) := dk_153 0 13 (dk_at dksX6_offers_4 18 rfl rfl)
theorem dX6_offers_114 : decode cX6_offers 114 = .ok (.aload_n 0, 1) := dk_42 (dk_at dksX6_offers_4 21 rfl rfl)
theorem dX6_offers_115 : decode cX6_offers 115 = .ok (.getfield 135, 3) := dk_180 0 135 (dk_at dksX6_offers_5 0 rfl rfl)
theorem dX6_offers_118 : decode cX6_offers 118 = .ok (.bipush 60, 2) := dk_16 60 (dk_at dksX6_offers_5 3 rfl rfl)
theorem dX6_offers_120 : decode cX6_offers 120 = .ok (.iadd, 1) := dk_96 (dk_at dksX6_offers_5 5 rfl rfl)
theorem dX6_offers_121 : decode cX6_offers 121 = .ok (.goto 7, 3) := dk_167 0 7 (dk_at dksX6_offers_5 6 rfl rfl)
theorem dX6_offers_124 : decode cX6_offers 124 = .ok (.aload_n 0, 1) := dk_42 (dk_at dksX6_offers_5 9 rfl rfl)
theorem dX6_offers_125 : decode cX6_offers 125 = .ok (.getfield 135, 3) := dk_180 0 135 (dk_at dksX6_offers_5 10 rfl rfl)
theorem dX6_offers_128 : decode cX6_offers 128 = .ok (.iastore, 1) := dk_79 (dk_at dksX6_offers_5 13 rfl rfl)
theorem dX6_offers_129 : decode cX6_offers 129 = .ok (.return_, 1) := dk_177 (dk_at dksX6_offers_5 14 rfl rfl)
abbrev cX6_passOn : ByteArray := prog_21_method_33_code
def yX6_passOn : MethodName := ⟨RX6, "passOn", "(I)V"⟩
def dkwX6_passOn_0 : List UInt8 := [42, 180, 0, 68, 27, 92, 46, 4, 96, 79, 42, 27, 182, 0, 209, 177]
abbrev dktX6_passOn_0 : List UInt8 := dkwX6_passOn_0 ++ []
theorem dksX6_passOn_0 : cX6_passOn.data.toList.drop 0 = dktX6_passOn_0 := by decide +kernel
theorem dX6_passOn_0 : decode cX6_passOn 0 = .ok (.aload_n 0, 1) := dk_42 (dk_at dksX6_passOn_0 0 rfl rfl)
theorem dX6_passOn_1 : decode cX6_passOn 1 = .ok (.getfield 68, 3) := dk_180 0 68 (dk_at dksX6_passOn_0 1 rfl rfl)
theorem dX6_passOn_4 : decode cX6_passOn 4 = .ok (.iload_n 1, 1) := dk_27 (dk_at dksX6_passOn_0 4 rfl rfl)
theorem dX6_passOn_5 : decode cX6_passOn 5 = .ok (.dup2, 1) := dk_92 (dk_at dksX6_passOn_0 5 rfl rfl)
theorem dX6_passOn_6 : decode cX6_passOn 6 = .ok (.iaload, 1) := dk_46 (dk_at dksX6_passOn_0 6 rfl rfl)
theorem dX6_passOn_7 : decode cX6_passOn 7 = .ok (.iconst 1, 1) := dk_4 (dk_at dksX6_passOn_0 7 rfl rfl)
theorem dX6_passOn_8 : decode cX6_passOn 8 = .ok (.iadd, 1) := dk_96 (dk_at dksX6_passOn_0 8 rfl rfl)
theorem dX6_passOn_9 : decode cX6_passOn 9 = .ok (.iastore, 1) := dk_79 (dk_at dksX6_passOn_0 9 rfl rfl)
theorem dX6_passOn_10 : decode cX6_passOn 10 = .ok (.aload_n 0, 1) := dk_42 (dk_at dksX6_passOn_0 10 rfl rfl)
theorem dX6_passOn_11 : decode cX6_passOn 11 = .ok (.iload_n 1, 1) := dk_27 (dk_at dksX6_passOn_0 11 rfl rfl)
theorem dX6_passOn_12 : decode cX6_passOn 12 = .ok (.invokevirtual 209, 3) := dk_182 0 209 (dk_at dksX6_passOn_0 12 rfl rfl)
theorem dX6_passOn_15 : decode cX6_passOn 15 = .ok (.return_, 1) := dk_177 (dk_at dksX6_passOn_0 15 rfl rfl)
abbrev cX6_actTakes : ByteArray := prog_21_method_35_code
def yX6_actTakes : MethodName := ⟨RX6, "actTakes", "(IZ)I"⟩
def dkwX6_actTakes_4 : List UInt8 := [132, 3, 1, 167, 255, 233, 3, 172]
abbrev dktX6_actTakes_4 : List UInt8 := dkwX6_actTakes_4 ++ []
def dkwX6_actTakes_3 : List UInt8 := [46, 79, 3, 62, 29, 17, 0, 150, 162, 0, 22, 42, 180, 0, 59, 17, 0, 150, 27, 104, 29, 96, 3, 84]
abbrev dktX6_actTakes_3 : List UInt8 := dkwX6_actTakes_3 ++ dktX6_actTakes_4
def dkwX6_actTakes_2 : List UInt8 := [4, 79, 42, 180, 0, 56, 27, 42, 180, 0, 35, 27, 46, 79, 42, 180, 0, 35, 27, 42, 180, 0, 41, 27]
abbrev dktX6_actTakes_2 : List UInt8 := dkwX6_actTakes_2 ++ dktX6_actTakes_3
def dkwX6_actTakes_1 : List UInt8 := [27, 46, 156, 0, 6, 16, 254, 172, 28, 154, 0, 10, 42, 27, 182, 0, 216, 3, 172, 42, 180, 0, 32, 27]
abbrev dktX6_actTakes_1 : List UInt8 := dkwX6_actTakes_1 ++ dktX6_actTakes_2
def dkwX6_actTakes_0 : List UInt8 := [42, 27, 182, 0, 186, 154, 0, 5, 2, 172, 42, 180, 0, 32, 27, 46, 5, 160, 0, 12, 42, 180, 0, 41]
abbrev dktX6_actTakes_0 : List UInt8 := dkwX6_actTakes_0 ++ dktX6_actTakes_1
theorem dksX6_actTakes_0 : cX6_actTakes.data.toList.drop 0 = dktX6_actTakes_0 := by decide +kernel
theorem dksX6_actTakes_1 : cX6_actTakes.data.toList.drop 24 = dktX6_actTakes_1 := dk_seg dksX6_actTakes_0 24 rfl rfl
theorem dksX6_actTakes_2 : cX6_actTakes.data.toList.drop 48 = dktX6_actTakes_2 := dk_seg dksX6_actTakes_1 24 rfl rfl
theorem dksX6_actTakes_3 : cX6_actTakes.data.toList.drop 72 = dktX6_actTakes_3 := dk_seg dksX6_actTakes_2 24 rfl rfl
theorem dksX6_actTakes_4 : cX6_actTakes.data.toList.drop 96 = dktX6_actTakes_4 := dk_seg dksX6_actTakes_3 24 rfl rfl
theorem dX6_actTakes_0 : decode cX6_actTakes 0 = .ok (.aload_n 0, 1) := dk_42 (dk_at dksX6_actTakes_0 0 rfl rfl)
theorem dX6_actTakes_1 : decode cX6_actTakes 1 = .ok (.iload_n 1, 1) := dk_27 (dk_at dksX6_actTakes_0 1 rfl rfl)
theorem dX6_actTakes_2 : decode cX6_actTakes 2 = .ok (.invokevirtual 186, 3) := dk_182 0 186 (dk_at dksX6_actTakes_0 2 rfl rfl)
theorem dX6_actTakes_5 : decode cX6_actTakes 5 = .ok (.ifCond .ne 5, 3) := dk_154 0 5 (dk_at dksX6_actTakes_0 5 rfl rfl)
theorem dX6_actTakes_8 : decode cX6_actTakes 8 = .ok (.iconst (-1), 1) := dk_2 (dk_at dksX6_actTakes_0 8 rfl rfl)
theorem dX6_actTakes_9 : decode cX6_actTakes 9 = .ok (.ireturn, 1) := dk_172 (dk_at dksX6_actTakes_0 9 rfl rfl)
theorem dX6_actTakes_10 : decode cX6_actTakes 10 = .ok (.aload_n 0, 1) := dk_42 (dk_at dksX6_actTakes_0 10 rfl rfl)
theorem dX6_actTakes_11 : decode cX6_actTakes 11 = .ok (.getfield 32, 3) := dk_180 0 32 (dk_at dksX6_actTakes_0 11 rfl rfl)
theorem dX6_actTakes_14 : decode cX6_actTakes 14 = .ok (.iload_n 1, 1) := dk_27 (dk_at dksX6_actTakes_0 14 rfl rfl)
theorem dX6_actTakes_15 : decode cX6_actTakes 15 = .ok (.iaload, 1) := dk_46 (dk_at dksX6_actTakes_0 15 rfl rfl)
theorem dX6_actTakes_16 : decode cX6_actTakes 16 = .ok (.iconst 2, 1) := dk_5 (dk_at dksX6_actTakes_0 16 rfl rfl)
theorem dX6_actTakes_17 : decode cX6_actTakes 17 = .ok (.if_icmp .ne 12, 3) := dk_160 0 12 (dk_at dksX6_actTakes_0 17 rfl rfl)
theorem dX6_actTakes_20 : decode cX6_actTakes 20 = .ok (.aload_n 0, 1) := dk_42 (dk_at dksX6_actTakes_0 20 rfl rfl)
theorem dX6_actTakes_21 : decode cX6_actTakes 21 = .ok (.getfield 41, 3) := dk_180 0 41 (dk_at dksX6_actTakes_0 21 rfl rfl)
theorem dX6_actTakes_24 : decode cX6_actTakes 24 = .ok (.iload_n 1, 1) := dk_27 (dk_at dksX6_actTakes_1 0 rfl rfl)
theorem dX6_actTakes_25 : decode cX6_actTakes 25 = .ok (.iaload, 1) := dk_46 (dk_at dksX6_actTakes_1 1 rfl rfl)
theorem dX6_actTakes_26 : decode cX6_actTakes 26 = .ok (.ifCond .ge 6, 3) := dk_156 0 6 (dk_at dksX6_actTakes_1 2 rfl rfl)
theorem dX6_actTakes_29 : decode cX6_actTakes 29 = .ok (.bipush (-2), 2) := dk_16 254 (dk_at dksX6_actTakes_1 5 rfl rfl)
theorem dX6_actTakes_31 : decode cX6_actTakes 31 = .ok (.ireturn, 1) := dk_172 (dk_at dksX6_actTakes_1 7 rfl rfl)
theorem dX6_actTakes_32 : decode cX6_actTakes 32 = .ok (.iload_n 2, 1) := dk_28 (dk_at dksX6_actTakes_1 8 rfl rfl)
theorem dX6_actTakes_33 : decode cX6_actTakes 33 = .ok (.ifCond .ne 10, 3) := dk_154 0 10 (dk_at dksX6_actTakes_1 9 rfl rfl)
theorem dX6_actTakes_36 : decode cX6_actTakes 36 = .ok (.aload_n 0, 1) := dk_42 (dk_at dksX6_actTakes_1 12 rfl rfl)
theorem dX6_actTakes_37 : decode cX6_actTakes 37 = .ok (.iload_n 1, 1) := dk_27 (dk_at dksX6_actTakes_1 13 rfl rfl)
theorem dX6_actTakes_38 : decode cX6_actTakes 38 = .ok (.invokevirtual 216, 3) := dk_182 0 216 (dk_at dksX6_actTakes_1 14 rfl rfl)
theorem dX6_actTakes_41 : decode cX6_actTakes 41 = .ok (.iconst 0, 1) := dk_3 (dk_at dksX6_actTakes_1 17 rfl rfl)
theorem dX6_actTakes_42 : decode cX6_actTakes 42 = .ok (.ireturn, 1) := dk_172 (dk_at dksX6_actTakes_1 18 rfl rfl)
theorem dX6_actTakes_43 : decode cX6_actTakes 43 = .ok (.aload_n 0, 1) := dk_42 (dk_at dksX6_actTakes_1 19 rfl rfl)
theorem dX6_actTakes_44 : decode cX6_actTakes 44 = .ok (.getfield 32, 3) := dk_180 0 32 (dk_at dksX6_actTakes_1 20 rfl rfl)
theorem dX6_actTakes_47 : decode cX6_actTakes 47 = .ok (.iload_n 1, 1) := dk_27 (dk_at dksX6_actTakes_1 23 rfl rfl)
theorem dX6_actTakes_48 : decode cX6_actTakes 48 = .ok (.iconst 1, 1) := dk_4 (dk_at dksX6_actTakes_2 0 rfl rfl)
theorem dX6_actTakes_49 : decode cX6_actTakes 49 = .ok (.iastore, 1) := dk_79 (dk_at dksX6_actTakes_2 1 rfl rfl)
theorem dX6_actTakes_50 : decode cX6_actTakes 50 = .ok (.aload_n 0, 1) := dk_42 (dk_at dksX6_actTakes_2 2 rfl rfl)
theorem dX6_actTakes_51 : decode cX6_actTakes 51 = .ok (.getfield 56, 3) := dk_180 0 56 (dk_at dksX6_actTakes_2 3 rfl rfl)
theorem dX6_actTakes_54 : decode cX6_actTakes 54 = .ok (.iload_n 1, 1) := dk_27 (dk_at dksX6_actTakes_2 6 rfl rfl)
theorem dX6_actTakes_55 : decode cX6_actTakes 55 = .ok (.aload_n 0, 1) := dk_42 (dk_at dksX6_actTakes_2 7 rfl rfl)
theorem dX6_actTakes_56 : decode cX6_actTakes 56 = .ok (.getfield 35, 3) := dk_180 0 35 (dk_at dksX6_actTakes_2 8 rfl rfl)
theorem dX6_actTakes_59 : decode cX6_actTakes 59 = .ok (.iload_n 1, 1) := dk_27 (dk_at dksX6_actTakes_2 11 rfl rfl)
theorem dX6_actTakes_60 : decode cX6_actTakes 60 = .ok (.iaload, 1) := dk_46 (dk_at dksX6_actTakes_2 12 rfl rfl)
theorem dX6_actTakes_61 : decode cX6_actTakes 61 = .ok (.iastore, 1) := dk_79 (dk_at dksX6_actTakes_2 13 rfl rfl)
theorem dX6_actTakes_62 : decode cX6_actTakes 62 = .ok (.aload_n 0, 1) := dk_42 (dk_at dksX6_actTakes_2 14 rfl rfl)
theorem dX6_actTakes_63 : decode cX6_actTakes 63 = .ok (.getfield 35, 3) := dk_180 0 35 (dk_at dksX6_actTakes_2 15 rfl rfl)
theorem dX6_actTakes_66 : decode cX6_actTakes 66 = .ok (.iload_n 1, 1) := dk_27 (dk_at dksX6_actTakes_2 18 rfl rfl)
theorem dX6_actTakes_67 : decode cX6_actTakes 67 = .ok (.aload_n 0, 1) := dk_42 (dk_at dksX6_actTakes_2 19 rfl rfl)
theorem dX6_actTakes_68 : decode cX6_actTakes 68 = .ok (.getfield 41, 3) := dk_180 0 41 (dk_at dksX6_actTakes_2 20 rfl rfl)
theorem dX6_actTakes_71 : decode cX6_actTakes 71 = .ok (.iload_n 1, 1) := dk_27 (dk_at dksX6_actTakes_2 23 rfl rfl)
theorem dX6_actTakes_72 : decode cX6_actTakes 72 = .ok (.iaload, 1) := dk_46 (dk_at dksX6_actTakes_3 0 rfl rfl)
theorem dX6_actTakes_73 : decode cX6_actTakes 73 = .ok (.iastore, 1) := dk_79 (dk_at dksX6_actTakes_3 1 rfl rfl)
theorem dX6_actTakes_74 : decode cX6_actTakes 74 = .ok (.iconst 0, 1) := dk_3 (dk_at dksX6_actTakes_3 2 rfl rfl)
theorem dX6_actTakes_75 : decode cX6_actTakes 75 = .ok (.istore_n 3, 1) := dk_62 (dk_at dksX6_actTakes_3 3 rfl rfl)
theorem dX6_actTakes_76 : decode cX6_actTakes 76 = .ok (.iload_n 3, 1) := dk_29 (dk_at dksX6_actTakes_3 4 rfl rfl)
theorem dX6_actTakes_77 : decode cX6_actTakes 77 = .ok (.sipush 150, 3) := dk_17 0 150 (dk_at dksX6_actTakes_3 5 rfl rfl)
theorem dX6_actTakes_80 : decode cX6_actTakes 80 = .ok (.if_icmp .ge 22, 3) := dk_162 0 22 (dk_at dksX6_actTakes_3 8 rfl rfl)
theorem dX6_actTakes_83 : decode cX6_actTakes 83 = .ok (.aload_n 0, 1) := dk_42 (dk_at dksX6_actTakes_3 11 rfl rfl)
theorem dX6_actTakes_84 : decode cX6_actTakes 84 = .ok (.getfield 59, 3) := dk_180 0 59 (dk_at dksX6_actTakes_3 12 rfl rfl)
theorem dX6_actTakes_87 : decode cX6_actTakes 87 = .ok (.sipush 150, 3) := dk_17 0 150 (dk_at dksX6_actTakes_3 15 rfl rfl)
theorem dX6_actTakes_90 : decode cX6_actTakes 90 = .ok (.iload_n 1, 1) := dk_27 (dk_at dksX6_actTakes_3 18 rfl rfl)
theorem dX6_actTakes_91 : decode cX6_actTakes 91 = .ok (.imul, 1) := dk_104 (dk_at dksX6_actTakes_3 19 rfl rfl)
theorem dX6_actTakes_92 : decode cX6_actTakes 92 = .ok (.iload_n 3, 1) := dk_29 (dk_at dksX6_actTakes_3 20 rfl rfl)
theorem dX6_actTakes_93 : decode cX6_actTakes 93 = .ok (.iadd, 1) := dk_96 (dk_at dksX6_actTakes_3 21 rfl rfl)
theorem dX6_actTakes_94 : decode cX6_actTakes 94 = .ok (.iconst 0, 1) := dk_3 (dk_at dksX6_actTakes_3 22 rfl rfl)
theorem dX6_actTakes_95 : decode cX6_actTakes 95 = .ok (.bastore, 1) := dk_84 (dk_at dksX6_actTakes_3 23 rfl rfl)
theorem dX6_actTakes_96 : decode cX6_actTakes 96 = .ok (.iinc 3 1, 3) := dk_132 3 1 (dk_at dksX6_actTakes_4 0 rfl rfl)
theorem dX6_actTakes_99 : decode cX6_actTakes 99 = .ok (.goto (-23), 3) := dk_167 255 233 (dk_at dksX6_actTakes_4 3 rfl rfl)
theorem dX6_actTakes_102 : decode cX6_actTakes 102 = .ok (.iconst 0, 1) := dk_3 (dk_at dksX6_actTakes_4 6 rfl rfl)
theorem dX6_actTakes_103 : decode cX6_actTakes 103 = .ok (.ireturn, 1) := dk_172 (dk_at dksX6_actTakes_4 7 rfl rfl)
abbrev cX6_actBury : ByteArray := prog_21_method_45_code
def yX6_actBury : MethodName := ⟨RX6, "actBury", "(IIII)I"⟩
def dkwX6_actBury_2 : List UInt8 := [182, 0, 247, 172]
abbrev dktX6_actBury_2 : List UInt8 := dkwX6_actBury_2 ++ []
def dkwX6_actBury_1 : List UInt8 := [42, 27, 28, 29, 21, 4, 42, 180, 0, 135, 17, 1, 109, 42, 21, 4, 27, 182, 0, 234, 104, 96]
abbrev dktX6_actBury_1 : List UInt8 := dkwX6_actBury_1 ++ dktX6_actBury_2
def dkwX6_actBury_0 : List UInt8 := [42, 27, 28, 29, 21, 4, 3, 3, 182, 0, 243, 54, 5, 21, 5, 158, 0, 9, 21, 5, 116, 167, 0, 28]
abbrev dktX6_actBury_0 : List UInt8 := dkwX6_actBury_0 ++ dktX6_actBury_1
theorem dksX6_actBury_0 : cX6_actBury.data.toList.drop 0 = dktX6_actBury_0 := by decide +kernel
theorem dksX6_actBury_1 : cX6_actBury.data.toList.drop 24 = dktX6_actBury_1 := dk_seg dksX6_actBury_0 24 rfl rfl
theorem dksX6_actBury_2 : cX6_actBury.data.toList.drop 46 = dktX6_actBury_2 := dk_seg dksX6_actBury_1 22 rfl rfl
theorem dX6_actBury_0 : decode cX6_actBury 0 = .ok (.aload_n 0, 1) := dk_42 (dk_at dksX6_actBury_0 0 rfl rfl)
theorem dX6_actBury_1 : decode cX6_actBury 1 = .ok (.iload_n 1, 1) := dk_27 (dk_at dksX6_actBury_0 1 rfl rfl)
theorem dX6_actBury_2 : decode cX6_actBury 2 = .ok (.iload_n 2, 1) := dk_28 (dk_at dksX6_actBury_0 2 rfl rfl)
theorem dX6_actBury_3 : decode cX6_actBury 3 = .ok (.iload_n 3, 1) := dk_29 (dk_at dksX6_actBury_0 3 rfl rfl)
theorem dX6_actBury_4 : decode cX6_actBury 4 = .ok (.iload 4, 2) := dk_21 4 (dk_at dksX6_actBury_0 4 rfl rfl)
theorem dX6_actBury_6 : decode cX6_actBury 6 = .ok (.iconst 0, 1) := dk_3 (dk_at dksX6_actBury_0 6 rfl rfl)
theorem dX6_actBury_7 : decode cX6_actBury 7 = .ok (.iconst 0, 1) := dk_3 (dk_at dksX6_actBury_0 7 rfl rfl)
theorem dX6_actBury_8 : decode cX6_actBury 8 = .ok (.invokevirtual 243, 3) := dk_182 0 243 (dk_at dksX6_actBury_0 8 rfl rfl)
theorem dX6_actBury_11 : decode cX6_actBury 11 = .ok (.istore 5, 2) := dk_54 5 (dk_at dksX6_actBury_0 11 rfl rfl)
theorem dX6_actBury_13 : decode cX6_actBury 13 = .ok (.iload 5, 2) := dk_21 5 (dk_at dksX6_actBury_0 13 rfl rfl)
theorem dX6_actBury_15 : decode cX6_actBury 15 = .ok (.ifCond .le 9, 3) := dk_158 0 9 (dk_at dksX6_actBury_0 15 rfl rfl)
theorem dX6_actBury_18 : decode cX6_actBury 18 = .ok (.iload 5, 2) := dk_21 5 (dk_at dksX6_actBury_0 18 rfl rfl)
theorem dX6_actBury_20 : decode cX6_actBury 20 = .ok (.ineg, 1) := dk_116 (dk_at dksX6_actBury_0 20 rfl rfl)
theorem dX6_actBury_21 : decode cX6_actBury 21 = .ok (.goto 28, 3) := dk_167 0 28 (dk_at dksX6_actBury_0 21 rfl rfl)
theorem dX6_actBury_24 : decode cX6_actBury 24 = .ok (.aload_n 0, 1) := dk_42 (dk_at dksX6_actBury_1 0 rfl rfl)
theorem dX6_actBury_25 : decode cX6_actBury 25 = .ok (.iload_n 1, 1) := dk_27 (dk_at dksX6_actBury_1 1 rfl rfl)
theorem dX6_actBury_26 : decode cX6_actBury 26 = .ok (.iload_n 2, 1) := dk_28 (dk_at dksX6_actBury_1 2 rfl rfl)
theorem dX6_actBury_27 : decode cX6_actBury 27 = .ok (.iload_n 3, 1) := dk_29 (dk_at dksX6_actBury_1 3 rfl rfl)
theorem dX6_actBury_28 : decode cX6_actBury 28 = .ok (.iload 4, 2) := dk_21 4 (dk_at dksX6_actBury_1 4 rfl rfl)
theorem dX6_actBury_30 : decode cX6_actBury 30 = .ok (.aload_n 0, 1) := dk_42 (dk_at dksX6_actBury_1 6 rfl rfl)
theorem dX6_actBury_31 : decode cX6_actBury 31 = .ok (.getfield 135, 3) := dk_180 0 135 (dk_at dksX6_actBury_1 7 rfl rfl)
theorem dX6_actBury_34 : decode cX6_actBury 34 = .ok (.sipush 365, 3) := dk_17 1 109 (dk_at dksX6_actBury_1 10 rfl rfl)
theorem dX6_actBury_37 : decode cX6_actBury 37 = .ok (.aload_n 0, 1) := dk_42 (dk_at dksX6_actBury_1 13 rfl rfl)
theorem dX6_actBury_38 : decode cX6_actBury 38 = .ok (.iload 4, 2) := dk_21 4 (dk_at dksX6_actBury_1 14 rfl rfl)
theorem dX6_actBury_40 : decode cX6_actBury 40 = .ok (.iload_n 1, 1) := dk_27 (dk_at dksX6_actBury_1 16 rfl rfl)
theorem dX6_actBury_41 : decode cX6_actBury 41 = .ok (.invokevirtual 234, 3) := dk_182 0 234 (dk_at dksX6_actBury_1 17 rfl rfl)
theorem dX6_actBury_44 : decode cX6_actBury 44 = .ok (.imul, 1) := dk_104 (dk_at dksX6_actBury_1 20 rfl rfl)
theorem dX6_actBury_45 : decode cX6_actBury 45 = .ok (.iadd, 1) := dk_96 (dk_at dksX6_actBury_1 21 rfl rfl)
theorem dX6_actBury_46 : decode cX6_actBury 46 = .ok (.invokevirtual 247, 3) := dk_182 0 247 (dk_at dksX6_actBury_2 0 rfl rfl)
theorem dX6_actBury_49 : decode cX6_actBury 49 = .ok (.ireturn, 1) := dk_172 (dk_at dksX6_actBury_2 3 rfl rfl)
abbrev cX6_whyNot : ByteArray := prog_21_method_41_code
def yX6_whyNot : MethodName := ⟨RX6, "whyNot", "(IIIIIZ)I"⟩
def dkwX6_whyNot_8 : List UInt8 := [167, 0, 4, 3, 172]
abbrev dktX6_whyNot_8 : List UInt8 := dkwX6_whyNot_8 ++ []
def dkwX6_whyNot_7 : List UInt8 := [167, 0, 19, 42, 180, 0, 135, 17, 1, 109, 42, 21, 4, 27, 182, 0, 234, 104, 96, 162, 0, 8, 16, 7]
abbrev dktX6_whyNot_7 : List UInt8 := dkwX6_whyNot_7 ++ dktX6_whyNot_8
def dkwX6_whyNot_6 : List UInt8 := [154, 0, 6, 16, 6, 172, 42, 180, 0, 38, 27, 46, 17, 28, 132, 96, 21, 6, 153, 0, 8, 21, 5]
abbrev dktX6_whyNot_6 : List UInt8 := dkwX6_whyNot_6 ++ dktX6_whyNot_7
def dkwX6_whyNot_5 : List UInt8 := [156, 0, 5, 8, 172, 42, 180, 0, 29, 27, 46, 8, 160, 0, 5, 3, 172, 42, 27, 29, 182, 0, 231]
abbrev dktX6_whyNot_5 : List UInt8 := dkwX6_whyNot_5 ++ dktX6_whyNot_6
def dkwX6_whyNot_4 : List UInt8 := [27, 46, 8, 159, 0, 15, 42, 180, 0, 32, 27, 46, 4, 159, 0, 5, 7, 172, 42, 27, 28, 182, 0, 228]
abbrev dktX6_whyNot_4 : List UInt8 := dkwX6_whyNot_4 ++ dktX6_whyNot_5
def dkwX6_whyNot_3 : List UInt8 := [180, 0, 83, 29, 51, 153, 0, 13, 42, 180, 0, 86, 29, 46, 4, 159, 0, 5, 6, 172, 42, 180, 0, 29]
abbrev dktX6_whyNot_3 : List UInt8 := dkwX6_whyNot_3 ++ dktX6_whyNot_4
def dkwX6_whyNot_2 : List UInt8 := [164, 0, 5, 4, 172, 42, 27, 21, 4, 182, 0, 225, 154, 0, 5, 5, 172, 21, 6, 154, 0, 24, 42]
abbrev dktX6_whyNot_2 : List UInt8 := dkwX6_whyNot_2 ++ dktX6_whyNot_3
def dkwX6_whyNot_1 : List UInt8 := [27, 182, 0, 222, 162, 0, 22, 42, 29, 182, 0, 183, 153, 0, 14, 21, 4, 155, 0, 9, 21, 4, 5]
abbrev dktX6_whyNot_1 : List UInt8 := dkwX6_whyNot_1 ++ dktX6_whyNot_2
def dkwX6_whyNot_0 : List UInt8 := [42, 27, 182, 0, 186, 153, 0, 45, 42, 180, 0, 32, 27, 46, 7, 159, 0, 35, 28, 155, 0, 31, 28, 42]
abbrev dktX6_whyNot_0 : List UInt8 := dkwX6_whyNot_0 ++ dktX6_whyNot_1
theorem dksX6_whyNot_0 : cX6_whyNot.data.toList.drop 0 = dktX6_whyNot_0 := by decide +kernel
theorem dksX6_whyNot_1 : cX6_whyNot.data.toList.drop 24 = dktX6_whyNot_1 := dk_seg dksX6_whyNot_0 24 rfl rfl
theorem dksX6_whyNot_2 : cX6_whyNot.data.toList.drop 47 = dktX6_whyNot_2 := dk_seg dksX6_whyNot_1 23 rfl rfl
theorem dksX6_whyNot_3 : cX6_whyNot.data.toList.drop 70 = dktX6_whyNot_3 := dk_seg dksX6_whyNot_2 23 rfl rfl
theorem dksX6_whyNot_4 : cX6_whyNot.data.toList.drop 94 = dktX6_whyNot_4 := dk_seg dksX6_whyNot_3 24 rfl rfl
theorem dksX6_whyNot_5 : cX6_whyNot.data.toList.drop 118 = dktX6_whyNot_5 := dk_seg dksX6_whyNot_4 24 rfl rfl
theorem dksX6_whyNot_6 : cX6_whyNot.data.toList.drop 141 = dktX6_whyNot_6 := dk_seg dksX6_whyNot_5 23 rfl rfl
theorem dksX6_whyNot_7 : cX6_whyNot.data.toList.drop 164 = dktX6_whyNot_7 := dk_seg dksX6_whyNot_6 23 rfl rfl
theorem dksX6_whyNot_8 : cX6_whyNot.data.toList.drop 188 = dktX6_whyNot_8 := dk_seg dksX6_whyNot_7 24 rfl rfl
theorem dX6_whyNot_0 : decode cX6_whyNot 0 = .ok (.aload_n 0, 1) := dk_42 (dk_at dksX6_whyNot_0 0 rfl rfl)
theorem dX6_whyNot_1 : decode cX6_whyNot 1 = .ok (.iload_n 1, 1) := dk_27 (dk_at dksX6_whyNot_0 1 rfl rfl)
theorem dX6_whyNot_2 : decode cX6_whyNot 2 = .ok (.invokevirtual 186, 3) := dk_182 0 186 (dk_at dksX6_whyNot_0 2 rfl rfl)
theorem dX6_whyNot_5 : decode cX6_whyNot 5 = .ok (.ifCond .eq 45, 3) := dk_153 0 45 (dk_at dksX6_whyNot_0 5 rfl rfl)
theorem dX6_whyNot_8 : decode cX6_whyNot 8 = .ok (.aload_n 0, 1) := dk_42 (dk_at dksX6_whyNot_0 8 rfl rfl)
theorem dX6_whyNot_9 : decode cX6_whyNot 9 = .ok (.getfield 32, 3) := dk_180 0 32 (dk_at dksX6_whyNot_0 9 rfl rfl)
theorem dX6_whyNot_12 : decode cX6_whyNot 12 = .ok (.iload_n 1, 1) := dk_27 (dk_at dksX6_whyNot_0 12 rfl rfl)
theorem dX6_whyNot_13 : decode cX6_whyNot 13 = .ok (.iaload, 1) := dk_46 (dk_at dksX6_whyNot_0 13 rfl rfl)
theorem dX6_whyNot_14 : decode cX6_whyNot 14 = .ok (.iconst 4, 1) := dk_7 (dk_at dksX6_whyNot_0 14 rfl rfl)
theorem dX6_whyNot_15 : decode cX6_whyNot 15 = .ok (.if_icmp .eq 35, 3) := dk_159 0 35 (dk_at dksX6_whyNot_0 15 rfl rfl)
theorem dX6_whyNot_18 : decode cX6_whyNot 18 = .ok (.iload_n 2, 1) := dk_28 (dk_at dksX6_whyNot_0 18 rfl rfl)
theorem dX6_whyNot_19 : decode cX6_whyNot 19 = .ok (.ifCond .lt 31, 3) := dk_155 0 31 (dk_at dksX6_whyNot_0 19 rfl rfl)
theorem dX6_whyNot_22 : decode cX6_whyNot 22 = .ok (.iload_n 2, 1) := dk_28 (dk_at dksX6_whyNot_0 22 rfl rfl)
theorem dX6_whyNot_23 : decode cX6_whyNot 23 = .ok (.aload_n 0, 1) := dk_42 (dk_at dksX6_whyNot_0 23 rfl rfl)
theorem dX6_whyNot_24 : decode cX6_whyNot 24 = .ok (.iload_n 1, 1) := dk_27 (dk_at dksX6_whyNot_1 0 rfl rfl)
theorem dX6_whyNot_25 : decode cX6_whyNot 25 = .ok (.invokevirtual 222, 3) := dk_182 0 222 (dk_at dksX6_whyNot_1 1 rfl rfl)
theorem dX6_whyNot_28 : decode cX6_whyNot 28 = .ok (.if_icmp .ge 22, 3) := dk_162 0 22 (dk_at dksX6_whyNot_1 4 rfl rfl)
theorem dX6_whyNot_31 : decode cX6_whyNot 31 = .ok (.aload_n 0, 1) := dk_42 (dk_at dksX6_whyNot_1 7 rfl rfl)
theorem dX6_whyNot_32 : decode cX6_whyNot 32 = .ok (.iload_n 3, 1) := dk_29 (dk_at dksX6_whyNot_1 8 rfl rfl)
theorem dX6_whyNot_33 : decode cX6_whyNot 33 = .ok (.invokevirtual 183, 3) := dk_182 0 183 (dk_at dksX6_whyNot_1 9 rfl rfl)
theorem dX6_whyNot_36 : decode cX6_whyNot 36 = .ok (.ifCond .eq 14, 3) := dk_153 0 14 (dk_at dksX6_whyNot_1 12 rfl rfl)
theorem dX6_whyNot_39 : decode cX6_whyNot 39 = .ok (.iload 4, 2) := dk_21 4 (dk_at dksX6_whyNot_1 15 rfl rfl)
theorem dX6_whyNot_41 : decode cX6_whyNot 41 = .ok (.ifCond .lt 9, 3) := dk_155 0 9 (dk_at dksX6_whyNot_1 17 rfl rfl)
theorem dX6_whyNot_44 : decode cX6_whyNot 44 = .ok (.iload 4, 2) := dk_21 4 (dk_at dksX6_whyNot_1 20 rfl rfl)
theorem dX6_whyNot_46 : decode cX6_whyNot 46 = .ok (.iconst 2, 1) := dk_5 (dk_at dksX6_whyNot_1 22 rfl rfl)
theorem dX6_whyNot_47 : decode cX6_whyNot 47 = .ok (.if_icmp .le 5, 3) := dk_164 0 5 (dk_at dksX6_whyNot_2 0 rfl rfl)
theorem dX6_whyNot_50 : decode cX6_whyNot 50 = .ok (.iconst 1, 1) := dk_4 (dk_at dksX6_whyNot_2 3 rfl rfl)
theorem dX6_whyNot_51 : decode cX6_whyNot 51 = .ok (.ireturn, 1) := dk_172 (dk_at dksX6_whyNot_2 4 rfl rfl)
theorem dX6_whyNot_52 : decode cX6_whyNot 52 = .ok (.aload_n 0, 1) := dk_42 (dk_at dksX6_whyNot_2 5 rfl rfl)
theorem dX6_whyNot_53 : decode cX6_whyNot 53 = .ok (.iload_n 1, 1) := dk_27 (dk_at dksX6_whyNot_2 6 rfl rfl)
theorem dX6_whyNot_54 : decode cX6_whyNot 54 = .ok (.iload 4, 2) := dk_21 4 (dk_at dksX6_whyNot_2 7 rfl rfl)
theorem dX6_whyNot_56 : decode cX6_whyNot 56 = .ok (.invokevirtual 225, 3) := dk_182 0 225 (dk_at dksX6_whyNot_2 9 rfl rfl)
theorem dX6_whyNot_59 : decode cX6_whyNot 59 = .ok (.ifCond .ne 5, 3) := dk_154 0 5 (dk_at dksX6_whyNot_2 12 rfl rfl)
theorem dX6_whyNot_62 : decode cX6_whyNot 62 = .ok (.iconst 2, 1) := dk_5 (dk_at dksX6_whyNot_2 15 rfl rfl)
theorem dX6_whyNot_63 : decode cX6_whyNot 63 = .ok (.ireturn, 1) := dk_172 (dk_at dksX6_whyNot_2 16 rfl rfl)
theorem dX6_whyNot_64 : decode cX6_whyNot 64 = .ok (.iload 6, 2) := dk_21 6 (dk_at dksX6_whyNot_2 17 rfl rfl)
theorem dX6_whyNot_66 : decode cX6_whyNot 66 = .ok (.ifCond .ne 24, 3) := dk_154 0 24 (dk_at dksX6_whyNot_2 19 rfl rfl)
theorem dX6_whyNot_69 : decode cX6_whyNot 69 = .ok (.aload_n 0, 1) := dk_42 (dk_at dksX6_whyNot_2 22 rfl rfl)
theorem dX6_whyNot_70 : decode cX6_whyNot 70 = .ok (.getfield 83, 3) := dk_180 0 83 (dk_at dksX6_whyNot_3 0 rfl rfl)
theorem dX6_whyNot_73 : decode cX6_whyNot 73 = .ok (.iload_n 3, 1) := dk_29 (dk_at dksX6_whyNot_3 3 rfl rfl)
theorem dX6_whyNot_74 : decode cX6_whyNot 74 = .ok (.baload, 1) := dk_51 (dk_at dksX6_whyNot_3 4 rfl rfl)
theorem dX6_whyNot_75 : decode cX6_whyNot 75 = .ok (.ifCond .eq 13, 3) := dk_153 0 13 (dk_at dksX6_whyNot_3 5 rfl rfl)
theorem dX6_whyNot_78 : decode cX6_whyNot 78 = .ok (.aload_n 0, 1) := dk_42 (dk_at dksX6_whyNot_3 8 rfl rfl)
theorem dX6_whyNot_79 : decode cX6_whyNot 79 = .ok (.getfield 86, 3) := dk_180 0 86 (dk_at dksX6_whyNot_3 9 rfl rfl)
theorem dX6_whyNot_82 : decode cX6_whyNot 82 = .ok (.iload_n 3, 1) := dk_29 (dk_at dksX6_whyNot_3 12 rfl rfl)
theorem dX6_whyNot_83 : decode cX6_whyNot 83 = .ok (.iaload, 1) := dk_46 (dk_at dksX6_whyNot_3 13 rfl rfl)
theorem dX6_whyNot_84 : decode cX6_whyNot 84 = .ok (.iconst 1, 1) := dk_4 (dk_at dksX6_whyNot_3 14 rfl rfl)
theorem dX6_whyNot_85 : decode cX6_whyNot 85 = .ok (.if_icmp .eq 5, 3) := dk_159 0 5 (dk_at dksX6_whyNot_3 15 rfl rfl)
theorem dX6_whyNot_88 : decode cX6_whyNot 88 = .ok (.iconst 3, 1) := dk_6 (dk_at dksX6_whyNot_3 18 rfl rfl)
theorem dX6_whyNot_89 : decode cX6_whyNot 89 = .ok (.ireturn, 1) := dk_172 (dk_at dksX6_whyNot_3 19 rfl rfl)
theorem dX6_whyNot_90 : decode cX6_whyNot 90 = .ok (.aload_n 0, 1) := dk_42 (dk_at dksX6_whyNot_3 20 rfl rfl)
theorem dX6_whyNot_91 : decode cX6_whyNot 91 = .ok (.getfield 29, 3) := dk_180 0 29 (dk_at dksX6_whyNot_3 21 rfl rfl)
theorem dX6_whyNot_94 : decode cX6_whyNot 94 = .ok (.iload_n 1, 1) := dk_27 (dk_at dksX6_whyNot_4 0 rfl rfl)
theorem dX6_whyNot_95 : decode cX6_whyNot 95 = .ok (.iaload, 1) := dk_46 (dk_at dksX6_whyNot_4 1 rfl rfl)
theorem dX6_whyNot_96 : decode cX6_whyNot 96 = .ok (.iconst 5, 1) := dk_8 (dk_at dksX6_whyNot_4 2 rfl rfl)
theorem dX6_whyNot_97 : decode cX6_whyNot 97 = .ok (.if_icmp .eq 15, 3) := dk_159 0 15 (dk_at dksX6_whyNot_4 3 rfl rfl)
theorem dX6_whyNot_100 : decode cX6_whyNot 100 = .ok (.aload_n 0, 1) := dk_42 (dk_at dksX6_whyNot_4 6 rfl rfl)
theorem dX6_whyNot_101 : decode cX6_whyNot 101 = .ok (.getfield 32, 3) := dk_180 0 32 (dk_at dksX6_whyNot_4 7 rfl rfl)
theorem dX6_whyNot_104 : decode cX6_whyNot 104 = .ok (.iload_n 1, 1) := dk_27 (dk_at dksX6_whyNot_4 10 rfl rfl)
theorem dX6_whyNot_105 : decode cX6_whyNot 105 = .ok (.iaload, 1) := dk_46 (dk_at dksX6_whyNot_4 11 rfl rfl)
theorem dX6_whyNot_106 : decode cX6_whyNot 106 = .ok (.iconst 1, 1) := dk_4 (dk_at dksX6_whyNot_4 12 rfl rfl)
theorem dX6_whyNot_107 : decode cX6_whyNot 107 = .ok (.if_icmp .eq 5, 3) := dk_159 0 5 (dk_at dksX6_whyNot_4 13 rfl rfl)
theorem dX6_whyNot_110 : decode cX6_whyNot 110 = .ok (.iconst 4, 1) := dk_7 (dk_at dksX6_whyNot_4 16 rfl rfl)
theorem dX6_whyNot_111 : decode cX6_whyNot 111 = .ok (.ireturn, 1) := dk_172 (dk_at dksX6_whyNot_4 17 rfl rfl)
theorem dX6_whyNot_112 : decode cX6_whyNot 112 = .ok (.aload_n 0, 1) := dk_42 (dk_at dksX6_whyNot_4 18 rfl rfl)
theorem dX6_whyNot_113 : decode cX6_whyNot 113 = .ok (.iload_n 1, 1) := dk_27 (dk_at dksX6_whyNot_4 19 rfl rfl)
theorem dX6_whyNot_114 : decode cX6_whyNot 114 = .ok (.iload_n 2, 1) := dk_28 (dk_at dksX6_whyNot_4 20 rfl rfl)
theorem dX6_whyNot_115 : decode cX6_whyNot 115 = .ok (.invokevirtual 228, 3) := dk_182 0 228 (dk_at dksX6_whyNot_4 21 rfl rfl)
theorem dX6_whyNot_118 : decode cX6_whyNot 118 = .ok (.ifCond .ge 5, 3) := dk_156 0 5 (dk_at dksX6_whyNot_5 0 rfl rfl)
theorem dX6_whyNot_121 : decode cX6_whyNot 121 = .ok (.iconst 5, 1) := dk_8 (dk_at dksX6_whyNot_5 3 rfl rfl)
theorem dX6_whyNot_122 : decode cX6_whyNot 122 = .ok (.ireturn, 1) := dk_172 (dk_at dksX6_whyNot_5 4 rfl rfl)
theorem dX6_whyNot_123 : decode cX6_whyNot 123 = .ok (.aload_n 0, 1) := dk_42 (dk_at dksX6_whyNot_5 5 rfl rfl)
theorem dX6_whyNot_124 : decode cX6_whyNot 124 = .ok (.getfield 29, 3) := dk_180 0 29 (dk_at dksX6_whyNot_5 6 rfl rfl)
theorem dX6_whyNot_127 : decode cX6_whyNot 127 = .ok (.iload_n 1, 1) := dk_27 (dk_at dksX6_whyNot_5 9 rfl rfl)
theorem dX6_whyNot_128 : decode cX6_whyNot 128 = .ok (.iaload, 1) := dk_46 (dk_at dksX6_whyNot_5 10 rfl rfl)
theorem dX6_whyNot_129 : decode cX6_whyNot 129 = .ok (.iconst 5, 1) := dk_8 (dk_at dksX6_whyNot_5 11 rfl rfl)
theorem dX6_whyNot_130 : decode cX6_whyNot 130 = .ok (.if_icmp .ne 5, 3) := dk_160 0 5 (dk_at dksX6_whyNot_5 12 rfl rfl)
theorem dX6_whyNot_133 : decode cX6_whyNot 133 = .ok (.iconst 0, 1) := dk_3 (dk_at dksX6_whyNot_5 15 rfl rfl)
theorem dX6_whyNot_134 : decode cX6_whyNot 134 = .ok (.ireturn, 1) := dk_172 (dk_at dksX6_whyNot_5 16 rfl rfl)
theorem dX6_whyNot_135 : decode cX6_whyNot 135 = .ok (.aload_n 0, 1) := dk_42 (dk_at dksX6_whyNot_5 17 rfl rfl)
theorem dX6_whyNot_136 : decode cX6_whyNot 136 = .ok (.iload_n 1, 1) := dk_27 (dk_at dksX6_whyNot_5 18 rfl rfl)
theorem dX6_whyNot_137 : decode cX6_whyNot 137 = .ok (.iload_n 3, 1) := dk_29 (dk_at dksX6_whyNot_5 19 rfl rfl)
theorem dX6_whyNot_138 : decode cX6_whyNot 138 = .ok (.invokevirtual 231, 3) := dk_182 0 231 (dk_at dksX6_whyNot_5 20 rfl rfl)
theorem dX6_whyNot_141 : decode cX6_whyNot 141 = .ok (.ifCond .ne 6, 3) := dk_154 0 6 (dk_at dksX6_whyNot_6 0 rfl rfl)
theorem dX6_whyNot_144 : decode cX6_whyNot 144 = .ok (.bipush 6, 2) := dk_16 6 (dk_at dksX6_whyNot_6 3 rfl rfl)
theorem dX6_whyNot_146 : decode cX6_whyNot 146 = .ok (.ireturn, 1) := dk_172 (dk_at dksX6_whyNot_6 5 rfl rfl)
theorem dX6_whyNot_147 : decode cX6_whyNot 147 = .ok (.aload_n 0, 1) := dk_42 (dk_at dksX6_whyNot_6 6 rfl rfl)
theorem dX6_whyNot_148 : decode cX6_whyNot 148 = .ok (.getfield 38, 3) := dk_180 0 38 (dk_at dksX6_whyNot_6 7 rfl rfl)
theorem dX6_whyNot_151 : decode cX6_whyNot 151 = .ok (.iload_n 1, 1) := dk_27 (dk_at dksX6_whyNot_6 10 rfl rfl)
theorem dX6_whyNot_152 : decode cX6_whyNot 152 = .ok (.iaload, 1) := dk_46 (dk_at dksX6_whyNot_6 11 rfl rfl)
theorem dX6_whyNot_153 : decode cX6_whyNot 153 = .ok (.sipush 7300, 3) := dk_17 28 132 (dk_at dksX6_whyNot_6 12 rfl rfl)
theorem dX6_whyNot_156 : decode cX6_whyNot 156 = .ok (.iadd, 1) := dk_96 (dk_at dksX6_whyNot_6 15 rfl rfl)
theorem dX6_whyNot_157 : decode cX6_whyNot 157 = .ok (.iload 6, 2) := dk_21 6 (dk_at dksX6_whyNot_6 16 rfl rfl)
theorem dX6_whyNot_159 : decode cX6_whyNot 159 = .ok (.ifCond .eq 8, 3) := dk_153 0 8 (dk_at dksX6_whyNot_6 18 rfl rfl)
theorem dX6_whyNot_162 : decode cX6_whyNot 162 = .ok (.iload 5, 2) := dk_21 5 (dk_at dksX6_whyNot_6 21 rfl rfl)
theorem dX6_whyNot_164 : decode cX6_whyNot 164 = .ok (.goto 19, 3) := dk_167 0 19 (dk_at dksX6_whyNot_7 0 rfl rfl)
theorem dX6_whyNot_167 : decode cX6_whyNot 167 = .ok (.aload_n 0, 1) := dk_42 (dk_at dksX6_whyNot_7 3 rfl rfl)
theorem dX6_whyNot_168 : decode cX6_whyNot 168 = .ok (.getfield 135, 3) := dk_180 0 135 (dk_at dksX6_whyNot_7 4 rfl rfl)
theorem dX6_whyNot_171 : decode cX6_whyNot 171 = .ok (.sipush 365, 3) := dk_17 1 109 (dk_at dksX6_whyNot_7 7 rfl rfl)
theorem dX6_whyNot_174 : decode cX6_whyNot 174 = .ok (.aload_n 0, 1) := dk_42 (dk_at dksX6_whyNot_7 10 rfl rfl)
theorem dX6_whyNot_175 : decode cX6_whyNot 175 = .ok (.iload 4, 2) := dk_21 4 (dk_at dksX6_whyNot_7 11 rfl rfl)
theorem dX6_whyNot_177 : decode cX6_whyNot 177 = .ok (.iload_n 1, 1) := dk_27 (dk_at dksX6_whyNot_7 13 rfl rfl)
theorem dX6_whyNot_178 : decode cX6_whyNot 178 = .ok (.invokevirtual 234, 3) := dk_182 0 234 (dk_at dksX6_whyNot_7 14 rfl rfl)
theorem dX6_whyNot_181 : decode cX6_whyNot 181 = .ok (.imul, 1) := dk_104 (dk_at dksX6_whyNot_7 17 rfl rfl)
theorem dX6_whyNot_182 : decode cX6_whyNot 182 = .ok (.iadd, 1) := dk_96 (dk_at dksX6_whyNot_7 18 rfl rfl)
theorem dX6_whyNot_183 : decode cX6_whyNot 183 = .ok (.if_icmp .ge 8, 3) := dk_162 0 8 (dk_at dksX6_whyNot_7 19 rfl rfl)
theorem dX6_whyNot_186 : decode cX6_whyNot 186 = .ok (.bipush 7, 2) := dk_16 7 (dk_at dksX6_whyNot_7 22 rfl rfl)
theorem dX6_whyNot_188 : decode cX6_whyNot 188 = .ok (.goto 4, 3) := dk_167 0 4 (dk_at dksX6_whyNot_8 0 rfl rfl)
theorem dX6_whyNot_191 : decode cX6_whyNot 191 = .ok (.iconst 0, 1) := dk_3 (dk_at dksX6_whyNot_8 3 rfl rfl)
theorem dX6_whyNot_192 : decode cX6_whyNot 192 = .ok (.ireturn, 1) := dk_172 (dk_at dksX6_whyNot_8 4 rfl rfl)
abbrev cX6_columns : ByteArray := prog_21_method_19_code
def yX6_columns : MethodName := ⟨RX6, "columns", "(I)I"⟩
def dkwX6_columns_1 : List UInt8 := [46, 7, 160, 0, 7, 7, 167, 0, 4, 4, 172]
abbrev dktX6_columns_1 : List UInt8 := dkwX6_columns_1 ++ []
def dkwX6_columns_0 : List UInt8 := [42, 180, 0, 29, 27, 46, 6, 160, 0, 12, 42, 180, 0, 53, 27, 46, 167, 0, 18, 42, 180, 0, 29, 27]
abbrev dktX6_columns_0 : List UInt8 := dkwX6_columns_0 ++ dktX6_columns_1
theorem dksX6_columns_0 : cX6_columns.data.toList.drop 0 = dktX6_columns_0 := by decide +kernel
theorem dksX6_columns_1 : cX6_columns.data.toList.drop 24 = dktX6_columns_1 := dk_seg dksX6_columns_0 24 rfl rfl
theorem dX6_columns_0 : decode cX6_columns 0 = .ok (.aload_n 0, 1) := dk_42 (dk_at dksX6_columns_0 0 rfl rfl)
theorem dX6_columns_1 : decode cX6_columns 1 = .ok (.getfield 29, 3) := dk_180 0 29 (dk_at dksX6_columns_0 1 rfl rfl)
theorem dX6_columns_4 : decode cX6_columns 4 = .ok (.iload_n 1, 1) := dk_27 (dk_at dksX6_columns_0 4 rfl rfl)
theorem dX6_columns_5 : decode cX6_columns 5 = .ok (.iaload, 1) := dk_46 (dk_at dksX6_columns_0 5 rfl rfl)
theorem dX6_columns_6 : decode cX6_columns 6 = .ok (.iconst 3, 1) := dk_6 (dk_at dksX6_columns_0 6 rfl rfl)
theorem dX6_columns_7 : decode cX6_columns 7 = .ok (.if_icmp .ne 12, 3) := dk_160 0 12 (dk_at dksX6_columns_0 7 rfl rfl)
theorem dX6_columns_10 : decode cX6_columns 10 = .ok (.aload_n 0, 1) := dk_42 (dk_at dksX6_columns_0 10 rfl rfl)
theorem dX6_columns_11 : decode cX6_columns 11 = .ok (.getfield 53, 3) := dk_180 0 53 (dk_at dksX6_columns_0 11 rfl rfl)
theorem dX6_columns_14 : decode cX6_columns 14 = .ok (.iload_n 1, 1) := dk_27 (dk_at dksX6_columns_0 14 rfl rfl)
theorem dX6_columns_15 : decode cX6_columns 15 = .ok (.iaload, 1) := dk_46 (dk_at dksX6_columns_0 15 rfl rfl)
theorem dX6_columns_16 : decode cX6_columns 16 = .ok (.goto 18, 3) := dk_167 0 18 (dk_at dksX6_columns_0 16 rfl rfl)
theorem dX6_columns_19 : decode cX6_columns 19 = .ok (.aload_n 0, 1) := dk_42 (dk_at dksX6_columns_0 19 rfl rfl)
theorem dX6_columns_20 : decode cX6_columns 20 = .ok (.getfield 29, 3) := dk_180 0 29 (dk_at dksX6_columns_0 20 rfl rfl)
theorem dX6_columns_23 : decode cX6_columns 23 = .ok (.iload_n 1, 1) := dk_27 (dk_at dksX6_columns_0 23 rfl rfl)
theorem dX6_columns_24 : decode cX6_columns 24 = .ok (.iaload, 1) := dk_46 (dk_at dksX6_columns_1 0 rfl rfl)
theorem dX6_columns_25 : decode cX6_columns 25 = .ok (.iconst 4, 1) := dk_7 (dk_at dksX6_columns_1 1 rfl rfl)
theorem dX6_columns_26 : decode cX6_columns 26 = .ok (.if_icmp .ne 7, 3) := dk_160 0 7 (dk_at dksX6_columns_1 2 rfl rfl)
theorem dX6_columns_29 : decode cX6_columns 29 = .ok (.iconst 4, 1) := dk_7 (dk_at dksX6_columns_1 5 rfl rfl)
theorem dX6_columns_30 : decode cX6_columns 30 = .ok (.goto 4, 3) := dk_167 0 4 (dk_at dksX6_columns_1 6 rfl rfl)
theorem dX6_columns_33 : decode cX6_columns 33 = .ok (.iconst 1, 1) := dk_4 (dk_at dksX6_columns_1 9 rfl rfl)
theorem dX6_columns_34 : decode cX6_columns 34 = .ok (.ireturn, 1) := dk_172 (dk_at dksX6_columns_1 10 rfl rfl)
abbrev cX6_takesKind : ByteArray := prog_21_method_39_code
def yX6_takesKind : MethodName := ⟨RX6, "takesKind", "(II)Z"⟩
def dkwX6_takesKind_2 : List UInt8 := [160, 0, 7, 4, 167, 0, 17, 3, 167, 0, 13, 28, 4, 159, 0, 7, 4, 167, 0, 4, 3, 172]
abbrev dktX6_takesKind_2 : List UInt8 := dkwX6_takesKind_2 ++ []
def dkwX6_takesKind_1 : List UInt8 := [160, 0, 7, 4, 167, 0, 41, 3, 167, 0, 37, 42, 180, 0, 29, 27, 46, 16, 6, 160, 0, 16, 28, 5]
abbrev dktX6_takesKind_1 : List UInt8 := dkwX6_takesKind_1 ++ dktX6_takesKind_2
def dkwX6_takesKind_0 : List UInt8 := [42, 180, 0, 29, 27, 46, 7, 159, 0, 13, 42, 180, 0, 29, 27, 46, 8, 160, 0, 16, 28, 4]
abbrev dktX6_takesKind_0 : List UInt8 := dkwX6_takesKind_0 ++ dktX6_takesKind_1
theorem dksX6_takesKind_0 : cX6_takesKind.data.toList.drop 0 = dktX6_takesKind_0 := by decide +kernel
theorem dksX6_takesKind_1 : cX6_takesKind.data.toList.drop 22 = dktX6_takesKind_1 := dk_seg dksX6_takesKind_0 22 rfl rfl
theorem dksX6_takesKind_2 : cX6_takesKind.data.toList.drop 46 = dktX6_takesKind_2 := dk_seg dksX6_takesKind_1 24 rfl rfl
theorem dX6_takesKind_0 : decode cX6_takesKind 0 = .ok (.aload_n 0, 1) := dk_42 (dk_at dksX6_takesKind_0 0 rfl rfl)
theorem dX6_takesKind_1 : decode cX6_takesKind 1 = .ok (.getfield 29, 3) := dk_180 0 29 (dk_at dksX6_takesKind_0 1 rfl rfl)
theorem dX6_takesKind_4 : decode cX6_takesKind 4 = .ok (.iload_n 1, 1) := dk_27 (dk_at dksX6_takesKind_0 4 rfl rfl)
theorem dX6_takesKind_5 : decode cX6_takesKind 5 = .ok (.iaload, 1) := dk_46 (dk_at dksX6_takesKind_0 5 rfl rfl)
theorem dX6_takesKind_6 : decode cX6_takesKind 6 = .ok (.iconst 4, 1) := dk_7 (dk_at dksX6_takesKind_0 6 rfl rfl)
theorem dX6_takesKind_7 : decode cX6_takesKind 7 = .ok (.if_icmp .eq 13, 3) := dk_159 0 13 (dk_at dksX6_takesKind_0 7 rfl rfl)
theorem dX6_takesKind_10 : decode cX6_takesKind 10 = .ok (.aload_n 0, 1) := dk_42 (dk_at dksX6_takesKind_0 10 rfl rfl)
theorem dX6_takesKind_11 : decode cX6_takesKind 11 = .ok (.getfield 29, 3) := dk_180 0 29 (dk_at dksX6_takesKind_0 11 rfl rfl)
theorem dX6_takesKind_14 : decode cX6_takesKind 14 = .ok (.iload_n 1, 1) := dk_27 (dk_at dksX6_takesKind_0 14 rfl rfl)
theorem dX6_takesKind_15 : decode cX6_takesKind 15 = .ok (.iaload, 1) := dk_46 (dk_at dksX6_takesKind_0 15 rfl rfl)
theorem dX6_takesKind_16 : decode cX6_takesKind 16 = .ok (.iconst 5, 1) := dk_8 (dk_at dksX6_takesKind_0 16 rfl rfl)
theorem dX6_takesKind_17 : decode cX6_takesKind 17 = .ok (.if_icmp .ne 16, 3) := dk_160 0 16 (dk_at dksX6_takesKind_0 17 rfl rfl)
theorem dX6_takesKind_20 : decode cX6_takesKind 20 = .ok (.iload_n 2, 1) := dk_28 (dk_at dksX6_takesKind_0 20 rfl rfl)
theorem dX6_takesKind_21 : decode cX6_takesKind 21 = .ok (.iconst 1, 1) := dk_4 (dk_at dksX6_takesKind_0 21 rfl rfl)
theorem dX6_takesKind_22 : decode cX6_takesKind 22 = .ok (.if_icmp .ne 7, 3) := dk_160 0 7 (dk_at dksX6_takesKind_1 0 rfl rfl)
theorem dX6_takesKind_25 : decode cX6_takesKind 25 = .ok (.iconst 1, 1) := dk_4 (dk_at dksX6_takesKind_1 3 rfl rfl)
theorem dX6_takesKind_26 : decode cX6_takesKind 26 = .ok (.goto 41, 3) := dk_167 0 41 (dk_at dksX6_takesKind_1 4 rfl rfl)
theorem dX6_takesKind_29 : decode cX6_takesKind 29 = .ok (.iconst 0, 1) := dk_3 (dk_at dksX6_takesKind_1 7 rfl rfl)
theorem dX6_takesKind_30 : decode cX6_takesKind 30 = .ok (.goto 37, 3) := dk_167 0 37 (dk_at dksX6_takesKind_1 8 rfl rfl)
theorem dX6_takesKind_33 : decode cX6_takesKind 33 = .ok (.aload_n 0, 1) := dk_42 (dk_at dksX6_takesKind_1 11 rfl rfl)
theorem dX6_takesKind_34 : decode cX6_takesKind 34 = .ok (.getfield 29, 3) := dk_180 0 29 (dk_at dksX6_takesKind_1 12 rfl rfl)
theorem dX6_takesKind_37 : decode cX6_takesKind 37 = .ok (.iload_n 1, 1) := dk_27 (dk_at dksX6_takesKind_1 15 rfl rfl)
theorem dX6_takesKind_38 : decode cX6_takesKind 38 = .ok (.iaload, 1) := dk_46 (dk_at dksX6_takesKind_1 16 rfl rfl)
theorem dX6_takesKind_39 : decode cX6_takesKind 39 = .ok (.bipush 6, 2) := dk_16 6 (dk_at dksX6_takesKind_1 17 rfl rfl)
theorem dX6_takesKind_41 : decode cX6_takesKind 41 = .ok (.if_icmp .ne 16, 3) := dk_160 0 16 (dk_at dksX6_takesKind_1 19 rfl rfl)
theorem dX6_takesKind_44 : decode cX6_takesKind 44 = .ok (.iload_n 2, 1) := dk_28 (dk_at dksX6_takesKind_1 22 rfl rfl)
theorem dX6_takesKind_45 : decode cX6_takesKind 45 = .ok (.iconst 2, 1) := dk_5 (dk_at dksX6_takesKind_1 23 rfl rfl)
theorem dX6_takesKind_46 : decode cX6_takesKind 46 = .ok (.if_icmp .ne 7, 3) := dk_160 0 7 (dk_at dksX6_takesKind_2 0 rfl rfl)
theorem dX6_takesKind_49 : decode cX6_takesKind 49 = .ok (.iconst 1, 1) := dk_4 (dk_at dksX6_takesKind_2 3 rfl rfl)
theorem dX6_takesKind_50 : decode cX6_takesKind 50 = .ok (.goto 17, 3) := dk_167 0 17 (dk_at dksX6_takesKind_2 4 rfl rfl)
theorem dX6_takesKind_53 : decode cX6_takesKind 53 = .ok (.iconst 0, 1) := dk_3 (dk_at dksX6_takesKind_2 7 rfl rfl)
theorem dX6_takesKind_54 : decode cX6_takesKind 54 = .ok (.goto 13, 3) := dk_167 0 13 (dk_at dksX6_takesKind_2 8 rfl rfl)
theorem dX6_takesKind_57 : decode cX6_takesKind 57 = .ok (.iload_n 2, 1) := dk_28 (dk_at dksX6_takesKind_2 11 rfl rfl)
theorem dX6_takesKind_58 : decode cX6_takesKind 58 = .ok (.iconst 1, 1) := dk_4 (dk_at dksX6_takesKind_2 12 rfl rfl)
theorem dX6_takesKind_59 : decode cX6_takesKind 59 = .ok (.if_icmp .eq 7, 3) := dk_159 0 7 (dk_at dksX6_takesKind_2 13 rfl rfl)
theorem dX6_takesKind_62 : decode cX6_takesKind 62 = .ok (.iconst 1, 1) := dk_4 (dk_at dksX6_takesKind_2 16 rfl rfl)
theorem dX6_takesKind_63 : decode cX6_takesKind 63 = .ok (.goto 4, 3) := dk_167 0 4 (dk_at dksX6_takesKind_2 17 rfl rfl)
theorem dX6_takesKind_66 : decode cX6_takesKind 66 = .ok (.iconst 0, 1) := dk_3 (dk_at dksX6_takesKind_2 20 rfl rfl)
theorem dX6_takesKind_67 : decode cX6_takesKind 67 = .ok (.ireturn, 1) := dk_172 (dk_at dksX6_takesKind_2 21 rfl rfl)
abbrev cX6_roomIn : ByteArray := prog_21_method_40_code
def yX6_roomIn : MethodName := ⟨RX6, "roomIn", "(II)I"⟩
def dkwX6_roomIn_5 : List UInt8 := [153, 0, 16, 42, 21, 4, 182, 0, 219, 154, 0, 7, 4, 167, 0, 4, 3, 172]
abbrev dktX6_roomIn_5 : List UInt8 := dkwX6_roomIn_5 ++ []
def dkwX6_roomIn_4 : List UInt8 := [46, 5, 159, 0, 13, 42, 180, 0, 29, 27, 46, 6, 160, 0, 7, 4, 167, 0, 4, 3, 54, 5, 21, 5]
abbrev dktX6_roomIn_4 : List UInt8 := dkwX6_roomIn_4 ++ dktX6_roomIn_5
def dkwX6_roomIn_3 : List UInt8 := [156, 0, 7, 3, 167, 0, 4, 2, 172, 42, 29, 182, 0, 219, 153, 0, 5, 2, 172, 42, 180, 0, 29, 27]
abbrev dktX6_roomIn_3 : List UInt8 := dkwX6_roomIn_3 ++ dktX6_roomIn_4
def dkwX6_roomIn_2 : List UInt8 := [16, 8, 27, 104, 5, 28, 104, 96, 4, 96, 46, 54, 4, 42, 180, 0, 29, 27, 46, 7, 160, 0, 13, 29]
abbrev dktX6_roomIn_2 : List UInt8 := dkwX6_roomIn_2 ++ dktX6_roomIn_3
def dkwX6_roomIn_1 : List UInt8 := [167, 0, 4, 2, 172, 42, 180, 0, 71, 16, 8, 27, 104, 5, 28, 104, 96, 46, 62, 42, 180, 0, 71]
abbrev dktX6_roomIn_1 : List UInt8 := dkwX6_roomIn_1 ++ dktX6_roomIn_2
def dkwX6_roomIn_0 : List UInt8 := [42, 180, 0, 29, 27, 46, 8, 160, 0, 20, 42, 180, 0, 77, 27, 46, 16, 40, 162, 0, 7, 3]
abbrev dktX6_roomIn_0 : List UInt8 := dkwX6_roomIn_0 ++ dktX6_roomIn_1
theorem dksX6_roomIn_0 : cX6_roomIn.data.toList.drop 0 = dktX6_roomIn_0 := by decide +kernel
theorem dksX6_roomIn_1 : cX6_roomIn.data.toList.drop 22 = dktX6_roomIn_1 := dk_seg dksX6_roomIn_0 22 rfl rfl
theorem dksX6_roomIn_2 : cX6_roomIn.data.toList.drop 45 = dktX6_roomIn_2 := dk_seg dksX6_roomIn_1 23 rfl rfl
theorem dksX6_roomIn_3 : cX6_roomIn.data.toList.drop 69 = dktX6_roomIn_3 := dk_seg dksX6_roomIn_2 24 rfl rfl
theorem dksX6_roomIn_4 : cX6_roomIn.data.toList.drop 93 = dktX6_roomIn_4 := dk_seg dksX6_roomIn_3 24 rfl rfl
theorem dksX6_roomIn_5 : cX6_roomIn.data.toList.drop 117 = dktX6_roomIn_5 := dk_seg dksX6_roomIn_4 24 rfl rfl
theorem dX6_roomIn_0 : decode cX6_roomIn 0 = .ok (.aload_n 0, 1) := dk_42 (dk_at dksX6_roomIn_0 0 rfl rfl)
theorem dX6_roomIn_1 : decode cX6_roomIn 1 = .ok (.getfield 29, 3) := dk_180 0 29 (dk_at dksX6_roomIn_0 1 rfl rfl)
theorem dX6_roomIn_4 : decode cX6_roomIn 4 = .ok (.iload_n 1, 1) := dk_27 (dk_at dksX6_roomIn_0 4 rfl rfl)
theorem dX6_roomIn_5 : decode cX6_roomIn 5 = .ok (.iaload, 1) := dk_46 (dk_at dksX6_roomIn_0 5 rfl rfl)
theorem dX6_roomIn_6 : decode cX6_roomIn 6 = .ok (.iconst 5, 1) := dk_8 (dk_at dksX6_roomIn_0 6 rfl rfl)
theorem dX6_roomIn_7 : decode cX6_roomIn 7 = .ok (.if_icmp .ne 20, 3) := dk_160 0 20 (dk_at dksX6_roomIn_0 7 rfl rfl)
theorem dX6_roomIn_10 : decode cX6_roomIn 10 = .ok (.aload_n 0, 1) := dk_42 (dk_at dksX6_roomIn_0 10 rfl rfl)
theorem dX6_roomIn_11 : decode cX6_roomIn 11 = .ok (.getfield 77, 3) := dk_180 0 77 (dk_at dksX6_roomIn_0 11 rfl rfl)
theorem dX6_roomIn_14 : decode cX6_roomIn 14 = .ok (.iload_n 1, 1) := dk_27 (dk_at dksX6_roomIn_0 14 rfl rfl)
theorem dX6_roomIn_15 : decode cX6_roomIn 15 = .ok (.iaload, 1) := dk_46 (dk_at dksX6_roomIn_0 15 rfl rfl)
theorem dX6_roomIn_16 : decode cX6_roomIn 16 = .ok (.bipush 40, 2) := dk_16 40 (dk_at dksX6_roomIn_0 16 rfl rfl)
theorem dX6_roomIn_18 : decode cX6_roomIn 18 = .ok (.if_icmp .ge 7, 3) := dk_162 0 7 (dk_at dksX6_roomIn_0 18 rfl rfl)
theorem dX6_roomIn_21 : decode cX6_roomIn 21 = .ok (.iconst 0, 1) := dk_3 (dk_at dksX6_roomIn_0 21 rfl rfl)
theorem dX6_roomIn_22 : decode cX6_roomIn 22 = .ok (.goto 4, 3) := dk_167 0 4 (dk_at dksX6_roomIn_1 0 rfl rfl)
theorem dX6_roomIn_25 : decode cX6_roomIn 25 = .ok (.iconst (-1), 1) := dk_2 (dk_at dksX6_roomIn_1 3 rfl rfl)
theorem dX6_roomIn_26 : decode cX6_roomIn 26 = .ok (.ireturn, 1) := dk_172 (dk_at dksX6_roomIn_1 4 rfl rfl)
theorem dX6_roomIn_27 : decode cX6_roomIn 27 = .ok (.aload_n 0, 1) := dk_42 (dk_at dksX6_roomIn_1 5 rfl rfl)
theorem dX6_roomIn_28 : decode cX6_roomIn 28 = .ok (.getfield 71, 3) := dk_180 0 71 (dk_at dksX6_roomIn_1 6 rfl rfl)
theorem dX6_roomIn_31 : decode cX6_roomIn 31 = .ok (.bipush 8, 2) := dk_16 8 (dk_at dksX6_roomIn_1 9 rfl rfl)
theorem dX6_roomIn_33 : decode cX6_roomIn 33 = .ok (.iload_n 1, 1) := dk_27 (dk_at dksX6_roomIn_1 11 rfl rfl)
theorem dX6_roomIn_34 : decode cX6_roomIn 34 = .ok (.imul, 1) := dk_104 (dk_at dksX6_roomIn_1 12 rfl rfl)
theorem dX6_roomIn_35 : decode cX6_roomIn 35 = .ok (.iconst 2, 1) := dk_5 (dk_at dksX6_roomIn_1 13 rfl rfl)
theorem dX6_roomIn_36 : decode cX6_roomIn 36 = .ok (.iload_n 2, 1) := dk_28 (dk_at dksX6_roomIn_1 14 rfl rfl)
theorem dX6_roomIn_37 : decode cX6_roomIn 37 = .ok (.imul, 1) := dk_104 (dk_at dksX6_roomIn_1 15 rfl rfl)
theorem dX6_roomIn_38 : decode cX6_roomIn 38 = .ok (.iadd, 1) := dk_96 (dk_at dksX6_roomIn_1 16 rfl rfl)
theorem dX6_roomIn_39 : decode cX6_roomIn 39 = .ok (.iaload, 1) := dk_46 (dk_at dksX6_roomIn_1 17 rfl rfl)
theorem dX6_roomIn_40 : decode cX6_roomIn 40 = .ok (.istore_n 3, 1) := dk_62 (dk_at dksX6_roomIn_1 18 rfl rfl)
theorem dX6_roomIn_41 : decode cX6_roomIn 41 = .ok (.aload_n 0, 1) := dk_42 (dk_at dksX6_roomIn_1 19 rfl rfl)
theorem dX6_roomIn_42 : decode cX6_roomIn 42 = .ok (.getfield 71, 3) := dk_180 0 71 (dk_at dksX6_roomIn_1 20 rfl rfl)
theorem dX6_roomIn_45 : decode cX6_roomIn 45 = .ok (.bipush 8, 2) := dk_16 8 (dk_at dksX6_roomIn_2 0 rfl rfl)
theorem dX6_roomIn_47 : decode cX6_roomIn 47 = .ok (.iload_n 1, 1) := dk_27 (dk_at dksX6_roomIn_2 2 rfl rfl)
theorem dX6_roomIn_48 : decode cX6_roomIn 48 = .ok (.imul, 1) := dk_104 (dk_at dksX6_roomIn_2 3 rfl rfl)
theorem dX6_roomIn_49 : decode cX6_roomIn 49 = .ok (.iconst 2, 1) := dk_5 (dk_at dksX6_roomIn_2 4 rfl rfl)
theorem dX6_roomIn_50 : decode cX6_roomIn 50 = .ok (.iload_n 2, 1) := dk_28 (dk_at dksX6_roomIn_2 5 rfl rfl)
theorem dX6_roomIn_51 : decode cX6_roomIn 51 = .ok (.imul, 1) := dk_104 (dk_at dksX6_roomIn_2 6 rfl rfl)
theorem dX6_roomIn_52 : decode cX6_roomIn 52 = .ok (.iadd, 1) := dk_96 (dk_at dksX6_roomIn_2 7 rfl rfl)
theorem dX6_roomIn_53 : decode cX6_roomIn 53 = .ok (.iconst 1, 1) := dk_4 (dk_at dksX6_roomIn_2 8 rfl rfl)
theorem dX6_roomIn_54 : decode cX6_roomIn 54 = .ok (.iadd, 1) := dk_96 (dk_at dksX6_roomIn_2 9 rfl rfl)
theorem dX6_roomIn_55 : decode cX6_roomIn 55 = .ok (.iaload, 1) := dk_46 (dk_at dksX6_roomIn_2 10 rfl rfl)
theorem dX6_roomIn_56 : decode cX6_roomIn 56 = .ok (.istore 4, 2) := dk_54 4 (dk_at dksX6_roomIn_2 11 rfl rfl)
theorem dX6_roomIn_58 : decode cX6_roomIn 58 = .ok (.aload_n 0, 1) := dk_42 (dk_at dksX6_roomIn_2 13 rfl rfl)
theorem dX6_roomIn_59 : decode cX6_roomIn 59 = .ok (.getfield 29, 3) := dk_180 0 29 (dk_at dksX6_roomIn_2 14 rfl rfl)
theorem dX6_roomIn_62 : decode cX6_roomIn 62 = .ok (.iload_n 1, 1) := dk_27 (dk_at dksX6_roomIn_2 17 rfl rfl)
theorem dX6_roomIn_63 : decode cX6_roomIn 63 = .ok (.iaload, 1) := dk_46 (dk_at dksX6_roomIn_2 18 rfl rfl)
theorem dX6_roomIn_64 : decode cX6_roomIn 64 = .ok (.iconst 4, 1) := dk_7 (dk_at dksX6_roomIn_2 19 rfl rfl)
theorem dX6_roomIn_65 : decode cX6_roomIn 65 = .ok (.if_icmp .ne 13, 3) := dk_160 0 13 (dk_at dksX6_roomIn_2 20 rfl rfl)
theorem dX6_roomIn_68 : decode cX6_roomIn 68 = .ok (.iload_n 3, 1) := dk_29 (dk_at dksX6_roomIn_2 23 rfl rfl)
theorem dX6_roomIn_69 : decode cX6_roomIn 69 = .ok (.ifCond .ge 7, 3) := dk_156 0 7 (dk_at dksX6_roomIn_3 0 rfl rfl)
theorem dX6_roomIn_72 : decode cX6_roomIn 72 = .ok (.iconst 0, 1) := dk_3 (dk_at dksX6_roomIn_3 3 rfl rfl)
theorem dX6_roomIn_73 : decode cX6_roomIn 73 = .ok (.goto 4, 3) := dk_167 0 4 (dk_at dksX6_roomIn_3 4 rfl rfl)
theorem dX6_roomIn_76 : decode cX6_roomIn 76 = .ok (.iconst (-1), 1) := dk_2 (dk_at dksX6_roomIn_3 7 rfl rfl)
theorem dX6_roomIn_77 : decode cX6_roomIn 77 = .ok (.ireturn, 1) := dk_172 (dk_at dksX6_roomIn_3 8 rfl rfl)
theorem dX6_roomIn_78 : decode cX6_roomIn 78 = .ok (.aload_n 0, 1) := dk_42 (dk_at dksX6_roomIn_3 9 rfl rfl)
theorem dX6_roomIn_79 : decode cX6_roomIn 79 = .ok (.iload_n 3, 1) := dk_29 (dk_at dksX6_roomIn_3 10 rfl rfl)
theorem dX6_roomIn_80 : decode cX6_roomIn 80 = .ok (.invokevirtual 219, 3) := dk_182 0 219 (dk_at dksX6_roomIn_3 11 rfl rfl)
theorem dX6_roomIn_83 : decode cX6_roomIn 83 = .ok (.ifCond .eq 5, 3) := dk_153 0 5 (dk_at dksX6_roomIn_3 14 rfl rfl)
theorem dX6_roomIn_86 : decode cX6_roomIn 86 = .ok (.iconst (-1), 1) := dk_2 (dk_at dksX6_roomIn_3 17 rfl rfl)
theorem dX6_roomIn_87 : decode cX6_roomIn 87 = .ok (.ireturn, 1) := dk_172 (dk_at dksX6_roomIn_3 18 rfl rfl)
theorem dX6_roomIn_88 : decode cX6_roomIn 88 = .ok (.aload_n 0, 1) := dk_42 (dk_at dksX6_roomIn_3 19 rfl rfl)
theorem dX6_roomIn_89 : decode cX6_roomIn 89 = .ok (.getfield 29, 3) := dk_180 0 29 (dk_at dksX6_roomIn_3 20 rfl rfl)
theorem dX6_roomIn_92 : decode cX6_roomIn 92 = .ok (.iload_n 1, 1) := dk_27 (dk_at dksX6_roomIn_3 23 rfl rfl)
theorem dX6_roomIn_93 : decode cX6_roomIn 93 = .ok (.iaload, 1) := dk_46 (dk_at dksX6_roomIn_4 0 rfl rfl)
theorem dX6_roomIn_94 : decode cX6_roomIn 94 = .ok (.iconst 2, 1) := dk_5 (dk_at dksX6_roomIn_4 1 rfl rfl)
theorem dX6_roomIn_95 : decode cX6_roomIn 95 = .ok (.if_icmp .eq 13, 3) := dk_159 0 13 (dk_at dksX6_roomIn_4 2 rfl rfl)
theorem dX6_roomIn_98 : decode cX6_roomIn 98 = .ok (.aload_n 0, 1) := dk_42 (dk_at dksX6_roomIn_4 5 rfl rfl)
theorem dX6_roomIn_99 : decode cX6_roomIn 99 = .ok (.getfield 29, 3) := dk_180 0 29 (dk_at dksX6_roomIn_4 6 rfl rfl)
theorem dX6_roomIn_102 : decode cX6_roomIn 102 = .ok (.iload_n 1, 1) := dk_27 (dk_at dksX6_roomIn_4 9 rfl rfl)
theorem dX6_roomIn_103 : decode cX6_roomIn 103 = .ok (.iaload, 1) := dk_46 (dk_at dksX6_roomIn_4 10 rfl rfl)
theorem dX6_roomIn_104 : decode cX6_roomIn 104 = .ok (.iconst 3, 1) := dk_6 (dk_at dksX6_roomIn_4 11 rfl rfl)
theorem dX6_roomIn_105 : decode cX6_roomIn 105 = .ok (.if_icmp .ne 7, 3) := dk_160 0 7 (dk_at dksX6_roomIn_4 12 rfl rfl)
theorem dX6_roomIn_108 : decode cX6_roomIn 108 = .ok (.iconst 1, 1) := dk_4 (dk_at dksX6_roomIn_4 15 rfl rfl)
theorem dX6_roomIn_109 : decode cX6_roomIn 109 = .ok (.goto 4, 3) := dk_167 0 4 (dk_at dksX6_roomIn_4 16 rfl rfl)
theorem dX6_roomIn_112 : decode cX6_roomIn 112 = .ok (.iconst 0, 1) := dk_3 (dk_at dksX6_roomIn_4 19 rfl rfl)
theorem dX6_roomIn_113 : decode cX6_roomIn 113 = .ok (.istore 5, 2) := dk_54 5 (dk_at dksX6_roomIn_4 20 rfl rfl)
theorem dX6_roomIn_115 : decode cX6_roomIn 115 = .ok (.iload 5, 2) := dk_21 5 (dk_at dksX6_roomIn_4 22 rfl rfl)
theorem dX6_roomIn_117 : decode cX6_roomIn 117 = .ok (.ifCond .eq 16, 3) := dk_153 0 16 (dk_at dksX6_roomIn_5 0 rfl rfl)
theorem dX6_roomIn_120 : decode cX6_roomIn 120 = .ok (.aload_n 0, 1) := dk_42 (dk_at dksX6_roomIn_5 3 rfl rfl)
theorem dX6_roomIn_121 : decode cX6_roomIn 121 = .ok (.iload 4, 2) := dk_21 4 (dk_at dksX6_roomIn_5 4 rfl rfl)
theorem dX6_roomIn_123 : decode cX6_roomIn 123 = .ok (.invokevirtual 219, 3) := dk_182 0 219 (dk_at dksX6_roomIn_5 6 rfl rfl)
theorem dX6_roomIn_126 : decode cX6_roomIn 126 = .ok (.ifCond .ne 7, 3) := dk_154 0 7 (dk_at dksX6_roomIn_5 9 rfl rfl)
theorem dX6_roomIn_129 : decode cX6_roomIn 129 = .ok (.iconst 1, 1) := dk_4 (dk_at dksX6_roomIn_5 12 rfl rfl)
theorem dX6_roomIn_130 : decode cX6_roomIn 130 = .ok (.goto 4, 3) := dk_167 0 4 (dk_at dksX6_roomIn_5 13 rfl rfl)
theorem dX6_roomIn_133 : decode cX6_roomIn 133 = .ok (.iconst 0, 1) := dk_3 (dk_at dksX6_roomIn_5 16 rfl rfl)
theorem dX6_roomIn_134 : decode cX6_roomIn 134 = .ok (.ireturn, 1) := dk_172 (dk_at dksX6_roomIn_5 17 rfl rfl)
abbrev cX6_rests : ByteArray := prog_21_method_37_code
def yX6_rests : MethodName := ⟨RX6, "rests", "(I)Z"⟩
def dkwX6_rests_1 : List UInt8 := [162, 0, 7, 4, 167, 0, 4, 3, 172]
abbrev dktX6_rests_1 : List UInt8 := dkwX6_rests_1 ++ []
def dkwX6_rests_0 : List UInt8 := [27, 155, 0, 30, 42, 180, 0, 86, 27, 46, 5, 160, 0, 20, 42, 180, 0, 135, 42, 180, 0, 98, 27, 46]
abbrev dktX6_rests_0 : List UInt8 := dkwX6_rests_0 ++ dktX6_rests_1
theorem dksX6_rests_0 : cX6_rests.data.toList.drop 0 = dktX6_rests_0 := by decide +kernel
theorem dksX6_rests_1 : cX6_rests.data.toList.drop 24 = dktX6_rests_1 := dk_seg dksX6_rests_0 24 rfl rfl
theorem dX6_rests_0 : decode cX6_rests 0 = .ok (.iload_n 1, 1) := dk_27 (dk_at dksX6_rests_0 0 rfl rfl)
theorem dX6_rests_1 : decode cX6_rests 1 = .ok (.ifCond .lt 30, 3) := dk_155 0 30 (dk_at dksX6_rests_0 1 rfl rfl)
theorem dX6_rests_4 : decode cX6_rests 4 = .ok (.aload_n 0, 1) := dk_42 (dk_at dksX6_rests_0 4 rfl rfl)
theorem dX6_rests_5 : decode cX6_rests 5 = .ok (.getfield 86, 3) := dk_180 0 86 (dk_at dksX6_rests_0 5 rfl rfl)
theorem dX6_rests_8 : decode cX6_rests 8 = .ok (.iload_n 1, 1) := dk_27 (dk_at dksX6_rests_0 8 rfl rfl)
theorem dX6_rests_9 : decode cX6_rests 9 = .ok (.iaload, 1) := dk_46 (dk_at dksX6_rests_0 9 rfl rfl)
theorem dX6_rests_10 : decode cX6_rests 10 = .ok (.iconst 2, 1) := dk_5 (dk_at dksX6_rests_0 10 rfl rfl)
theorem dX6_rests_11 : decode cX6_rests 11 = .ok (.if_icmp .ne 20, 3) := dk_160 0 20 (dk_at dksX6_rests_0 11 rfl rfl)
theorem dX6_rests_14 : decode cX6_rests 14 = .ok (.aload_n 0, 1) := dk_42 (dk_at dksX6_rests_0 14 rfl rfl)
theorem dX6_rests_15 : decode cX6_rests 15 = .ok (.getfield 135, 3) := dk_180 0 135 (dk_at dksX6_rests_0 15 rfl rfl)
theorem dX6_rests_18 : decode cX6_rests 18 = .ok (.aload_n 0, 1) := dk_42 (dk_at dksX6_rests_0 18 rfl rfl)
theorem dX6_rests_19 : decode cX6_rests 19 = .ok (.getfield 98, 3) := dk_180 0 98 (dk_at dksX6_rests_0 19 rfl rfl)
theorem dX6_rests_22 : decode cX6_rests 22 = .ok (.iload_n 1, 1) := dk_27 (dk_at dksX6_rests_0 22 rfl rfl)
theorem dX6_rests_23 : decode cX6_rests 23 = .ok (.iaload, 1) := dk_46 (dk_at dksX6_rests_0 23 rfl rfl)
theorem dX6_rests_24 : decode cX6_rests 24 = .ok (.if_icmp .ge 7, 3) := dk_162 0 7 (dk_at dksX6_rests_1 0 rfl rfl)
theorem dX6_rests_27 : decode cX6_rests 27 = .ok (.iconst 1, 1) := dk_4 (dk_at dksX6_rests_1 3 rfl rfl)
theorem dX6_rests_28 : decode cX6_rests 28 = .ok (.goto 4, 3) := dk_167 0 4 (dk_at dksX6_rests_1 4 rfl rfl)
theorem dX6_rests_31 : decode cX6_rests 31 = .ok (.iconst 0, 1) := dk_3 (dk_at dksX6_rests_1 7 rfl rfl)
theorem dX6_rests_32 : decode cX6_rests 32 = .ok (.ireturn, 1) := dk_172 (dk_at dksX6_rests_1 8 rfl rfl)
abbrev cX6_isAgreed : ByteArray := prog_21_method_36_code
def yX6_isAgreed : MethodName := ⟨RX6, "isAgreed", "(II)Z"⟩
def dkwX6_isAgreed_2 : List UInt8 := [29, 28, 182, 0, 193, 154, 0, 12, 42, 28, 29, 182, 0, 193, 153, 0, 7, 4, 167, 0, 4, 3, 172]
abbrev dktX6_isAgreed_2 : List UInt8 := dkwX6_isAgreed_2 ++ []
def dkwX6_isAgreed_1 : List UInt8 := [180, 0, 56, 27, 46, 159, 0, 36, 28, 29, 159, 0, 31, 28, 42, 180, 0, 104, 29, 46, 159, 0, 21, 42]
abbrev dktX6_isAgreed_1 : List UInt8 := dkwX6_isAgreed_1 ++ dktX6_isAgreed_2
def dkwX6_isAgreed_0 : List UInt8 := [42, 180, 0, 35, 27, 46, 62, 42, 180, 0, 59, 17, 0, 150, 27, 104, 28, 96, 51, 154, 0, 46, 28, 42]
abbrev dktX6_isAgreed_0 : List UInt8 := dkwX6_isAgreed_0 ++ dktX6_isAgreed_1
theorem dksX6_isAgreed_0 : cX6_isAgreed.data.toList.drop 0 = dktX6_isAgreed_0 := by decide +kernel
theorem dksX6_isAgreed_1 : cX6_isAgreed.data.toList.drop 24 = dktX6_isAgreed_1 := dk_seg dksX6_isAgreed_0 24 rfl rfl
theorem dksX6_isAgreed_2 : cX6_isAgreed.data.toList.drop 48 = dktX6_isAgreed_2 := dk_seg dksX6_isAgreed_1 24 rfl rfl
theorem dX6_isAgreed_0 : decode cX6_isAgreed 0 = .ok (.aload_n 0, 1) := dk_42 (dk_at dksX6_isAgreed_0 0 rfl rfl)
theorem dX6_isAgreed_1 : decode cX6_isAgreed 1 = .ok (.getfield 35, 3) := dk_180 0 35 (dk_at dksX6_isAgreed_0 1 rfl rfl)
theorem dX6_isAgreed_4 : decode cX6_isAgreed 4 = .ok (.iload_n 1, 1) := dk_27 (dk_at dksX6_isAgreed_0 4 rfl rfl)
theorem dX6_isAgreed_5 : decode cX6_isAgreed 5 = .ok (.iaload, 1) := dk_46 (dk_at dksX6_isAgreed_0 5 rfl rfl)
theorem dX6_isAgreed_6 : decode cX6_isAgreed 6 = .ok (.istore_n 3, 1) := dk_62 (dk_at dksX6_isAgreed_0 6 rfl rfl)
theorem dX6_isAgreed_7 : decode cX6_isAgreed 7 = .ok (.aload_n 0, 1) := dk_42 (dk_at dksX6_isAgreed_0 7 rfl rfl)
theorem dX6_isAgreed_8 : decode cX6_isAgreed 8 = .ok (.getfield 59, 3) := dk_180 0 59 (dk_at dksX6_isAgreed_0 8 rfl rfl)
theorem dX6_isAgreed_11 : decode cX6_isAgreed 11 = .ok (.sipush 150, 3) := dk_17 0 150 (dk_at dksX6_isAgreed_0 11 rfl rfl)
theorem dX6_isAgreed_14 : decode cX6_isAgreed 14 = .ok (.iload_n 1, 1) := dk_27 (dk_at dksX6_isAgreed_0 14 rfl rfl)
theorem dX6_isAgreed_15 : decode cX6_isAgreed 15 = .ok (.imul, 1) := dk_104 (dk_at dksX6_isAgreed_0 15 rfl rfl)
theorem dX6_isAgreed_16 : decode cX6_isAgreed 16 = .ok (.iload_n 2, 1) := dk_28 (dk_at dksX6_isAgreed_0 16 rfl rfl)
theorem dX6_isAgreed_17 : decode cX6_isAgreed 17 = .ok (.iadd, 1) := dk_96 (dk_at dksX6_isAgreed_0 17 rfl rfl)
theorem dX6_isAgreed_18 : decode cX6_isAgreed 18 = .ok (.baload, 1) := dk_51 (dk_at dksX6_isAgreed_0 18 rfl rfl)
theorem dX6_isAgreed_19 : decode cX6_isAgreed 19 = .ok (.ifCond .ne 46, 3) := dk_154 0 46 (dk_at dksX6_isAgreed_0 19 rfl rfl)
theorem dX6_isAgreed_22 : decode cX6_isAgreed 22 = .ok (.iload_n 2, 1) := dk_28 (dk_at dksX6_isAgreed_0 22 rfl rfl)
theorem dX6_isAgreed_23 : decode cX6_isAgreed 23 = .ok (.aload_n 0, 1) := dk_42 (dk_at dksX6_isAgreed_0 23 rfl rfl)
theorem dX6_isAgreed_24 : decode cX6_isAgreed 24 = .ok (.getfield 56, 3) := dk_180 0 56 (dk_at dksX6_isAgreed_1 0 rfl rfl)
theorem dX6_isAgreed_27 : decode cX6_isAgreed 27 = .ok (.iload_n 1, 1) := dk_27 (dk_at dksX6_isAgreed_1 3 rfl rfl)
theorem dX6_isAgreed_28 : decode cX6_isAgreed 28 = .ok (.iaload, 1) := dk_46 (dk_at dksX6_isAgreed_1 4 rfl rfl)
theorem dX6_isAgreed_29 : decode cX6_isAgreed 29 = .ok (.if_icmp .eq 36, 3) := dk_159 0 36 (dk_at dksX6_isAgreed_1 5 rfl rfl)
theorem dX6_isAgreed_32 : decode cX6_isAgreed 32 = .ok (.iload_n 2, 1) := dk_28 (dk_at dksX6_isAgreed_1 8 rfl rfl)
theorem dX6_isAgreed_33 : decode cX6_isAgreed 33 = .ok (.iload_n 3, 1) := dk_29 (dk_at dksX6_isAgreed_1 9 rfl rfl)
theorem dX6_isAgreed_34 : decode cX6_isAgreed 34 = .ok (.if_icmp .eq 31, 3) := dk_159 0 31 (dk_at dksX6_isAgreed_1 10 rfl rfl)
theorem dX6_isAgreed_37 : decode cX6_isAgreed 37 = .ok (.iload_n 2, 1) := dk_28 (dk_at dksX6_isAgreed_1 13 rfl rfl)
theorem dX6_isAgreed_38 : decode cX6_isAgreed 38 = .ok (.aload_n 0, 1) := dk_42 (dk_at dksX6_isAgreed_1 14 rfl rfl)
theorem dX6_isAgreed_39 : decode cX6_isAgreed 39 = .ok (.getfield 104, 3) := dk_180 0 104 (dk_at dksX6_isAgreed_1 15 rfl rfl)
theorem dX6_isAgreed_42 : decode cX6_isAgreed 42 = .ok (.iload_n 3, 1) := dk_29 (dk_at dksX6_isAgreed_1 18 rfl rfl)
theorem dX6_isAgreed_43 : decode cX6_isAgreed 43 = .ok (.iaload, 1) := dk_46 (dk_at dksX6_isAgreed_1 19 rfl rfl)
theorem dX6_isAgreed_44 : decode cX6_isAgreed 44 = .ok (.if_icmp .eq 21, 3) := dk_159 0 21 (dk_at dksX6_isAgreed_1 20 rfl rfl)
theorem dX6_isAgreed_47 : decode cX6_isAgreed 47 = .ok (.aload_n 0, 1) := dk_42 (dk_at dksX6_isAgreed_1 23 rfl rfl)
theorem dX6_isAgreed_48 : decode cX6_isAgreed 48 = .ok (.iload_n 3, 1) := dk_29 (dk_at dksX6_isAgreed_2 0 rfl rfl)
theorem dX6_isAgreed_49 : decode cX6_isAgreed 49 = .ok (.iload_n 2, 1) := dk_28 (dk_at dksX6_isAgreed_2 1 rfl rfl)
theorem dX6_isAgreed_50 : decode cX6_isAgreed 50 = .ok (.invokevirtual 193, 3) := dk_182 0 193 (dk_at dksX6_isAgreed_2 2 rfl rfl)
theorem dX6_isAgreed_53 : decode cX6_isAgreed 53 = .ok (.ifCond .ne 12, 3) := dk_154 0 12 (dk_at dksX6_isAgreed_2 5 rfl rfl)
theorem dX6_isAgreed_56 : decode cX6_isAgreed 56 = .ok (.aload_n 0, 1) := dk_42 (dk_at dksX6_isAgreed_2 8 rfl rfl)
theorem dX6_isAgreed_57 : decode cX6_isAgreed 57 = .ok (.iload_n 2, 1) := dk_28 (dk_at dksX6_isAgreed_2 9 rfl rfl)
theorem dX6_isAgreed_58 : decode cX6_isAgreed 58 = .ok (.iload_n 3, 1) := dk_29 (dk_at dksX6_isAgreed_2 10 rfl rfl)
theorem dX6_isAgreed_59 : decode cX6_isAgreed 59 = .ok (.invokevirtual 193, 3) := dk_182 0 193 (dk_at dksX6_isAgreed_2 11 rfl rfl)
theorem dX6_isAgreed_62 : decode cX6_isAgreed 62 = .ok (.ifCond .eq 7, 3) := dk_153 0 7 (dk_at dksX6_isAgreed_2 14 rfl rfl)
theorem dX6_isAgreed_65 : decode cX6_isAgreed 65 = .ok (.iconst 1, 1) := dk_4 (dk_at dksX6_isAgreed_2 17 rfl rfl)
theorem dX6_isAgreed_66 : decode cX6_isAgreed 66 = .ok (.goto 4, 3) := dk_167 0 4 (dk_at dksX6_isAgreed_2 18 rfl rfl)
theorem dX6_isAgreed_69 : decode cX6_isAgreed 69 = .ok (.iconst 0, 1) := dk_3 (dk_at dksX6_isAgreed_2 21 rfl rfl)
theorem dX6_isAgreed_70 : decode cX6_isAgreed 70 = .ok (.ireturn, 1) := dk_172 (dk_at dksX6_isAgreed_2 22 rfl rfl)
abbrev cX6_yearsOf : ByteArray := prog_21_method_38_code
def yX6_yearsOf : MethodName := ⟨RX6, "yearsOf", "(II)I"⟩
def dkwX6_yearsOf_2 : List UInt8 := [16, 10, 172]
abbrev dktX6_yearsOf_2 : List UInt8 := dkwX6_yearsOf_2 ++ []
def dkwX6_yearsOf_1 : List UInt8 := [96, 167, 0, 24, 27, 5, 160, 0, 17, 16, 12, 5, 42, 180, 0, 7, 29, 46, 104, 96, 167, 0, 5]
abbrev dktX6_yearsOf_1 : List UInt8 := dkwX6_yearsOf_1 ++ dktX6_yearsOf_2
def dkwX6_yearsOf_0 : List UInt8 := [42, 180, 0, 47, 28, 46, 16, 12, 108, 62, 27, 154, 0, 17, 16, 20, 7, 42, 180, 0, 7, 29, 46, 104]
abbrev dktX6_yearsOf_0 : List UInt8 := dkwX6_yearsOf_0 ++ dktX6_yearsOf_1
theorem dksX6_yearsOf_0 : cX6_yearsOf.data.toList.drop 0 = dktX6_yearsOf_0 := by decide +kernel
theorem dksX6_yearsOf_1 : cX6_yearsOf.data.toList.drop 24 = dktX6_yearsOf_1 := dk_seg dksX6_yearsOf_0 24 rfl rfl
theorem dksX6_yearsOf_2 : cX6_yearsOf.data.toList.drop 47 = dktX6_yearsOf_2 := dk_seg dksX6_yearsOf_1 23 rfl rfl
theorem dX6_yearsOf_0 : decode cX6_yearsOf 0 = .ok (.aload_n 0, 1) := dk_42 (dk_at dksX6_yearsOf_0 0 rfl rfl)
theorem dX6_yearsOf_1 : decode cX6_yearsOf 1 = .ok (.getfield 47, 3) := dk_180 0 47 (dk_at dksX6_yearsOf_0 1 rfl rfl)
theorem dX6_yearsOf_4 : decode cX6_yearsOf 4 = .ok (.iload_n 2, 1) := dk_28 (dk_at dksX6_yearsOf_0 4 rfl rfl)
theorem dX6_yearsOf_5 : decode cX6_yearsOf 5 = .ok (.iaload, 1) := dk_46 (dk_at dksX6_yearsOf_0 5 rfl rfl)
theorem dX6_yearsOf_6 : decode cX6_yearsOf 6 = .ok (.bipush 12, 2) := dk_16 12 (dk_at dksX6_yearsOf_0 6 rfl rfl)
theorem dX6_yearsOf_8 : decode cX6_yearsOf 8 = .ok (.idiv, 1) := dk_108 (dk_at dksX6_yearsOf_0 8 rfl rfl)
theorem dX6_yearsOf_9 : decode cX6_yearsOf 9 = .ok (.istore_n 3, 1) := dk_62 (dk_at dksX6_yearsOf_0 9 rfl rfl)
theorem dX6_yearsOf_10 : decode cX6_yearsOf 10 = .ok (.iload_n 1, 1) := dk_27 (dk_at dksX6_yearsOf_0 10 rfl rfl)
theorem dX6_yearsOf_11 : decode cX6_yearsOf 11 = .ok (.ifCond .ne 17, 3) := dk_154 0 17 (dk_at dksX6_yearsOf_0 11 rfl rfl)
theorem dX6_yearsOf_14 : decode cX6_yearsOf 14 = .ok (.bipush 20, 2) := dk_16 20 (dk_at dksX6_yearsOf_0 14 rfl rfl)
theorem dX6_yearsOf_16 : decode cX6_yearsOf 16 = .ok (.iconst 4, 1) := dk_7 (dk_at dksX6_yearsOf_0 16 rfl rfl)
theorem dX6_yearsOf_17 : decode cX6_yearsOf 17 = .ok (.aload_n 0, 1) := dk_42 (dk_at dksX6_yearsOf_0 17 rfl rfl)
theorem dX6_yearsOf_18 : decode cX6_yearsOf 18 = .ok (.getfield 7, 3) := dk_180 0 7 (dk_at dksX6_yearsOf_0 18 rfl rfl)
theorem dX6_yearsOf_21 : decode cX6_yearsOf 21 = .ok (.iload_n 3, 1) := dk_29 (dk_at dksX6_yearsOf_0 21 rfl rfl)
theorem dX6_yearsOf_22 : decode cX6_yearsOf 22 = .ok (.iaload, 1) := dk_46 (dk_at dksX6_yearsOf_0 22 rfl rfl)
theorem dX6_yearsOf_23 : decode cX6_yearsOf 23 = .ok (.imul, 1) := dk_104 (dk_at dksX6_yearsOf_0 23 rfl rfl)
theorem dX6_yearsOf_24 : decode cX6_yearsOf 24 = .ok (.iadd, 1) := dk_96 (dk_at dksX6_yearsOf_1 0 rfl rfl)
theorem dX6_yearsOf_25 : decode cX6_yearsOf 25 = .ok (.goto 24, 3) := dk_167 0 24 (dk_at dksX6_yearsOf_1 1 rfl rfl)
theorem dX6_yearsOf_28 : decode cX6_yearsOf 28 = .ok (.iload_n 1, 1) := dk_27 (dk_at dksX6_yearsOf_1 4 rfl rfl)
theorem dX6_yearsOf_29 : decode cX6_yearsOf 29 = .ok (.iconst 2, 1) := dk_5 (dk_at dksX6_yearsOf_1 5 rfl rfl)
theorem dX6_yearsOf_30 : decode cX6_yearsOf 30 = .ok (.if_icmp .ne 17, 3) := dk_160 0 17 (dk_at dksX6_yearsOf_1 6 rfl rfl)
theorem dX6_yearsOf_33 : decode cX6_yearsOf 33 = .ok (.bipush 12, 2) := dk_16 12 (dk_at dksX6_yearsOf_1 9 rfl rfl)
theorem dX6_yearsOf_35 : decode cX6_yearsOf 35 = .ok (.iconst 2, 1) := dk_5 (dk_at dksX6_yearsOf_1 11 rfl rfl)
theorem dX6_yearsOf_36 : decode cX6_yearsOf 36 = .ok (.aload_n 0, 1) := dk_42 (dk_at dksX6_yearsOf_1 12 rfl rfl)
theorem dX6_yearsOf_37 : decode cX6_yearsOf 37 = .ok (.getfield 7, 3) := dk_180 0 7 (dk_at dksX6_yearsOf_1 13 rfl rfl)
theorem dX6_yearsOf_40 : decode cX6_yearsOf 40 = .ok (.iload_n 3, 1) := dk_29 (dk_at dksX6_yearsOf_1 16 rfl rfl)
theorem dX6_yearsOf_41 : decode cX6_yearsOf 41 = .ok (.iaload, 1) := dk_46 (dk_at dksX6_yearsOf_1 17 rfl rfl)
theorem dX6_yearsOf_42 : decode cX6_yearsOf 42 = .ok (.imul, 1) := dk_104 (dk_at dksX6_yearsOf_1 18 rfl rfl)
theorem dX6_yearsOf_43 : decode cX6_yearsOf 43 = .ok (.iadd, 1) := dk_96 (dk_at dksX6_yearsOf_1 19 rfl rfl)
theorem dX6_yearsOf_44 : decode cX6_yearsOf 44 = .ok (.goto 5, 3) := dk_167 0 5 (dk_at dksX6_yearsOf_1 20 rfl rfl)
theorem dX6_yearsOf_47 : decode cX6_yearsOf 47 = .ok (.bipush 10, 2) := dk_16 10 (dk_at dksX6_yearsOf_2 0 rfl rfl)
theorem dX6_yearsOf_49 : decode cX6_yearsOf 49 = .ok (.ireturn, 1) := dk_172 (dk_at dksX6_yearsOf_2 2 rfl rfl)
abbrev cX6_lays : ByteArray := prog_21_method_44_code
def yX6_lays : MethodName := ⟨RX6, "lays", "(IIIII)I"⟩
def dkwX6_lays_10 : List UInt8 := [172]
abbrev dktX6_lays_10 : List UInt8 := dkwX6_lays_10 ++ []
def dkwX6_lays_9 : List UInt8 := [42, 27, 182, 0, 189, 96, 54, 7, 167, 255, 213, 42, 89, 180, 0, 150, 21, 7, 96, 181, 0, 150, 21, 7]
abbrev dktX6_lays_9 : List UInt8 := dkwX6_lays_9 ++ dktX6_lays_10
def dkwX6_lays_8 : List UInt8 := [180, 0, 38, 27, 46, 21, 5, 162, 0, 28, 42, 180, 0, 38, 27, 92, 46, 17, 1, 109, 96, 79, 21, 7]
abbrev dktX6_lays_8 : List UInt8 := dkwX6_lays_8 ++ dktX6_lays_9
def dkwX6_lays_7 : List UInt8 := [160, 0, 8, 16, 20, 167, 0, 4, 3, 96, 54, 7, 42, 180, 0, 29, 27, 46, 8, 159, 0, 39, 42]
abbrev dktX6_lays_7 : List UInt8 := dkwX6_lays_7 ++ dktX6_lays_8
def dkwX6_lays_6 : List UInt8 := [154, 0, 8, 16, 60, 167, 0, 16, 21, 4, 4, 160, 0, 8, 16, 25, 167, 0, 5, 16, 30, 21, 6, 4]
abbrev dktX6_lays_6 : List UInt8 := dkwX6_lays_6 ++ dktX6_lays_7
def dkwX6_lays_5 : List UInt8 := [180, 0, 98, 29, 21, 5, 79, 42, 180, 0, 101, 29, 21, 4, 79, 42, 29, 27, 182, 0, 240, 21, 4]
abbrev dktX6_lays_5 : List UInt8 := dkwX6_lays_5 ++ dktX6_lays_6
def dkwX6_lays_4 : List UInt8 := [42, 180, 0, 89, 29, 27, 79, 42, 180, 0, 92, 29, 28, 79, 42, 180, 0, 95, 29, 21, 6, 79, 42]
abbrev dktX6_lays_4 : List UInt8 := dkwX6_lays_4 ++ dktX6_lays_5
def dkwX6_lays_3 : List UInt8 := [42, 180, 0, 71, 16, 8, 27, 104, 5, 28, 104, 96, 21, 6, 96, 29, 79, 42, 180, 0, 86, 29, 5, 79]
abbrev dktX6_lays_3 : List UInt8 := dkwX6_lays_3 ++ dktX6_lays_4
def dkwX6_lays_2 : List UInt8 := [3, 54, 7, 21, 7, 21, 6, 163, 0, 17, 42, 27, 28, 21, 7, 182, 0, 237, 132, 7, 1, 167, 255, 238]
abbrev dktX6_lays_2 : List UInt8 := dkwX6_lays_2 ++ dktX6_lays_3
def dkwX6_lays_1 : List UInt8 := [27, 104, 42, 180, 0, 77, 27, 46, 96, 29, 79, 42, 180, 0, 77, 27, 92, 46, 4, 96, 79, 167, 0, 44]
abbrev dktX6_lays_1 : List UInt8 := dkwX6_lays_1 ++ dktX6_lays_2
def dkwX6_lays_0 : List UInt8 := [42, 27, 28, 182, 0, 228, 54, 6, 42, 180, 0, 29, 27, 46, 8, 160, 0, 33, 42, 180, 0, 74, 16, 40]
abbrev dktX6_lays_0 : List UInt8 := dkwX6_lays_0 ++ dktX6_lays_1
theorem dksX6_lays_0 : cX6_lays.data.toList.drop 0 = dktX6_lays_0 := by decide +kernel
theorem dksX6_lays_1 : cX6_lays.data.toList.drop 24 = dktX6_lays_1 := dk_seg dksX6_lays_0 24 rfl rfl
theorem dksX6_lays_2 : cX6_lays.data.toList.drop 48 = dktX6_lays_2 := dk_seg dksX6_lays_1 24 rfl rfl
theorem dksX6_lays_3 : cX6_lays.data.toList.drop 72 = dktX6_lays_3 := dk_seg dksX6_lays_2 24 rfl rfl
theorem dksX6_lays_4 : cX6_lays.data.toList.drop 96 = dktX6_lays_4 := dk_seg dksX6_lays_3 24 rfl rfl
theorem dksX6_lays_5 : cX6_lays.data.toList.drop 119 = dktX6_lays_5 := dk_seg dksX6_lays_4 23 rfl rfl
theorem dksX6_lays_6 : cX6_lays.data.toList.drop 142 = dktX6_lays_6 := dk_seg dksX6_lays_5 23 rfl rfl
theorem dksX6_lays_7 : cX6_lays.data.toList.drop 166 = dktX6_lays_7 := dk_seg dksX6_lays_6 24 rfl rfl
theorem dksX6_lays_8 : cX6_lays.data.toList.drop 189 = dktX6_lays_8 := dk_seg dksX6_lays_7 23 rfl rfl
theorem dksX6_lays_9 : cX6_lays.data.toList.drop 213 = dktX6_lays_9 := dk_seg dksX6_lays_8 24 rfl rfl
theorem dksX6_lays_10 : cX6_lays.data.toList.drop 237 = dktX6_lays_10 := dk_seg dksX6_lays_9 24 rfl rfl
theorem dX6_lays_0 : decode cX6_lays 0 = .ok (.aload_n 0, 1) := dk_42 (dk_at dksX6_lays_0 0 rfl rfl)
theorem dX6_lays_1 : decode cX6_lays 1 = .ok (.iload_n 1, 1) := dk_27 (dk_at dksX6_lays_0 1 rfl rfl)
theorem dX6_lays_2 : decode cX6_lays 2 = .ok (.iload_n 2, 1) := dk_28 (dk_at dksX6_lays_0 2 rfl rfl)
theorem dX6_lays_3 : decode cX6_lays 3 = .ok (.invokevirtual 228, 3) := dk_182 0 228 (dk_at dksX6_lays_0 3 rfl rfl)
theorem dX6_lays_6 : decode cX6_lays 6 = .ok (.istore 6, 2) := dk_54 6 (dk_at dksX6_lays_0 6 rfl rfl)
theorem dX6_lays_8 : decode cX6_lays 8 = .ok (.aload_n 0, 1) := dk_42 (dk_at dksX6_lays_0 8 rfl rfl)
theorem dX6_lays_9 : decode cX6_lays 9 = .ok (.getfield 29, 3) := dk_180 0 29 (dk_at dksX6_lays_0 9 rfl rfl)
theorem dX6_lays_12 : decode cX6_lays 12 = .ok (.iload_n 1, 1) := dk_27 (dk_at dksX6_lays_0 12 rfl rfl)
theorem dX6_lays_13 : decode cX6_lays 13 = .ok (.iaload, 1) := dk_46 (dk_at dksX6_lays_0 13 rfl rfl)
theorem dX6_lays_14 : decode cX6_lays 14 = .ok (.iconst 5, 1) := dk_8 (dk_at dksX6_lays_0 14 rfl rfl)
theorem dX6_lays_15 : decode cX6_lays 15 = .ok (.if_icmp .ne 33, 3) := dk_160 0 33 (dk_at dksX6_lays_0 15 rfl rfl)
theorem dX6_lays_18 : decode cX6_lays 18 = .ok (.aload_n 0, 1) := dk_42 (dk_at dksX6_lays_0 18 rfl rfl)
theorem dX6_lays_19 : decode cX6_lays 19 = .ok (.getfield 74, 3) := dk_180 0 74 (dk_at dksX6_lays_0 19 rfl rfl)
theorem dX6_lays_22 : decode cX6_lays 22 = .ok (.bipush 40, 2) := dk_16 40 (dk_at dksX6_lays_0 22 rfl rfl)
theorem dX6_lays_24 : decode cX6_lays 24 = .ok (.iload_n 1, 1) := dk_27 (dk_at dksX6_lays_1 0 rfl rfl)
theorem dX6_lays_25 : decode cX6_lays 25 = .ok (.imul, 1) := dk_104 (dk_at dksX6_lays_1 1 rfl rfl)
theorem dX6_lays_26 : decode cX6_lays 26 = .ok (.aload_n 0, 1) := dk_42 (dk_at dksX6_lays_1 2 rfl rfl)
theorem dX6_lays_27 : decode cX6_lays 27 = .ok (.getfield 77, 3) := dk_180 0 77 (dk_at dksX6_lays_1 3 rfl rfl)
theorem dX6_lays_30 : decode cX6_lays 30 = .ok (.iload_n 1, 1) := dk_27 (dk_at dksX6_lays_1 6 rfl rfl)
theorem dX6_lays_31 : decode cX6_lays 31 = .ok (.iaload, 1) := dk_46 (dk_at dksX6_lays_1 7 rfl rfl)
theorem dX6_lays_32 : decode cX6_lays 32 = .ok (.iadd, 1) := dk_96 (dk_at dksX6_lays_1 8 rfl rfl)
theorem dX6_lays_33 : decode cX6_lays 33 = .ok (.iload_n 3, 1) := dk_29 (dk_at dksX6_lays_1 9 rfl rfl)
theorem dX6_lays_34 : decode cX6_lays 34 = .ok (.iastore, 1) := dk_79 (dk_at dksX6_lays_1 10 rfl rfl)
theorem dX6_lays_35 : decode cX6_lays 35 = .ok (.aload_n 0, 1) := dk_42 (dk_at dksX6_lays_1 11 rfl rfl)
theorem dX6_lays_36 : decode cX6_lays 36 = .ok (.getfield 77, 3) := dk_180 0 77 (dk_at dksX6_lays_1 12 rfl rfl)
theorem dX6_lays_39 : decode cX6_lays 39 = .ok (.iload_n 1, 1) := dk_27 (dk_at dksX6_lays_1 15 rfl rfl)
theorem dX6_lays_40 : decode cX6_lays 40 = .ok (.dup2, 1) := dk_92 (dk_at dksX6_lays_1 16 rfl rfl)
theorem dX6_lays_41 : decode cX6_lays 41 = .ok (.iaload, 1) := dk_46 (dk_at dksX6_lays_1 17 rfl rfl)
theorem dX6_lays_42 : decode cX6_lays 42 = .ok (.iconst 1, 1) := dk_4 (dk_at dksX6_lays_1 18 rfl rfl)
theorem dX6_lays_43 : decode cX6_lays 43 = .ok (.iadd, 1) := dk_96 (dk_at dksX6_lays_1 19 rfl rfl)
theorem dX6_lays_44 : decode cX6_lays 44 = .ok (.iastore, 1) := dk_79 (dk_at dksX6_lays_1 20 rfl rfl)
theorem dX6_lays_45 : decode cX6_lays 45 = .ok (.goto 44, 3) := dk_167 0 44 (dk_at dksX6_lays_1 21 rfl rfl)
theorem dX6_lays_48 : decode cX6_lays 48 = .ok (.iconst 0, 1) := dk_3 (dk_at dksX6_lays_2 0 rfl rfl)
theorem dX6_lays_49 : decode cX6_lays 49 = .ok (.istore 7, 2) := dk_54 7 (dk_at dksX6_lays_2 1 rfl rfl)
theorem dX6_lays_51 : decode cX6_lays 51 = .ok (.iload 7, 2) := dk_21 7 (dk_at dksX6_lays_2 3 rfl rfl)
theorem dX6_lays_53 : decode cX6_lays 53 = .ok (.iload 6, 2) := dk_21 6 (dk_at dksX6_lays_2 5 rfl rfl)
theorem dX6_lays_55 : decode cX6_lays 55 = .ok (.if_icmp .gt 17, 3) := dk_163 0 17 (dk_at dksX6_lays_2 7 rfl rfl)
theorem dX6_lays_58 : decode cX6_lays 58 = .ok (.aload_n 0, 1) := dk_42 (dk_at dksX6_lays_2 10 rfl rfl)
theorem dX6_lays_59 : decode cX6_lays 59 = .ok (.iload_n 1, 1) := dk_27 (dk_at dksX6_lays_2 11 rfl rfl)
theorem dX6_lays_60 : decode cX6_lays 60 = .ok (.iload_n 2, 1) := dk_28 (dk_at dksX6_lays_2 12 rfl rfl)
theorem dX6_lays_61 : decode cX6_lays 61 = .ok (.iload 7, 2) := dk_21 7 (dk_at dksX6_lays_2 13 rfl rfl)
theorem dX6_lays_63 : decode cX6_lays 63 = .ok (.invokevirtual 237, 3) := dk_182 0 237 (dk_at dksX6_lays_2 15 rfl rfl)
theorem dX6_lays_66 : decode cX6_lays 66 = .ok (.iinc 7 1, 3) := dk_132 7 1 (dk_at dksX6_lays_2 18 rfl rfl)
theorem dX6_lays_69 : decode cX6_lays 69 = .ok (.goto (-18), 3) := dk_167 255 238 (dk_at dksX6_lays_2 21 rfl rfl)
theorem dX6_lays_72 : decode cX6_lays 72 = .ok (.aload_n 0, 1) := dk_42 (dk_at dksX6_lays_3 0 rfl rfl)
theorem dX6_lays_73 : decode cX6_lays 73 = .ok (.getfield 71, 3) := dk_180 0 71 (dk_at dksX6_lays_3 1 rfl rfl)
theorem dX6_lays_76 : decode cX6_lays 76 = .ok (.bipush 8, 2) := dk_16 8 (dk_at dksX6_lays_3 4 rfl rfl)
theorem dX6_lays_78 : decode cX6_lays 78 = .ok (.iload_n 1, 1) := dk_27 (dk_at dksX6_lays_3 6 rfl rfl)
theorem dX6_lays_79 : decode cX6_lays 79 = .ok (.imul, 1) := dk_104 (dk_at dksX6_lays_3 7 rfl rfl)
theorem dX6_lays_80 : decode cX6_lays 80 = .ok (.iconst 2, 1) := dk_5 (dk_at dksX6_lays_3 8 rfl rfl)
theorem dX6_lays_81 : decode cX6_lays 81 = .ok (.iload_n 2, 1) := dk_28 (dk_at dksX6_lays_3 9 rfl rfl)
theorem dX6_lays_82 : decode cX6_lays 82 = .ok (.imul, 1) := dk_104 (dk_at dksX6_lays_3 10 rfl rfl)
theorem dX6_lays_83 : decode cX6_lays 83 = .ok (.iadd, 1) := dk_96 (dk_at dksX6_lays_3 11 rfl rfl)
theorem dX6_lays_84 : decode cX6_lays 84 = .ok (.iload 6, 2) := dk_21 6 (dk_at dksX6_lays_3 12 rfl rfl)
theorem dX6_lays_86 : decode cX6_lays 86 = .ok (.iadd, 1) := dk_96 (dk_at dksX6_lays_3 14 rfl rfl)
theorem dX6_lays_87 : decode cX6_lays 87 = .ok (.iload_n 3, 1) := dk_29 (dk_at dksX6_lays_3 15 rfl rfl)
theorem dX6_lays_88 : decode cX6_lays 88 = .ok (.iastore, 1) := dk_79 (dk_at dksX6_lays_3 16 rfl rfl)
theorem dX6_lays_89 : decode cX6_lays 89 = .ok (.aload_n 0, 1) := dk_42 (dk_at dksX6_lays_3 17 rfl rfl)
theorem dX6_lays_90 : decode cX6_lays 90 = .ok (.getfield 86, 3) := dk_180 0 86 (dk_at dksX6_lays_3 18 rfl rfl)
theorem dX6_lays_93 : decode cX6_lays 93 = .ok (.iload_n 3, 1) := dk_29 (dk_at dksX6_lays_3 21 rfl rfl)
theorem dX6_lays_94 : decode cX6_lays 94 = .ok (.iconst 2, 1) := dk_5 (dk_at dksX6_lays_3 22 rfl rfl)
theorem dX6_lays_95 : decode cX6_lays 95 = .ok (.iastore, 1) := dk_79 (dk_at dksX6_lays_3 23 rfl rfl)
theorem dX6_lays_96 : decode cX6_lays 96 = .ok (.aload_n 0, 1) := dk_42 (dk_at dksX6_lays_4 0 rfl rfl)
theorem dX6_lays_97 : decode cX6_lays 97 = .ok (.getfield 89, 3) := dk_180 0 89 (dk_at dksX6_lays_4 1 rfl rfl)
theorem dX6_lays_100 : decode cX6_lays 100 = .ok (.iload_n 3, 1) := dk_29 (dk_at dksX6_lays_4 4 rfl rfl)
theorem dX6_lays_101 : decode cX6_lays 101 = .ok (.iload_n 1, 1) := dk_27 (dk_at dksX6_lays_4 5 rfl rfl)
theorem dX6_lays_102 : decode cX6_lays 102 = .ok (.iastore, 1) := dk_79 (dk_at dksX6_lays_4 6 rfl rfl)
theorem dX6_lays_103 : decode cX6_lays 103 = .ok (.aload_n 0, 1) := dk_42 (dk_at dksX6_lays_4 7 rfl rfl)
theorem dX6_lays_104 : decode cX6_lays 104 = .ok (.getfield 92, 3) := dk_180 0 92 (dk_at dksX6_lays_4 8 rfl rfl)
theorem dX6_lays_107 : decode cX6_lays 107 = .ok (.iload_n 3, 1) := dk_29 (dk_at dksX6_lays_4 11 rfl rfl)
theorem dX6_lays_108 : decode cX6_lays 108 = .ok (.iload_n 2, 1) := dk_28 (dk_at dksX6_lays_4 12 rfl rfl)
theorem dX6_lays_109 : decode cX6_lays 109 = .ok (.iastore, 1) := dk_79 (dk_at dksX6_lays_4 13 rfl rfl)
theorem dX6_lays_110 : decode cX6_lays 110 = .ok (.aload_n 0, 1) := dk_42 (dk_at dksX6_lays_4 14 rfl rfl)
theorem dX6_lays_111 : decode cX6_lays 111 = .ok (.getfield 95, 3) := dk_180 0 95 (dk_at dksX6_lays_4 15 rfl rfl)
theorem dX6_lays_114 : decode cX6_lays 114 = .ok (.iload_n 3, 1) := dk_29 (dk_at dksX6_lays_4 18 rfl rfl)
theorem dX6_lays_115 : decode cX6_lays 115 = .ok (.iload 6, 2) := dk_21 6 (dk_at dksX6_lays_4 19 rfl rfl)
theorem dX6_lays_117 : decode cX6_lays 117 = .ok (.iastore, 1) := dk_79 (dk_at dksX6_lays_4 21 rfl rfl)
theorem dX6_lays_118 : decode cX6_lays 118 = .ok (.aload_n 0, 1) := dk_42 (dk_at dksX6_lays_4 22 rfl rfl)
theorem dX6_lays_119 : decode cX6_lays 119 = .ok (.getfield 98, 3) := dk_180 0 98 (dk_at dksX6_lays_5 0 rfl rfl)
theorem dX6_lays_122 : decode cX6_lays 122 = .ok (.iload_n 3, 1) := dk_29 (dk_at dksX6_lays_5 3 rfl rfl)
theorem dX6_lays_123 : decode cX6_lays 123 = .ok (.iload 5, 2) := dk_21 5 (dk_at dksX6_lays_5 4 rfl rfl)
theorem dX6_lays_125 : decode cX6_lays 125 = .ok (.iastore, 1) := dk_79 (dk_at dksX6_lays_5 6 rfl rfl)
theorem dX6_lays_126 : decode cX6_lays 126 = .ok (.aload_n 0, 1) := dk_42 (dk_at dksX6_lays_5 7 rfl rfl)
theorem dX6_lays_127 : decode cX6_lays 127 = .ok (.getfield 101, 3) := dk_180 0 101 (dk_at dksX6_lays_5 8 rfl rfl)
theorem dX6_lays_130 : decode cX6_lays 130 = .ok (.iload_n 3, 1) := dk_29 (dk_at dksX6_lays_5 11 rfl rfl)
theorem dX6_lays_131 : decode cX6_lays 131 = .ok (.iload 4, 2) := dk_21 4 (dk_at dksX6_lays_5 12 rfl rfl)
theorem dX6_lays_133 : decode cX6_lays 133 = .ok (.iastore, 1) := dk_79 (dk_at dksX6_lays_5 14 rfl rfl)
theorem dX6_lays_134 : decode cX6_lays 134 = .ok (.aload_n 0, 1) := dk_42 (dk_at dksX6_lays_5 15 rfl rfl)
theorem dX6_lays_135 : decode cX6_lays 135 = .ok (.iload_n 3, 1) := dk_29 (dk_at dksX6_lays_5 16 rfl rfl)
theorem dX6_lays_136 : decode cX6_lays 136 = .ok (.iload_n 1, 1) := dk_27 (dk_at dksX6_lays_5 17 rfl rfl)
theorem dX6_lays_137 : decode cX6_lays 137 = .ok (.invokevirtual 240, 3) := dk_182 0 240 (dk_at dksX6_lays_5 18 rfl rfl)
theorem dX6_lays_140 : decode cX6_lays 140 = .ok (.iload 4, 2) := dk_21 4 (dk_at dksX6_lays_5 21 rfl rfl)
theorem dX6_lays_142 : decode cX6_lays 142 = .ok (.ifCond .ne 8, 3) := dk_154 0 8 (dk_at dksX6_lays_6 0 rfl rfl)
theorem dX6_lays_145 : decode cX6_lays 145 = .ok (.bipush 60, 2) := dk_16 60 (dk_at dksX6_lays_6 3 rfl rfl)
theorem dX6_lays_147 : decode cX6_lays 147 = .ok (.goto 16, 3) := dk_167 0 16 (dk_at dksX6_lays_6 5 rfl rfl)
theorem dX6_lays_150 : decode cX6_lays 150 = .ok (.iload 4, 2) := dk_21 4 (dk_at dksX6_lays_6 8 rfl rfl)
theorem dX6_lays_152 : decode cX6_lays 152 = .ok (.iconst 1, 1) := dk_4 (dk_at dksX6_lays_6 10 rfl rfl)
theorem dX6_lays_153 : decode cX6_lays 153 = .ok (.if_icmp .ne 8, 3) := dk_160 0 8 (dk_at dksX6_lays_6 11 rfl rfl)
theorem dX6_lays_156 : decode cX6_lays 156 = .ok (.bipush 25, 2) := dk_16 25 (dk_at dksX6_lays_6 14 rfl rfl)
theorem dX6_lays_158 : decode cX6_lays 158 = .ok (.goto 5, 3) := dk_167 0 5 (dk_at dksX6_lays_6 16 rfl rfl)
theorem dX6_lays_161 : decode cX6_lays 161 = .ok (.bipush 30, 2) := dk_16 30 (dk_at dksX6_lays_6 19 rfl rfl)
theorem dX6_lays_163 : decode cX6_lays 163 = .ok (.iload 6, 2) := dk_21 6 (dk_at dksX6_lays_6 21 rfl rfl)
theorem dX6_lays_165 : decode cX6_lays 165 = .ok (.iconst 1, 1) := dk_4 (dk_at dksX6_lays_6 23 rfl rfl)
theorem dX6_lays_166 : decode cX6_lays 166 = .ok (.if_icmp .ne 8, 3) := dk_160 0 8 (dk_at dksX6_lays_7 0 rfl rfl)
theorem dX6_lays_169 : decode cX6_lays 169 = .ok (.bipush 20, 2) := dk_16 20 (dk_at dksX6_lays_7 3 rfl rfl)
theorem dX6_lays_171 : decode cX6_lays 171 = .ok (.goto 4, 3) := dk_167 0 4 (dk_at dksX6_lays_7 5 rfl rfl)
theorem dX6_lays_174 : decode cX6_lays 174 = .ok (.iconst 0, 1) := dk_3 (dk_at dksX6_lays_7 8 rfl rfl)
theorem dX6_lays_175 : decode cX6_lays 175 = .ok (.iadd, 1) := dk_96 (dk_at dksX6_lays_7 9 rfl rfl)
theorem dX6_lays_176 : decode cX6_lays 176 = .ok (.istore 7, 2) := dk_54 7 (dk_at dksX6_lays_7 10 rfl rfl)
theorem dX6_lays_178 : decode cX6_lays 178 = .ok (.aload_n 0, 1) := dk_42 (dk_at dksX6_lays_7 12 rfl rfl)
theorem dX6_lays_179 : decode cX6_lays 179 = .ok (.getfield 29, 3) := dk_180 0 29 (dk_at dksX6_lays_7 13 rfl rfl)
theorem dX6_lays_182 : decode cX6_lays 182 = .ok (.iload_n 1, 1) := dk_27 (dk_at dksX6_lays_7 16 rfl rfl)
theorem dX6_lays_183 : decode cX6_lays 183 = .ok (.iaload, 1) := dk_46 (dk_at dksX6_lays_7 17 rfl rfl)
theorem dX6_lays_184 : decode cX6_lays 184 = .ok (.iconst 5, 1) := dk_8 (dk_at dksX6_lays_7 18 rfl rfl)
theorem dX6_lays_185 : decode cX6_lays 185 = .ok (.if_icmp .eq 39, 3) := dk_159 0 39 (dk_at dksX6_lays_7 19 rfl rfl)
theorem dX6_lays_188 : decode cX6_lays 188 = .ok (.aload_n 0, 1) := dk_42 (dk_at dksX6_lays_7 22 rfl rfl)
theorem dX6_lays_189 : decode cX6_lays 189 = .ok (.getfield 38, 3) := dk_180 0 38 (dk_at dksX6_lays_8 0 rfl rfl)
theorem dX6_lays_192 : decode cX6_lays 192 = .ok (.iload_n 1, 1) := dk_27 (dk_at dksX6_lays_8 3 rfl rfl)
theorem dX6_lays_193 : decode cX6_lays 193 = .ok (.iaload, 1) := dk_46 (dk_at dksX6_lays_8 4 rfl rfl)
theorem dX6_lays_194 : decode cX6_lays 194 = .ok (.iload 5, 2) := dk_21 5 (dk_at dksX6_lays_8 5 rfl rfl)
theorem dX6_lays_196 : decode cX6_lays 196 = .ok (.if_icmp .ge 28, 3) := dk_162 0 28 (dk_at dksX6_lays_8 7 rfl rfl)
theorem dX6_lays_199 : decode cX6_lays 199 = .ok (.aload_n 0, 1) := dk_42 (dk_at dksX6_lays_8 10 rfl rfl)
theorem dX6_lays_200 : decode cX6_lays 200 = .ok (.getfield 38, 3) := dk_180 0 38 (dk_at dksX6_lays_8 11 rfl rfl)
theorem dX6_lays_203 : decode cX6_lays 203 = .ok (.iload_n 1, 1) := dk_27 (dk_at dksX6_lays_8 14 rfl rfl)
theorem dX6_lays_204 : decode cX6_lays 204 = .ok (.dup2, 1) := dk_92 (dk_at dksX6_lays_8 15 rfl rfl)
theorem dX6_lays_205 : decode cX6_lays 205 = .ok (.iaload, 1) := dk_46 (dk_at dksX6_lays_8 16 rfl rfl)
theorem dX6_lays_206 : decode cX6_lays 206 = .ok (.sipush 365, 3) := dk_17 1 109 (dk_at dksX6_lays_8 17 rfl rfl)
theorem dX6_lays_209 : decode cX6_lays 209 = .ok (.iadd, 1) := dk_96 (dk_at dksX6_lays_8 20 rfl rfl)
theorem dX6_lays_210 : decode cX6_lays 210 = .ok (.iastore, 1) := dk_79 (dk_at dksX6_lays_8 21 rfl rfl)
theorem dX6_lays_211 : decode cX6_lays 211 = .ok (.iload 7, 2) := dk_21 7 (dk_at dksX6_lays_8 22 rfl rfl)
theorem dX6_lays_213 : decode cX6_lays 213 = .ok (.aload_n 0, 1) := dk_42 (dk_at dksX6_lays_9 0 rfl rfl)
theorem dX6_lays_214 : decode cX6_lays 214 = .ok (.iload_n 1, 1) := dk_27 (dk_at dksX6_lays_9 1 rfl rfl)
theorem dX6_lays_215 : decode cX6_lays 215 = .ok (.invokevirtual 189, 3) := dk_182 0 189 (dk_at dksX6_lays_9 2 rfl rfl)
theorem dX6_lays_218 : decode cX6_lays 218 = .ok (.iadd, 1) := dk_96 (dk_at dksX6_lays_9 5 rfl rfl)
theorem dX6_lays_219 : decode cX6_lays 219 = .ok (.istore 7, 2) := dk_54 7 (dk_at dksX6_lays_9 6 rfl rfl)
theorem dX6_lays_221 : decode cX6_lays 221 = .ok (.goto (-43), 3) := dk_167 255 213 (dk_at dksX6_lays_9 8 rfl rfl)
theorem dX6_lays_224 : decode cX6_lays 224 = .ok (.aload_n 0, 1) := dk_42 (dk_at dksX6_lays_9 11 rfl rfl)
theorem dX6_lays_225 : decode cX6_lays 225 = .ok (.dup, 1) := dk_89 (dk_at dksX6_lays_9 12 rfl rfl)
theorem dX6_lays_226 : decode cX6_lays 226 = .ok (.getfield 150, 3) := dk_180 0 150 (dk_at dksX6_lays_9 13 rfl rfl)
theorem dX6_lays_229 : decode cX6_lays 229 = .ok (.iload 7, 2) := dk_21 7 (dk_at dksX6_lays_9 16 rfl rfl)
theorem dX6_lays_231 : decode cX6_lays 231 = .ok (.iadd, 1) := dk_96 (dk_at dksX6_lays_9 18 rfl rfl)
theorem dX6_lays_232 : decode cX6_lays 232 = .ok (.putfield 150, 3) := dk_181 0 150 (dk_at dksX6_lays_9 19 rfl rfl)
theorem dX6_lays_235 : decode cX6_lays 235 = .ok (.iload 7, 2) := dk_21 7 (dk_at dksX6_lays_9 22 rfl rfl)
theorem dX6_lays_237 : decode cX6_lays 237 = .ok (.ireturn, 1) := dk_172 (dk_at dksX6_lays_10 0 rfl rfl)
abbrev cX6_toEarth : ByteArray := prog_21_method_43_code
def yX6_toEarth : MethodName := ⟨RX6, "toEarth", "(III)V"⟩
def dkwX6_toEarth_1 : List UInt8 := [180, 0, 95, 21, 4, 5, 79, 42, 180, 0, 71, 16, 8, 27, 104, 5, 28, 104, 96, 29, 96, 2, 79, 177]
abbrev dktX6_toEarth_1 : List UInt8 := dkwX6_toEarth_1 ++ []
def dkwX6_toEarth_0 : List UInt8 := [42, 180, 0, 71, 16, 8, 27, 104, 5, 28, 104, 96, 29, 96, 46, 54, 4, 21, 4, 155, 0, 11, 42]
abbrev dktX6_toEarth_0 : List UInt8 := dkwX6_toEarth_0 ++ dktX6_toEarth_1
theorem dksX6_toEarth_0 : cX6_toEarth.data.toList.drop 0 = dktX6_toEarth_0 := by decide +kernel
theorem dksX6_toEarth_1 : cX6_toEarth.data.toList.drop 23 = dktX6_toEarth_1 := dk_seg dksX6_toEarth_0 23 rfl rfl
theorem dX6_toEarth_0 : decode cX6_toEarth 0 = .ok (.aload_n 0, 1) := dk_42 (dk_at dksX6_toEarth_0 0 rfl rfl)
theorem dX6_toEarth_1 : decode cX6_toEarth 1 = .ok (.getfield 71, 3) := dk_180 0 71 (dk_at dksX6_toEarth_0 1 rfl rfl)
theorem dX6_toEarth_4 : decode cX6_toEarth 4 = .ok (.bipush 8, 2) := dk_16 8 (dk_at dksX6_toEarth_0 4 rfl rfl)
theorem dX6_toEarth_6 : decode cX6_toEarth 6 = .ok (.iload_n 1, 1) := dk_27 (dk_at dksX6_toEarth_0 6 rfl rfl)
theorem dX6_toEarth_7 : decode cX6_toEarth 7 = .ok (.imul, 1) := dk_104 (dk_at dksX6_toEarth_0 7 rfl rfl)
theorem dX6_toEarth_8 : decode cX6_toEarth 8 = .ok (.iconst 2, 1) := dk_5 (dk_at dksX6_toEarth_0 8 rfl rfl)
theorem dX6_toEarth_9 : decode cX6_toEarth 9 = .ok (.iload_n 2, 1) := dk_28 (dk_at dksX6_toEarth_0 9 rfl rfl)
theorem dX6_toEarth_10 : decode cX6_toEarth 10 = .ok (.imul, 1) := dk_104 (dk_at dksX6_toEarth_0 10 rfl rfl)
theorem dX6_toEarth_11 : decode cX6_toEarth 11 = .ok (.iadd, 1) := dk_96 (dk_at dksX6_toEarth_0 11 rfl rfl)
theorem dX6_toEarth_12 : decode cX6_toEarth 12 = .ok (.iload_n 3, 1) := dk_29 (dk_at dksX6_toEarth_0 12 rfl rfl)
theorem dX6_toEarth_13 : decode cX6_toEarth 13 = .ok (.iadd, 1) := dk_96 (dk_at dksX6_toEarth_0 13 rfl rfl)
theorem dX6_toEarth_14 : decode cX6_toEarth 14 = .ok (.iaload, 1) := dk_46 (dk_at dksX6_toEarth_0 14 rfl rfl)
theorem dX6_toEarth_15 : decode cX6_toEarth 15 = .ok (.istore 4, 2) := dk_54 4 (dk_at dksX6_toEarth_0 15 rfl rfl)
theorem dX6_toEarth_17 : decode cX6_toEarth 17 = .ok (.iload 4, 2) := dk_21 4 (dk_at dksX6_toEarth_0 17 rfl rfl)
theorem dX6_toEarth_19 : decode cX6_toEarth 19 = .ok (.ifCond .lt 11, 3) := dk_155 0 11 (dk_at dksX6_toEarth_0 19 rfl rfl)
theorem dX6_toEarth_22 : decode cX6_toEarth 22 = .ok (.aload_n 0, 1) := dk_42 (dk_at dksX6_toEarth_0 22 rfl rfl)
theorem dX6_toEarth_23 : decode cX6_toEarth 23 = .ok (.getfield 95, 3) := dk_180 0 95 (dk_at dksX6_toEarth_1 0 rfl rfl)
theorem dX6_toEarth_26 : decode cX6_toEarth 26 = .ok (.iload 4, 2) := dk_21 4 (dk_at dksX6_toEarth_1 3 rfl rfl)
theorem dX6_toEarth_28 : decode cX6_toEarth 28 = .ok (.iconst 2, 1) := dk_5 (dk_at dksX6_toEarth_1 5 rfl rfl)
theorem dX6_toEarth_29 : decode cX6_toEarth 29 = .ok (.iastore, 1) := dk_79 (dk_at dksX6_toEarth_1 6 rfl rfl)
theorem dX6_toEarth_30 : decode cX6_toEarth 30 = .ok (.aload_n 0, 1) := dk_42 (dk_at dksX6_toEarth_1 7 rfl rfl)
theorem dX6_toEarth_31 : decode cX6_toEarth 31 = .ok (.getfield 71, 3) := dk_180 0 71 (dk_at dksX6_toEarth_1 8 rfl rfl)
theorem dX6_toEarth_34 : decode cX6_toEarth 34 = .ok (.bipush 8, 2) := dk_16 8 (dk_at dksX6_toEarth_1 11 rfl rfl)
theorem dX6_toEarth_36 : decode cX6_toEarth 36 = .ok (.iload_n 1, 1) := dk_27 (dk_at dksX6_toEarth_1 13 rfl rfl)
theorem dX6_toEarth_37 : decode cX6_toEarth 37 = .ok (.imul, 1) := dk_104 (dk_at dksX6_toEarth_1 14 rfl rfl)
theorem dX6_toEarth_38 : decode cX6_toEarth 38 = .ok (.iconst 2, 1) := dk_5 (dk_at dksX6_toEarth_1 15 rfl rfl)
theorem dX6_toEarth_39 : decode cX6_toEarth 39 = .ok (.iload_n 2, 1) := dk_28 (dk_at dksX6_toEarth_1 16 rfl rfl)
theorem dX6_toEarth_40 : decode cX6_toEarth 40 = .ok (.imul, 1) := dk_104 (dk_at dksX6_toEarth_1 17 rfl rfl)
theorem dX6_toEarth_41 : decode cX6_toEarth 41 = .ok (.iadd, 1) := dk_96 (dk_at dksX6_toEarth_1 18 rfl rfl)
theorem dX6_toEarth_42 : decode cX6_toEarth 42 = .ok (.iload_n 3, 1) := dk_29 (dk_at dksX6_toEarth_1 19 rfl rfl)
theorem dX6_toEarth_43 : decode cX6_toEarth 43 = .ok (.iadd, 1) := dk_96 (dk_at dksX6_toEarth_1 20 rfl rfl)
theorem dX6_toEarth_44 : decode cX6_toEarth 44 = .ok (.iconst (-1), 1) := dk_2 (dk_at dksX6_toEarth_1 21 rfl rfl)
theorem dX6_toEarth_45 : decode cX6_toEarth 45 = .ok (.iastore, 1) := dk_79 (dk_at dksX6_toEarth_1 22 rfl rfl)
theorem dX6_toEarth_46 : decode cX6_toEarth 46 = .ok (.return_, 1) := dk_177 (dk_at dksX6_toEarth_1 23 rfl rfl)
abbrev cX6_noteMove : ByteArray := prog_21_method_42_code
def yX6_noteMove : MethodName := ⟨RX6, "noteMove", "(II)V"⟩
def dkwX6_noteMove_1 : List UInt8 := [180, 0, 122, 42, 180, 0, 147, 28, 79, 42, 89, 180, 0, 147, 4, 96, 181, 0, 147, 177]
abbrev dktX6_noteMove_1 : List UInt8 := dkwX6_noteMove_1 ++ []
def dkwX6_noteMove_0 : List UInt8 := [42, 180, 0, 116, 42, 180, 0, 147, 27, 79, 42, 180, 0, 119, 42, 180, 0, 147, 42, 180, 0, 135, 79, 42]
abbrev dktX6_noteMove_0 : List UInt8 := dkwX6_noteMove_0 ++ dktX6_noteMove_1
theorem dksX6_noteMove_0 : cX6_noteMove.data.toList.drop 0 = dktX6_noteMove_0 := by decide +kernel
theorem dksX6_noteMove_1 : cX6_noteMove.data.toList.drop 24 = dktX6_noteMove_1 := dk_seg dksX6_noteMove_0 24 rfl rfl
theorem dX6_noteMove_0 : decode cX6_noteMove 0 = .ok (.aload_n 0, 1) := dk_42 (dk_at dksX6_noteMove_0 0 rfl rfl)
theorem dX6_noteMove_1 : decode cX6_noteMove 1 = .ok (.getfield 116, 3) := dk_180 0 116 (dk_at dksX6_noteMove_0 1 rfl rfl)
theorem dX6_noteMove_4 : decode cX6_noteMove 4 = .ok (.aload_n 0, 1) := dk_42 (dk_at dksX6_noteMove_0 4 rfl rfl)
theorem dX6_noteMove_5 : decode cX6_noteMove 5 = .ok (.getfield 147, 3) := dk_180 0 147 (dk_at dksX6_noteMove_0 5 rfl rfl)
theorem dX6_noteMove_8 : decode cX6_noteMove 8 = .ok (.iload_n 1, 1) := dk_27 (dk_at dksX6_noteMove_0 8 rfl rfl)
theorem dX6_noteMove_9 : decode cX6_noteMove 9 = .ok (.iastore, 1) := dk_79 (dk_at dksX6_noteMove_0 9 rfl rfl)
theorem dX6_noteMove_10 : decode cX6_noteMove 10 = .ok (.aload_n 0, 1) := dk_42 (dk_at dksX6_noteMove_0 10 rfl rfl)
theorem dX6_noteMove_11 : decode cX6_noteMove 11 = .ok (.getfield 119, 3) := dk_180 0 119 (dk_at dksX6_noteMove_0 11 rfl rfl)
theorem dX6_noteMove_14 : decode cX6_noteMove 14 = .ok (.aload_n 0, 1) := dk_42 (dk_at dksX6_noteMove_0 14 rfl rfl)
theorem dX6_noteMove_15 : decode cX6_noteMove 15 = .ok (.getfield 147, 3) := dk_180 0 147 (dk_at dksX6_noteMove_0 15 rfl rfl)
theorem dX6_noteMove_18 : decode cX6_noteMove 18 = .ok (.aload_n 0, 1) := dk_42 (dk_at dksX6_noteMove_0 18 rfl rfl)
theorem dX6_noteMove_19 : decode cX6_noteMove 19 = .ok (.getfield 135, 3) := dk_180 0 135 (dk_at dksX6_noteMove_0 19 rfl rfl)
theorem dX6_noteMove_22 : decode cX6_noteMove 22 = .ok (.iastore, 1) := dk_79 (dk_at dksX6_noteMove_0 22 rfl rfl)
theorem dX6_noteMove_23 : decode cX6_noteMove 23 = .ok (.aload_n 0, 1) := dk_42 (dk_at dksX6_noteMove_0 23 rfl rfl)
theorem dX6_noteMove_24 : decode cX6_noteMove 24 = .ok (.getfield 122, 3) := dk_180 0 122 (dk_at dksX6_noteMove_1 0 rfl rfl)
theorem dX6_noteMove_27 : decode cX6_noteMove 27 = .ok (.aload_n 0, 1) := dk_42 (dk_at dksX6_noteMove_1 3 rfl rfl)
theorem dX6_noteMove_28 : decode cX6_noteMove 28 = .ok (.getfield 147, 3) := dk_180 0 147 (dk_at dksX6_noteMove_1 4 rfl rfl)
theorem dX6_noteMove_31 : decode cX6_noteMove 31 = .ok (.iload_n 2, 1) := dk_28 (dk_at dksX6_noteMove_1 7 rfl rfl)
theorem dX6_noteMove_32 : decode cX6_noteMove 32 = .ok (.iastore, 1) := dk_79 (dk_at dksX6_noteMove_1 8 rfl rfl)
theorem dX6_noteMove_33 : decode cX6_noteMove 33 = .ok (.aload_n 0, 1) := dk_42 (dk_at dksX6_noteMove_1 9 rfl rfl)
theorem dX6_noteMove_34 : decode cX6_noteMove 34 = .ok (.dup, 1) := dk_89 (dk_at dksX6_noteMove_1 10 rfl rfl)
theorem dX6_noteMove_35 : decode cX6_noteMove 35 = .ok (.getfield 147, 3) := dk_180 0 147 (dk_at dksX6_noteMove_1 11 rfl rfl)
theorem dX6_noteMove_38 : decode cX6_noteMove 38 = .ok (.iconst 1, 1) := dk_4 (dk_at dksX6_noteMove_1 14 rfl rfl)
theorem dX6_noteMove_39 : decode cX6_noteMove 39 = .ok (.iadd, 1) := dk_96 (dk_at dksX6_noteMove_1 15 rfl rfl)
theorem dX6_noteMove_40 : decode cX6_noteMove 40 = .ok (.putfield 147, 3) := dk_181 0 147 (dk_at dksX6_noteMove_1 16 rfl rfl)
theorem dX6_noteMove_43 : decode cX6_noteMove 43 = .ok (.return_, 1) := dk_177 (dk_at dksX6_noteMove_1 19 rfl rfl)
abbrev cX6_actMove : ByteArray := prog_21_method_46_code
def yX6_actMove : MethodName := ⟨RX6, "actMove", "(IIII)I"⟩
def dkwX6_actMove_13 : List UInt8 := [27, 42, 180, 0, 101, 27, 46, 42, 180, 0, 98, 27, 46, 182, 0, 247, 96, 172]
abbrev dktX6_actMove_13 : List UInt8 := dkwX6_actMove_13 ++ []
def dkwX6_actMove_12 : List UInt8 := [180, 0, 95, 27, 46, 96, 2, 79, 42, 89, 180, 0, 150, 16, 90, 96, 181, 0, 150, 16, 90, 42, 28, 29]
abbrev dktX6_actMove_12 : List UInt8 := dkwX6_actMove_12 ++ dktX6_actMove_13
def dkwX6_actMove_11 : List UInt8 := [3, 182, 0, 237, 42, 180, 0, 71, 16, 8, 21, 5, 104, 5, 42, 180, 0, 92, 27, 46, 104, 96, 42]
abbrev dktX6_actMove_11 : List UInt8 := dkwX6_actMove_11 ++ dktX6_actMove_12
def dkwX6_actMove_10 : List UInt8 := [27, 46, 4, 160, 0, 25, 42, 21, 6, 182, 0, 219, 154, 0, 16, 42, 21, 5, 42, 180, 0, 92, 27, 46]
abbrev dktX6_actMove_10 : List UInt8 := dkwX6_actMove_10 ++ dktX6_actMove_11
def dkwX6_actMove_9 : List UInt8 := [180, 0, 98, 27, 46, 4, 182, 0, 243, 54, 7, 21, 7, 158, 0, 7, 21, 7, 116, 172, 42, 180, 0, 95]
abbrev dktX6_actMove_9 : List UInt8 := dkwX6_actMove_9 ++ dktX6_actMove_10
def dkwX6_actMove_8 : List UInt8 := [153, 0, 13, 21, 6, 21, 4, 159, 0, 6, 16, 248, 172, 42, 28, 29, 27, 42, 180, 0, 101, 27, 46, 42]
abbrev dktX6_actMove_8 : List UInt8 := dkwX6_actMove_8 ++ dktX6_actMove_9
def dkwX6_actMove_7 : List UInt8 := [104, 5, 42, 180, 0, 92, 27, 46, 104, 96, 46, 167, 0, 4, 2, 54, 6, 42, 21, 6, 182, 0, 219]
abbrev dktX6_actMove_7 : List UInt8 := dkwX6_actMove_7 ++ dktX6_actMove_8
def dkwX6_actMove_6 : List UInt8 := [159, 0, 6, 16, 252, 172, 42, 180, 0, 95, 27, 46, 4, 160, 0, 25, 42, 180, 0, 71, 16, 8, 21, 5]
abbrev dktX6_actMove_6 : List UInt8 := dkwX6_actMove_6 ++ dktX6_actMove_7
def dkwX6_actMove_5 : List UInt8 := [46, 8, 160, 0, 6, 16, 253, 172, 42, 180, 0, 89, 27, 46, 54, 5, 42, 180, 0, 32, 21, 5, 46, 4]
abbrev dktX6_actMove_5 : List UInt8 := dkwX6_actMove_5 ++ dktX6_actMove_6
def dkwX6_actMove_4 : List UInt8 := [5, 160, 0, 28, 42, 180, 0, 95, 27, 46, 5, 159, 0, 18, 42, 180, 0, 29, 42, 180, 0, 89, 27, 46]
abbrev dktX6_actMove_4 : List UInt8 := dkwX6_actMove_4 ++ dktX6_actMove_5
def dkwX6_actMove_3 : List UInt8 := [27, 46, 28, 160, 0, 15, 42, 180, 0, 92, 27, 46, 29, 160, 0, 5, 2, 172, 42, 180, 0, 86, 27, 46]
abbrev dktX6_actMove_3 : List UInt8 := dkwX6_actMove_3 ++ dktX6_actMove_4
def dkwX6_actMove_2 : List UInt8 := [21, 4, 182, 0, 183, 154, 0, 5, 2, 172, 42, 180, 0, 86, 27, 46, 5, 160, 0, 25, 42, 180, 0, 89]
abbrev dktX6_actMove_2 : List UInt8 := dkwX6_actMove_2 ++ dktX6_actMove_3
def dkwX6_actMove_1 : List UInt8 := [159, 0, 31, 29, 155, 0, 27, 29, 42, 28, 182, 0, 222, 162, 0, 18, 21, 4, 2, 159, 0, 14, 42]
abbrev dktX6_actMove_1 : List UInt8 := dkwX6_actMove_1 ++ dktX6_actMove_2
def dkwX6_actMove_0 : List UInt8 := [42, 27, 182, 0, 183, 153, 0, 49, 42, 28, 182, 0, 186, 153, 0, 41, 42, 180, 0, 32, 28, 46, 7]
abbrev dktX6_actMove_0 : List UInt8 := dkwX6_actMove_0 ++ dktX6_actMove_1
theorem dksX6_actMove_0 : cX6_actMove.data.toList.drop 0 = dktX6_actMove_0 := by decide +kernel
theorem dksX6_actMove_1 : cX6_actMove.data.toList.drop 23 = dktX6_actMove_1 := dk_seg dksX6_actMove_0 23 rfl rfl
theorem dksX6_actMove_2 : cX6_actMove.data.toList.drop 46 = dktX6_actMove_2 := dk_seg dksX6_actMove_1 23 rfl rfl
theorem dksX6_actMove_3 : cX6_actMove.data.toList.drop 70 = dktX6_actMove_3 := dk_seg dksX6_actMove_2 24 rfl rfl
theorem dksX6_actMove_4 : cX6_actMove.data.toList.drop 94 = dktX6_actMove_4 := dk_seg dksX6_actMove_3 24 rfl rfl
theorem dksX6_actMove_5 : cX6_actMove.data.toList.drop 118 = dktX6_actMove_5 := dk_seg dksX6_actMove_4 24 rfl rfl
theorem dksX6_actMove_6 : cX6_actMove.data.toList.drop 142 = dktX6_actMove_6 := dk_seg dksX6_actMove_5 24 rfl rfl
theorem dksX6_actMove_7 : cX6_actMove.data.toList.drop 166 = dktX6_actMove_7 := dk_seg dksX6_actMove_6 24 rfl rfl
theorem dksX6_actMove_8 : cX6_actMove.data.toList.drop 189 = dktX6_actMove_8 := dk_seg dksX6_actMove_7 23 rfl rfl
theorem dksX6_actMove_9 : cX6_actMove.data.toList.drop 213 = dktX6_actMove_9 := dk_seg dksX6_actMove_8 24 rfl rfl
theorem dksX6_actMove_10 : cX6_actMove.data.toList.drop 237 = dktX6_actMove_10 := dk_seg dksX6_actMove_9 24 rfl rfl
theorem dksX6_actMove_11 : cX6_actMove.data.toList.drop 261 = dktX6_actMove_11 := dk_seg dksX6_actMove_10 24 rfl rfl
theorem dksX6_actMove_12 : cX6_actMove.data.toList.drop 284 = dktX6_actMove_12 := dk_seg dksX6_actMove_11 23 rfl rfl
theorem dksX6_actMove_13 : cX6_actMove.data.toList.drop 308 = dktX6_actMove_13 := dk_seg dksX6_actMove_12 24 rfl rfl
theorem dX6_actMove_0 : decode cX6_actMove 0 = .ok (.aload_n 0, 1) := dk_42 (dk_at dksX6_actMove_0 0 rfl rfl)
theorem dX6_actMove_1 : decode cX6_actMove 1 = .ok (.iload_n 1, 1) := dk_27 (dk_at dksX6_actMove_0 1 rfl rfl)
theorem dX6_actMove_2 : decode cX6_actMove 2 = .ok (.invokevirtual 183, 3) := dk_182 0 183 (dk_at dksX6_actMove_0 2 rfl rfl)
theorem dX6_actMove_5 : decode cX6_actMove 5 = .ok (.ifCond .eq 49, 3) := dk_153 0 49 (dk_at dksX6_actMove_0 5 rfl rfl)
theorem dX6_actMove_8 : decode cX6_actMove 8 = .ok (.aload_n 0, 1) := dk_42 (dk_at dksX6_actMove_0 8 rfl rfl)
theorem dX6_actMove_9 : decode cX6_actMove 9 = .ok (.iload_n 2, 1) := dk_28 (dk_at dksX6_actMove_0 9 rfl rfl)
theorem dX6_actMove_10 : decode cX6_actMove 10 = .ok (.invokevirtual 186, 3) := dk_182 0 186 (dk_at dksX6_actMove_0 10 rfl rfl)
theorem dX6_actMove_13 : decode cX6_actMove 13 = .ok (.ifCond .eq 41, 3) := dk_153 0 41 (dk_at dksX6_actMove_0 13 rfl rfl)
theorem dX6_actMove_16 : decode cX6_actMove 16 = .ok (.aload_n 0, 1) := dk_42 (dk_at dksX6_actMove_0 16 rfl rfl)
theorem dX6_actMove_17 : decode cX6_actMove 17 = .ok (.getfield 32, 3) := dk_180 0 32 (dk_at dksX6_actMove_0 17 rfl rfl)
theorem dX6_actMove_20 : decode cX6_actMove 20 = .ok (.iload_n 2, 1) := dk_28 (dk_at dksX6_actMove_0 20 rfl rfl)
theorem dX6_actMove_21 : decode cX6_actMove 21 = .ok (.iaload, 1) := dk_46 (dk_at dksX6_actMove_0 21 rfl rfl)
theorem dX6_actMove_22 : decode cX6_actMove 22 = .ok (.iconst 4, 1) := dk_7 (dk_at dksX6_actMove_0 22 rfl rfl)
theorem dX6_actMove_23 : decode cX6_actMove 23 = .ok (.if_icmp .eq 31, 3) := dk_159 0 31 (dk_at dksX6_actMove_1 0 rfl rfl)
theorem dX6_actMove_26 : decode cX6_actMove 26 = .ok (.iload_n 3, 1) := dk_29 (dk_at dksX6_actMove_1 3 rfl rfl)
theorem dX6_actMove_27 : decode cX6_actMove 27 = .ok (.ifCond .lt 27, 3) := dk_155 0 27 (dk_at dksX6_actMove_1 4 rfl rfl)
theorem dX6_actMove_30 : decode cX6_actMove 30 = .ok (.iload_n 3, 1) := dk_29 (dk_at dksX6_actMove_1 7 rfl rfl)
theorem dX6_actMove_31 : decode cX6_actMove 31 = .ok (.aload_n 0, 1) := dk_42 (dk_at dksX6_actMove_1 8 rfl rfl)
theorem dX6_actMove_32 : decode cX6_actMove 32 = .ok (.iload_n 2, 1) := dk_28 (dk_at dksX6_actMove_1 9 rfl rfl)
theorem dX6_actMove_33 : decode cX6_actMove 33 = .ok (.invokevirtual 222, 3) := dk_182 0 222 (dk_at dksX6_actMove_1 10 rfl rfl)
theorem dX6_actMove_36 : decode cX6_actMove 36 = .ok (.if_icmp .ge 18, 3) := dk_162 0 18 (dk_at dksX6_actMove_1 13 rfl rfl)
theorem dX6_actMove_39 : decode cX6_actMove 39 = .ok (.iload 4, 2) := dk_21 4 (dk_at dksX6_actMove_1 16 rfl rfl)
theorem dX6_actMove_41 : decode cX6_actMove 41 = .ok (.iconst (-1), 1) := dk_2 (dk_at dksX6_actMove_1 18 rfl rfl)
theorem dX6_actMove_42 : decode cX6_actMove 42 = .ok (.if_icmp .eq 14, 3) := dk_159 0 14 (dk_at dksX6_actMove_1 19 rfl rfl)
theorem dX6_actMove_45 : decode cX6_actMove 45 = .ok (.aload_n 0, 1) := dk_42 (dk_at dksX6_actMove_1 22 rfl rfl)
theorem dX6_actMove_46 : decode cX6_actMove 46 = .ok (.iload 4, 2) := dk_21 4 (dk_at dksX6_actMove_2 0 rfl rfl)
theorem dX6_actMove_48 : decode cX6_actMove 48 = .ok (.invokevirtual 183, 3) := dk_182 0 183 (dk_at dksX6_actMove_2 2 rfl rfl)
theorem dX6_actMove_51 : decode cX6_actMove 51 = .ok (.ifCond .ne 5, 3) := dk_154 0 5 (dk_at dksX6_actMove_2 5 rfl rfl)
theorem dX6_actMove_54 : decode cX6_actMove 54 = .ok (.iconst (-1), 1) := dk_2 (dk_at dksX6_actMove_2 8 rfl rfl)
theorem dX6_actMove_55 : decode cX6_actMove 55 = .ok (.ireturn, 1) := dk_172 (dk_at dksX6_actMove_2 9 rfl rfl)
theorem dX6_actMove_56 : decode cX6_actMove 56 = .ok (.aload_n 0, 1) := dk_42 (dk_at dksX6_actMove_2 10 rfl rfl)
theorem dX6_actMove_57 : decode cX6_actMove 57 = .ok (.getfield 86, 3) := dk_180 0 86 (dk_at dksX6_actMove_2 11 rfl rfl)
theorem dX6_actMove_60 : decode cX6_actMove 60 = .ok (.iload_n 1, 1) := dk_27 (dk_at dksX6_actMove_2 14 rfl rfl)
theorem dX6_actMove_61 : decode cX6_actMove 61 = .ok (.iaload, 1) := dk_46 (dk_at dksX6_actMove_2 15 rfl rfl)
theorem dX6_actMove_62 : decode cX6_actMove 62 = .ok (.iconst 2, 1) := dk_5 (dk_at dksX6_actMove_2 16 rfl rfl)
theorem dX6_actMove_63 : decode cX6_actMove 63 = .ok (.if_icmp .ne 25, 3) := dk_160 0 25 (dk_at dksX6_actMove_2 17 rfl rfl)
theorem dX6_actMove_66 : decode cX6_actMove 66 = .ok (.aload_n 0, 1) := dk_42 (dk_at dksX6_actMove_2 20 rfl rfl)
theorem dX6_actMove_67 : decode cX6_actMove 67 = .ok (.getfield 89, 3) := dk_180 0 89 (dk_at dksX6_actMove_2 21 rfl rfl)
theorem dX6_actMove_70 : decode cX6_actMove 70 = .ok (.iload_n 1, 1) := dk_27 (dk_at dksX6_actMove_3 0 rfl rfl)
theorem dX6_actMove_71 : decode cX6_actMove 71 = .ok (.iaload, 1) := dk_46 (dk_at dksX6_actMove_3 1 rfl rfl)
theorem dX6_actMove_72 : decode cX6_actMove 72 = .ok (.iload_n 2, 1) := dk_28 (dk_at dksX6_actMove_3 2 rfl rfl)
theorem dX6_actMove_73 : decode cX6_actMove 73 = .ok (.if_icmp .ne 15, 3) := dk_160 0 15 (dk_at dksX6_actMove_3 3 rfl rfl)
theorem dX6_actMove_76 : decode cX6_actMove 76 = .ok (.aload_n 0, 1) := dk_42 (dk_at dksX6_actMove_3 6 rfl rfl)
theorem dX6_actMove_77 : decode cX6_actMove 77 = .ok (.getfield 92, 3) := dk_180 0 92 (dk_at dksX6_actMove_3 7 rfl rfl)
theorem dX6_actMove_80 : decode cX6_actMove 80 = .ok (.iload_n 1, 1) := dk_27 (dk_at dksX6_actMove_3 10 rfl rfl)
theorem dX6_actMove_81 : decode cX6_actMove 81 = .ok (.iaload, 1) := dk_46 (dk_at dksX6_actMove_3 11 rfl rfl)
theorem dX6_actMove_82 : decode cX6_actMove 82 = .ok (.iload_n 3, 1) := dk_29 (dk_at dksX6_actMove_3 12 rfl rfl)
theorem dX6_actMove_83 : decode cX6_actMove 83 = .ok (.if_icmp .ne 5, 3) := dk_160 0 5 (dk_at dksX6_actMove_3 13 rfl rfl)
theorem dX6_actMove_86 : decode cX6_actMove 86 = .ok (.iconst (-1), 1) := dk_2 (dk_at dksX6_actMove_3 16 rfl rfl)
theorem dX6_actMove_87 : decode cX6_actMove 87 = .ok (.ireturn, 1) := dk_172 (dk_at dksX6_actMove_3 17 rfl rfl)
theorem dX6_actMove_88 : decode cX6_actMove 88 = .ok (.aload_n 0, 1) := dk_42 (dk_at dksX6_actMove_3 18 rfl rfl)
theorem dX6_actMove_89 : decode cX6_actMove 89 = .ok (.getfield 86, 3) := dk_180 0 86 (dk_at dksX6_actMove_3 19 rfl rfl)
theorem dX6_actMove_92 : decode cX6_actMove 92 = .ok (.iload_n 1, 1) := dk_27 (dk_at dksX6_actMove_3 22 rfl rfl)
theorem dX6_actMove_93 : decode cX6_actMove 93 = .ok (.iaload, 1) := dk_46 (dk_at dksX6_actMove_3 23 rfl rfl)
theorem dX6_actMove_94 : decode cX6_actMove 94 = .ok (.iconst 2, 1) := dk_5 (dk_at dksX6_actMove_4 0 rfl rfl)
theorem dX6_actMove_95 : decode cX6_actMove 95 = .ok (.if_icmp .ne 28, 3) := dk_160 0 28 (dk_at dksX6_actMove_4 1 rfl rfl)
theorem dX6_actMove_98 : decode cX6_actMove 98 = .ok (.aload_n 0, 1) := dk_42 (dk_at dksX6_actMove_4 4 rfl rfl)
theorem dX6_actMove_99 : decode cX6_actMove 99 = .ok (.getfield 95, 3) := dk_180 0 95 (dk_at dksX6_actMove_4 5 rfl rfl)
theorem dX6_actMove_102 : decode cX6_actMove 102 = .ok (.iload_n 1, 1) := dk_27 (dk_at dksX6_actMove_4 8 rfl rfl)
theorem dX6_actMove_103 : decode cX6_actMove 103 = .ok (.iaload, 1) := dk_46 (dk_at dksX6_actMove_4 9 rfl rfl)
theorem dX6_actMove_104 : decode cX6_actMove 104 = .ok (.iconst 2, 1) := dk_5 (dk_at dksX6_actMove_4 10 rfl rfl)
theorem dX6_actMove_105 : decode cX6_actMove 105 = .ok (.if_icmp .eq 18, 3) := dk_159 0 18 (dk_at dksX6_actMove_4 11 rfl rfl)
theorem dX6_actMove_108 : decode cX6_actMove 108 = .ok (.aload_n 0, 1) := dk_42 (dk_at dksX6_actMove_4 14 rfl rfl)
theorem dX6_actMove_109 : decode cX6_actMove 109 = .ok (.getfield 29, 3) := dk_180 0 29 (dk_at dksX6_actMove_4 15 rfl rfl)
theorem dX6_actMove_112 : decode cX6_actMove 112 = .ok (.aload_n 0, 1) := dk_42 (dk_at dksX6_actMove_4 18 rfl rfl)
theorem dX6_actMove_113 : decode cX6_actMove 113 = .ok (.getfield 89, 3) := dk_180 0 89 (dk_at dksX6_actMove_4 19 rfl rfl)
theorem dX6_actMove_116 : decode cX6_actMove 116 = .ok (.iload_n 1, 1) := dk_27 (dk_at dksX6_actMove_4 22 rfl rfl)
theorem dX6_actMove_117 : decode cX6_actMove 117 = .ok (.iaload, 1) := dk_46 (dk_at dksX6_actMove_4 23 rfl rfl)
theorem dX6_actMove_118 : decode cX6_actMove 118 = .ok (.iaload, 1) := dk_46 (dk_at dksX6_actMove_5 0 rfl rfl)
theorem dX6_actMove_119 : decode cX6_actMove 119 = .ok (.iconst 5, 1) := dk_8 (dk_at dksX6_actMove_5 1 rfl rfl)
theorem dX6_actMove_120 : decode cX6_actMove 120 = .ok (.if_icmp .ne 6, 3) := dk_160 0 6 (dk_at dksX6_actMove_5 2 rfl rfl)
theorem dX6_actMove_123 : decode cX6_actMove 123 = .ok (.bipush (-3), 2) := dk_16 253 (dk_at dksX6_actMove_5 5 rfl rfl)
theorem dX6_actMove_125 : decode cX6_actMove 125 = .ok (.ireturn, 1) := dk_172 (dk_at dksX6_actMove_5 7 rfl rfl)
theorem dX6_actMove_126 : decode cX6_actMove 126 = .ok (.aload_n 0, 1) := dk_42 (dk_at dksX6_actMove_5 8 rfl rfl)
theorem dX6_actMove_127 : decode cX6_actMove 127 = .ok (.getfield 89, 3) := dk_180 0 89 (dk_at dksX6_actMove_5 9 rfl rfl)
theorem dX6_actMove_130 : decode cX6_actMove 130 = .ok (.iload_n 1, 1) := dk_27 (dk_at dksX6_actMove_5 12 rfl rfl)
theorem dX6_actMove_131 : decode cX6_actMove 131 = .ok (.iaload, 1) := dk_46 (dk_at dksX6_actMove_5 13 rfl rfl)
theorem dX6_actMove_132 : decode cX6_actMove 132 = .ok (.istore 5, 2) := dk_54 5 (dk_at dksX6_actMove_5 14 rfl rfl)
theorem dX6_actMove_134 : decode cX6_actMove 134 = .ok (.aload_n 0, 1) := dk_42 (dk_at dksX6_actMove_5 16 rfl rfl)
theorem dX6_actMove_135 : decode cX6_actMove 135 = .ok (.getfield 32, 3) := dk_180 0 32 (dk_at dksX6_actMove_5 17 rfl rfl)
theorem dX6_actMove_138 : decode cX6_actMove 138 = .ok (.iload 5, 2) := dk_21 5 (dk_at dksX6_actMove_5 20 rfl rfl)
theorem dX6_actMove_140 : decode cX6_actMove 140 = .ok (.iaload, 1) := dk_46 (dk_at dksX6_actMove_5 22 rfl rfl)
theorem dX6_actMove_141 : decode cX6_actMove 141 = .ok (.iconst 1, 1) := dk_4 (dk_at dksX6_actMove_5 23 rfl rfl)
theorem dX6_actMove_142 : decode cX6_actMove 142 = .ok (.if_icmp .eq 6, 3) := dk_159 0 6 (dk_at dksX6_actMove_6 0 rfl rfl)
theorem dX6_actMove_145 : decode cX6_actMove 145 = .ok (.bipush (-4), 2) := dk_16 252 (dk_at dksX6_actMove_6 3 rfl rfl)
theorem dX6_actMove_147 : decode cX6_actMove 147 = .ok (.ireturn, 1) := dk_172 (dk_at dksX6_actMove_6 5 rfl rfl)
theorem dX6_actMove_148 : decode cX6_actMove 148 = .ok (.aload_n 0, 1) := dk_42 (dk_at dksX6_actMove_6 6 rfl rfl)
theorem dX6_actMove_149 : decode cX6_actMove 149 = .ok (.getfield 95, 3) := dk_180 0 95 (dk_at dksX6_actMove_6 7 rfl rfl)
theorem dX6_actMove_152 : decode cX6_actMove 152 = .ok (.iload_n 1, 1) := dk_27 (dk_at dksX6_actMove_6 10 rfl rfl)
theorem dX6_actMove_153 : decode cX6_actMove 153 = .ok (.iaload, 1) := dk_46 (dk_at dksX6_actMove_6 11 rfl rfl)
theorem dX6_actMove_154 : decode cX6_actMove 154 = .ok (.iconst 1, 1) := dk_4 (dk_at dksX6_actMove_6 12 rfl rfl)
theorem dX6_actMove_155 : decode cX6_actMove 155 = .ok (.if_icmp .ne 25, 3) := dk_160 0 25 (dk_at dksX6_actMove_6 13 rfl rfl)
theorem dX6_actMove_158 : decode cX6_actMove 158 = .ok (.aload_n 0, 1) := dk_42 (dk_at dksX6_actMove_6 16 rfl rfl)
theorem dX6_actMove_159 : decode cX6_actMove 159 = .ok (.getfield 71, 3) := dk_180 0 71 (dk_at dksX6_actMove_6 17 rfl rfl)
theorem dX6_actMove_162 : decode cX6_actMove 162 = .ok (.bipush 8, 2) := dk_16 8 (dk_at dksX6_actMove_6 20 rfl rfl)
theorem dX6_actMove_164 : decode cX6_actMove 164 = .ok (.iload 5, 2) := dk_21 5 (dk_at dksX6_actMove_6 22 rfl rfl)
theorem dX6_actMove_166 : decode cX6_actMove 166 = .ok (.imul, 1) := dk_104 (dk_at dksX6_actMove_7 0 rfl rfl)
theorem dX6_actMove_167 : decode cX6_actMove 167 = .ok (.iconst 2, 1) := dk_5 (dk_at dksX6_actMove_7 1 rfl rfl)
theorem dX6_actMove_168 : decode cX6_actMove 168 = .ok (.aload_n 0, 1) := dk_42 (dk_at dksX6_actMove_7 2 rfl rfl)
theorem dX6_actMove_169 : decode cX6_actMove 169 = .ok (.getfield 92, 3) := dk_180 0 92 (dk_at dksX6_actMove_7 3 rfl rfl)
theorem dX6_actMove_172 : decode cX6_actMove 172 = .ok (.iload_n 1, 1) := dk_27 (dk_at dksX6_actMove_7 6 rfl rfl)
theorem dX6_actMove_173 : decode cX6_actMove 173 = .ok (.iaload, 1) := dk_46 (dk_at dksX6_actMove_7 7 rfl rfl)
theorem dX6_actMove_174 : decode cX6_actMove 174 = .ok (.imul, 1) := dk_104 (dk_at dksX6_actMove_7 8 rfl rfl)
theorem dX6_actMove_175 : decode cX6_actMove 175 = .ok (.iadd, 1) := dk_96 (dk_at dksX6_actMove_7 9 rfl rfl)
theorem dX6_actMove_176 : decode cX6_actMove 176 = .ok (.iaload, 1) := dk_46 (dk_at dksX6_actMove_7 10 rfl rfl)
theorem dX6_actMove_177 : decode cX6_actMove 177 = .ok (.goto 4, 3) := dk_167 0 4 (dk_at dksX6_actMove_7 11 rfl rfl)
theorem dX6_actMove_180 : decode cX6_actMove 180 = .ok (.iconst (-1), 1) := dk_2 (dk_at dksX6_actMove_7 14 rfl rfl)
theorem dX6_actMove_181 : decode cX6_actMove 181 = .ok (.istore 6, 2) := dk_54 6 (dk_at dksX6_actMove_7 15 rfl rfl)
theorem dX6_actMove_183 : decode cX6_actMove 183 = .ok (.aload_n 0, 1) := dk_42 (dk_at dksX6_actMove_7 17 rfl rfl)
theorem dX6_actMove_184 : decode cX6_actMove 184 = .ok (.iload 6, 2) := dk_21 6 (dk_at dksX6_actMove_7 18 rfl rfl)
theorem dX6_actMove_186 : decode cX6_actMove 186 = .ok (.invokevirtual 219, 3) := dk_182 0 219 (dk_at dksX6_actMove_7 20 rfl rfl)
theorem dX6_actMove_189 : decode cX6_actMove 189 = .ok (.ifCond .eq 13, 3) := dk_153 0 13 (dk_at dksX6_actMove_8 0 rfl rfl)
theorem dX6_actMove_192 : decode cX6_actMove 192 = .ok (.iload 6, 2) := dk_21 6 (dk_at dksX6_actMove_8 3 rfl rfl)
theorem dX6_actMove_194 : decode cX6_actMove 194 = .ok (.iload 4, 2) := dk_21 4 (dk_at dksX6_actMove_8 5 rfl rfl)
theorem dX6_actMove_196 : decode cX6_actMove 196 = .ok (.if_icmp .eq 6, 3) := dk_159 0 6 (dk_at dksX6_actMove_8 7 rfl rfl)
theorem dX6_actMove_199 : decode cX6_actMove 199 = .ok (.bipush (-8), 2) := dk_16 248 (dk_at dksX6_actMove_8 10 rfl rfl)
theorem dX6_actMove_201 : decode cX6_actMove 201 = .ok (.ireturn, 1) := dk_172 (dk_at dksX6_actMove_8 12 rfl rfl)
theorem dX6_actMove_202 : decode cX6_actMove 202 = .ok (.aload_n 0, 1) := dk_42 (dk_at dksX6_actMove_8 13 rfl rfl)
theorem dX6_actMove_203 : decode cX6_actMove 203 = .ok (.iload_n 2, 1) := dk_28 (dk_at dksX6_actMove_8 14 rfl rfl)
theorem dX6_actMove_204 : decode cX6_actMove 204 = .ok (.iload_n 3, 1) := dk_29 (dk_at dksX6_actMove_8 15 rfl rfl)
theorem dX6_actMove_205 : decode cX6_actMove 205 = .ok (.iload_n 1, 1) := dk_27 (dk_at dksX6_actMove_8 16 rfl rfl)
theorem dX6_actMove_206 : decode cX6_actMove 206 = .ok (.aload_n 0, 1) := dk_42 (dk_at dksX6_actMove_8 17 rfl rfl)
theorem dX6_actMove_207 : decode cX6_actMove 207 = .ok (.getfield 101, 3) := dk_180 0 101 (dk_at dksX6_actMove_8 18 rfl rfl)
theorem dX6_actMove_210 : decode cX6_actMove 210 = .ok (.iload_n 1, 1) := dk_27 (dk_at dksX6_actMove_8 21 rfl rfl)
theorem dX6_actMove_211 : decode cX6_actMove 211 = .ok (.iaload, 1) := dk_46 (dk_at dksX6_actMove_8 22 rfl rfl)
theorem dX6_actMove_212 : decode cX6_actMove 212 = .ok (.aload_n 0, 1) := dk_42 (dk_at dksX6_actMove_8 23 rfl rfl)
theorem dX6_actMove_213 : decode cX6_actMove 213 = .ok (.getfield 98, 3) := dk_180 0 98 (dk_at dksX6_actMove_9 0 rfl rfl)
theorem dX6_actMove_216 : decode cX6_actMove 216 = .ok (.iload_n 1, 1) := dk_27 (dk_at dksX6_actMove_9 3 rfl rfl)
theorem dX6_actMove_217 : decode cX6_actMove 217 = .ok (.iaload, 1) := dk_46 (dk_at dksX6_actMove_9 4 rfl rfl)
theorem dX6_actMove_218 : decode cX6_actMove 218 = .ok (.iconst 1, 1) := dk_4 (dk_at dksX6_actMove_9 5 rfl rfl)
theorem dX6_actMove_219 : decode cX6_actMove 219 = .ok (.invokevirtual 243, 3) := dk_182 0 243 (dk_at dksX6_actMove_9 6 rfl rfl)
theorem dX6_actMove_222 : decode cX6_actMove 222 = .ok (.istore 7, 2) := dk_54 7 (dk_at dksX6_actMove_9 9 rfl rfl)
theorem dX6_actMove_224 : decode cX6_actMove 224 = .ok (.iload 7, 2) := dk_21 7 (dk_at dksX6_actMove_9 11 rfl rfl)
theorem dX6_actMove_226 : decode cX6_actMove 226 = .ok (.ifCond .le 7, 3) := dk_158 0 7 (dk_at dksX6_actMove_9 13 rfl rfl)
theorem dX6_actMove_229 : decode cX6_actMove 229 = .ok (.iload 7, 2) := dk_21 7 (dk_at dksX6_actMove_9 16 rfl rfl)
theorem dX6_actMove_231 : decode cX6_actMove 231 = .ok (.ineg, 1) := dk_116 (dk_at dksX6_actMove_9 18 rfl rfl)
theorem dX6_actMove_232 : decode cX6_actMove 232 = .ok (.ireturn, 1) := dk_172 (dk_at dksX6_actMove_9 19 rfl rfl)
theorem dX6_actMove_233 : decode cX6_actMove 233 = .ok (.aload_n 0, 1) := dk_42 (dk_at dksX6_actMove_9 20 rfl rfl)
theorem dX6_actMove_234 : decode cX6_actMove 234 = .ok (.getfield 95, 3) := dk_180 0 95 (dk_at dksX6_actMove_9 21 rfl rfl)
theorem dX6_actMove_237 : decode cX6_actMove 237 = .ok (.iload_n 1, 1) := dk_27 (dk_at dksX6_actMove_10 0 rfl rfl)
theorem dX6_actMove_238 : decode cX6_actMove 238 = .ok (.iaload, 1) := dk_46 (dk_at dksX6_actMove_10 1 rfl rfl)
theorem dX6_actMove_239 : decode cX6_actMove 239 = .ok (.iconst 1, 1) := dk_4 (dk_at dksX6_actMove_10 2 rfl rfl)
theorem dX6_actMove_240 : decode cX6_actMove 240 = .ok (.if_icmp .ne 25, 3) := dk_160 0 25 (dk_at dksX6_actMove_10 3 rfl rfl)
theorem dX6_actMove_243 : decode cX6_actMove 243 = .ok (.aload_n 0, 1) := dk_42 (dk_at dksX6_actMove_10 6 rfl rfl)
theorem dX6_actMove_244 : decode cX6_actMove 244 = .ok (.iload 6, 2) := dk_21 6 (dk_at dksX6_actMove_10 7 rfl rfl)
theorem dX6_actMove_246 : decode cX6_actMove 246 = .ok (.invokevirtual 219, 3) := dk_182 0 219 (dk_at dksX6_actMove_10 9 rfl rfl)
theorem dX6_actMove_249 : decode cX6_actMove 249 = .ok (.ifCond .ne 16, 3) := dk_154 0 16 (dk_at dksX6_actMove_10 12 rfl rfl)
theorem dX6_actMove_252 : decode cX6_actMove 252 = .ok (.aload_n 0, 1) := dk_42 (dk_at dksX6_actMove_10 15 rfl rfl)
theorem dX6_actMove_253 : decode cX6_actMove 253 = .ok (.iload 5, 2) := dk_21 5 (dk_at dksX6_actMove_10 16 rfl rfl)
theorem dX6_actMove_255 : decode cX6_actMove 255 = .ok (.aload_n 0, 1) := dk_42 (dk_at dksX6_actMove_10 18 rfl rfl)
theorem dX6_actMove_256 : decode cX6_actMove 256 = .ok (.getfield 92, 3) := dk_180 0 92 (dk_at dksX6_actMove_10 19 rfl rfl)
theorem dX6_actMove_259 : decode cX6_actMove 259 = .ok (.iload_n 1, 1) := dk_27 (dk_at dksX6_actMove_10 22 rfl rfl)
theorem dX6_actMove_260 : decode cX6_actMove 260 = .ok (.iaload, 1) := dk_46 (dk_at dksX6_actMove_10 23 rfl rfl)
theorem dX6_actMove_261 : decode cX6_actMove 261 = .ok (.iconst 0, 1) := dk_3 (dk_at dksX6_actMove_11 0 rfl rfl)
theorem dX6_actMove_262 : decode cX6_actMove 262 = .ok (.invokevirtual 237, 3) := dk_182 0 237 (dk_at dksX6_actMove_11 1 rfl rfl)
theorem dX6_actMove_265 : decode cX6_actMove 265 = .ok (.aload_n 0, 1) := dk_42 (dk_at dksX6_actMove_11 4 rfl rfl)
theorem dX6_actMove_266 : decode cX6_actMove 266 = .ok (.getfield 71, 3) := dk_180 0 71 (dk_at dksX6_actMove_11 5 rfl rfl)
theorem dX6_actMove_269 : decode cX6_actMove 269 = .ok (.bipush 8, 2) := dk_16 8 (dk_at dksX6_actMove_11 8 rfl rfl)
theorem dX6_actMove_271 : decode cX6_actMove 271 = .ok (.iload 5, 2) := dk_21 5 (dk_at dksX6_actMove_11 10 rfl rfl)
theorem dX6_actMove_273 : decode cX6_actMove 273 = .ok (.imul, 1) := dk_104 (dk_at dksX6_actMove_11 12 rfl rfl)
theorem dX6_actMove_274 : decode cX6_actMove 274 = .ok (.iconst 2, 1) := dk_5 (dk_at dksX6_actMove_11 13 rfl rfl)
theorem dX6_actMove_275 : decode cX6_actMove 275 = .ok (.aload_n 0, 1) := dk_42 (dk_at dksX6_actMove_11 14 rfl rfl)
theorem dX6_actMove_276 : decode cX6_actMove 276 = .ok (.getfield 92, 3) := dk_180 0 92 (dk_at dksX6_actMove_11 15 rfl rfl)
theorem dX6_actMove_279 : decode cX6_actMove 279 = .ok (.iload_n 1, 1) := dk_27 (dk_at dksX6_actMove_11 18 rfl rfl)
theorem dX6_actMove_280 : decode cX6_actMove 280 = .ok (.iaload, 1) := dk_46 (dk_at dksX6_actMove_11 19 rfl rfl)
theorem dX6_actMove_281 : decode cX6_actMove 281 = .ok (.imul, 1) := dk_104 (dk_at dksX6_actMove_11 20 rfl rfl)
theorem dX6_actMove_282 : decode cX6_actMove 282 = .ok (.iadd, 1) := dk_96 (dk_at dksX6_actMove_11 21 rfl rfl)
theorem dX6_actMove_283 : decode cX6_actMove 283 = .ok (.aload_n 0, 1) := dk_42 (dk_at dksX6_actMove_11 22 rfl rfl)
theorem dX6_actMove_284 : decode cX6_actMove 284 = .ok (.getfield 95, 3) := dk_180 0 95 (dk_at dksX6_actMove_12 0 rfl rfl)
theorem dX6_actMove_287 : decode cX6_actMove 287 = .ok (.iload_n 1, 1) := dk_27 (dk_at dksX6_actMove_12 3 rfl rfl)
theorem dX6_actMove_288 : decode cX6_actMove 288 = .ok (.iaload, 1) := dk_46 (dk_at dksX6_actMove_12 4 rfl rfl)
theorem dX6_actMove_289 : decode cX6_actMove 289 = .ok (.iadd, 1) := dk_96 (dk_at dksX6_actMove_12 5 rfl rfl)
theorem dX6_actMove_290 : decode cX6_actMove 290 = .ok (.iconst (-1), 1) := dk_2 (dk_at dksX6_actMove_12 6 rfl rfl)
theorem dX6_actMove_291 : decode cX6_actMove 291 = .ok (.iastore, 1) := dk_79 (dk_at dksX6_actMove_12 7 rfl rfl)
theorem dX6_actMove_292 : decode cX6_actMove 292 = .ok (.aload_n 0, 1) := dk_42 (dk_at dksX6_actMove_12 8 rfl rfl)
theorem dX6_actMove_293 : decode cX6_actMove 293 = .ok (.dup, 1) := dk_89 (dk_at dksX6_actMove_12 9 rfl rfl)
theorem dX6_actMove_294 : decode cX6_actMove 294 = .ok (.getfield 150, 3) := dk_180 0 150 (dk_at dksX6_actMove_12 10 rfl rfl)
theorem dX6_actMove_297 : decode cX6_actMove 297 = .ok (.bipush 90, 2) := dk_16 90 (dk_at dksX6_actMove_12 13 rfl rfl)
theorem dX6_actMove_299 : decode cX6_actMove 299 = .ok (.iadd, 1) := dk_96 (dk_at dksX6_actMove_12 15 rfl rfl)
theorem dX6_actMove_300 : decode cX6_actMove 300 = .ok (.putfield 150, 3) := dk_181 0 150 (dk_at dksX6_actMove_12 16 rfl rfl)
theorem dX6_actMove_303 : decode cX6_actMove 303 = .ok (.bipush 90, 2) := dk_16 90 (dk_at dksX6_actMove_12 19 rfl rfl)
theorem dX6_actMove_305 : decode cX6_actMove 305 = .ok (.aload_n 0, 1) := dk_42 (dk_at dksX6_actMove_12 21 rfl rfl)
theorem dX6_actMove_306 : decode cX6_actMove 306 = .ok (.iload_n 2, 1) := dk_28 (dk_at dksX6_actMove_12 22 rfl rfl)
theorem dX6_actMove_307 : decode cX6_actMove 307 = .ok (.iload_n 3, 1) := dk_29 (dk_at dksX6_actMove_12 23 rfl rfl)
theorem dX6_actMove_308 : decode cX6_actMove 308 = .ok (.iload_n 1, 1) := dk_27 (dk_at dksX6_actMove_13 0 rfl rfl)
theorem dX6_actMove_309 : decode cX6_actMove 309 = .ok (.aload_n 0, 1) := dk_42 (dk_at dksX6_actMove_13 1 rfl rfl)
theorem dX6_actMove_310 : decode cX6_actMove 310 = .ok (.getfield 101, 3) := dk_180 0 101 (dk_at dksX6_actMove_13 2 rfl rfl)
theorem dX6_actMove_313 : decode cX6_actMove 313 = .ok (.iload_n 1, 1) := dk_27 (dk_at dksX6_actMove_13 5 rfl rfl)
theorem dX6_actMove_314 : decode cX6_actMove 314 = .ok (.iaload, 1) := dk_46 (dk_at dksX6_actMove_13 6 rfl rfl)
theorem dX6_actMove_315 : decode cX6_actMove 315 = .ok (.aload_n 0, 1) := dk_42 (dk_at dksX6_actMove_13 7 rfl rfl)
theorem dX6_actMove_316 : decode cX6_actMove 316 = .ok (.getfield 98, 3) := dk_180 0 98 (dk_at dksX6_actMove_13 8 rfl rfl)
theorem dX6_actMove_319 : decode cX6_actMove 319 = .ok (.iload_n 1, 1) := dk_27 (dk_at dksX6_actMove_13 11 rfl rfl)
theorem dX6_actMove_320 : decode cX6_actMove 320 = .ok (.iaload, 1) := dk_46 (dk_at dksX6_actMove_13 12 rfl rfl)
theorem dX6_actMove_321 : decode cX6_actMove 321 = .ok (.invokevirtual 247, 3) := dk_182 0 247 (dk_at dksX6_actMove_13 13 rfl rfl)
theorem dX6_actMove_324 : decode cX6_actMove 324 = .ok (.iadd, 1) := dk_96 (dk_at dksX6_actMove_13 16 rfl rfl)
theorem dX6_actMove_325 : decode cX6_actMove 325 = .ok (.ireturn, 1) := dk_172 (dk_at dksX6_actMove_13 17 rfl rfl)
abbrev cX6_actClear : ByteArray := prog_21_method_47_code
def yX6_actClear : MethodName := ⟨RX6, "actClear", "(I)I"⟩
def dkwX6_actClear_13 : List UInt8 := [96, 3, 79, 132, 4, 1, 167, 255, 217, 28, 172]
abbrev dktX6_actClear_13 : List UInt8 := dkwX6_actClear_13 ++ []
def dkwX6_actClear_12 : List UInt8 := [180, 0, 53, 27, 46, 96, 162, 0, 27, 42, 180, 0, 26, 16, 30, 42, 180, 0, 47, 27, 46, 104, 21, 4]
abbrev dktX6_actClear_12 : List UInt8 := dkwX6_actClear_12 ++ dktX6_actClear_13
def dkwX6_actClear_11 : List UInt8 := [180, 0, 32, 27, 7, 79, 42, 180, 0, 50, 27, 46, 54, 4, 21, 4, 42, 180, 0, 50, 27, 46, 42]
abbrev dktX6_actClear_11 : List UInt8 := dkwX6_actClear_11 ++ dktX6_actClear_12
def dkwX6_actClear_10 : List UInt8 := [42, 180, 0, 86, 21, 4, 6, 79, 42, 21, 4, 2, 182, 0, 240, 132, 4, 1, 167, 255, 204, 42]
abbrev dktX6_actClear_10 : List UInt8 := dkwX6_actClear_10 ++ dktX6_actClear_11
def dkwX6_actClear_9 : List UInt8 := [180, 0, 86, 21, 4, 46, 5, 160, 0, 32, 42, 180, 0, 89, 21, 4, 46, 27, 159, 0, 6, 167, 0, 18]
abbrev dktX6_actClear_9 : List UInt8 := dkwX6_actClear_9 ++ dktX6_actClear_10
def dkwX6_actClear_8 : List UInt8 := [182, 0, 253, 132, 4, 1, 167, 255, 204, 3, 54, 4, 21, 4, 42, 180, 0, 144, 162, 0, 49, 42]
abbrev dktX6_actClear_8 : List UInt8 := dkwX6_actClear_8 ++ dktX6_actClear_9
def dkwX6_actClear_7 : List UInt8 := [96, 46, 54, 5, 21, 5, 155, 0, 21, 42, 180, 0, 101, 21, 5, 46, 4, 160, 0, 10, 42, 21, 5, 27]
abbrev dktX6_actClear_7 : List UInt8 := dkwX6_actClear_7 ++ dktX6_actClear_8
def dkwX6_actClear_6 : List UInt8 := [54, 4, 21, 4, 42, 27, 182, 0, 222, 162, 0, 48, 42, 180, 0, 71, 16, 8, 27, 104, 5, 21, 4, 104]
abbrev dktX6_actClear_6 : List UInt8 := dkwX6_actClear_6 ++ dktX6_actClear_7
def dkwX6_actClear_5 : List UInt8 := [180, 0, 77, 21, 4, 46, 100, 96, 62, 132, 4, 1, 167, 255, 221, 29, 28, 162, 0, 6, 16, 252, 172, 3]
abbrev dktX6_actClear_5 : List UInt8 := dkwX6_actClear_5 ++ dktX6_actClear_6
def dkwX6_actClear_4 : List UInt8 := [21, 4, 42, 180, 0, 141, 162, 0, 32, 42, 21, 4, 27, 182, 0, 250, 153, 0, 16, 29, 16, 40, 42]
abbrev dktX6_actClear_4 : List UInt8 := dkwX6_actClear_4 ++ dktX6_actClear_5
def dkwX6_actClear_3 : List UInt8 := [180, 0, 101, 29, 46, 4, 160, 0, 6, 132, 2, 1, 132, 3, 1, 167, 255, 198, 3, 62, 3, 54, 4]
abbrev dktX6_actClear_3 : List UInt8 := dkwX6_actClear_3 ++ dktX6_actClear_4
def dkwX6_actClear_2 : List UInt8 := [180, 0, 89, 29, 46, 27, 159, 0, 6, 167, 0, 27, 42, 29, 182, 0, 219, 153, 0, 6, 16, 253, 172, 42]
abbrev dktX6_actClear_2 : List UInt8 := dkwX6_actClear_2 ++ dktX6_actClear_3
def dkwX6_actClear_1 : List UInt8 := [61, 3, 62, 29, 42, 180, 0, 144, 162, 0, 56, 42, 180, 0, 86, 29, 46, 5, 160, 0, 40, 42]
abbrev dktX6_actClear_1 : List UInt8 := dkwX6_actClear_1 ++ dktX6_actClear_2
def dkwX6_actClear_0 : List UInt8 := [42, 27, 182, 0, 186, 154, 0, 5, 2, 172, 42, 180, 0, 32, 27, 46, 6, 159, 0, 6, 16, 254, 172, 3]
abbrev dktX6_actClear_0 : List UInt8 := dkwX6_actClear_0 ++ dktX6_actClear_1
theorem dksX6_actClear_0 : cX6_actClear.data.toList.drop 0 = dktX6_actClear_0 := by decide +kernel
theorem dksX6_actClear_1 : cX6_actClear.data.toList.drop 24 = dktX6_actClear_1 := dk_seg dksX6_actClear_0 24 rfl rfl
theorem dksX6_actClear_2 : cX6_actClear.data.toList.drop 46 = dktX6_actClear_2 := dk_seg dksX6_actClear_1 22 rfl rfl
theorem dksX6_actClear_3 : cX6_actClear.data.toList.drop 70 = dktX6_actClear_3 := dk_seg dksX6_actClear_2 24 rfl rfl
theorem dksX6_actClear_4 : cX6_actClear.data.toList.drop 93 = dktX6_actClear_4 := dk_seg dksX6_actClear_3 23 rfl rfl
theorem dksX6_actClear_5 : cX6_actClear.data.toList.drop 116 = dktX6_actClear_5 := dk_seg dksX6_actClear_4 23 rfl rfl
theorem dksX6_actClear_6 : cX6_actClear.data.toList.drop 140 = dktX6_actClear_6 := dk_seg dksX6_actClear_5 24 rfl rfl
theorem dksX6_actClear_7 : cX6_actClear.data.toList.drop 164 = dktX6_actClear_7 := dk_seg dksX6_actClear_6 24 rfl rfl
theorem dksX6_actClear_8 : cX6_actClear.data.toList.drop 188 = dktX6_actClear_8 := dk_seg dksX6_actClear_7 24 rfl rfl
theorem dksX6_actClear_9 : cX6_actClear.data.toList.drop 210 = dktX6_actClear_9 := dk_seg dksX6_actClear_8 22 rfl rfl
theorem dksX6_actClear_10 : cX6_actClear.data.toList.drop 234 = dktX6_actClear_10 := dk_seg dksX6_actClear_9 24 rfl rfl
theorem dksX6_actClear_11 : cX6_actClear.data.toList.drop 256 = dktX6_actClear_11 := dk_seg dksX6_actClear_10 22 rfl rfl
theorem dksX6_actClear_12 : cX6_actClear.data.toList.drop 279 = dktX6_actClear_12 := dk_seg dksX6_actClear_11 23 rfl rfl
theorem dksX6_actClear_13 : cX6_actClear.data.toList.drop 303 = dktX6_actClear_13 := dk_seg dksX6_actClear_12 24 rfl rfl
theorem dX6_actClear_0 : decode cX6_actClear 0 = .ok (.aload_n 0, 1) := dk_42 (dk_at dksX6_actClear_0 0 rfl rfl)
theorem dX6_actClear_1 : decode cX6_actClear 1 = .ok (.iload_n 1, 1) := dk_27 (dk_at dksX6_actClear_0 1 rfl rfl)
theorem dX6_actClear_2 : decode cX6_actClear 2 = .ok (.invokevirtual 186, 3) := dk_182 0 186 (dk_at dksX6_actClear_0 2 rfl rfl)
theorem dX6_actClear_5 : decode cX6_actClear 5 = .ok (.ifCond .ne 5, 3) := dk_154 0 5 (dk_at dksX6_actClear_0 5 rfl rfl)
theorem dX6_actClear_8 : decode cX6_actClear 8 = .ok (.iconst (-1), 1) := dk_2 (dk_at dksX6_actClear_0 8 rfl rfl)
theorem dX6_actClear_9 : decode cX6_actClear 9 = .ok (.ireturn, 1) := dk_172 (dk_at dksX6_actClear_0 9 rfl rfl)
theorem dX6_actClear_10 : decode cX6_actClear 10 = .ok (.aload_n 0, 1) := dk_42 (dk_at dksX6_actClear_0 10 rfl rfl)
theorem dX6_actClear_11 : decode cX6_actClear 11 = .ok (.getfield 32, 3) := dk_180 0 32 (dk_at dksX6_actClear_0 11 rfl rfl)
theorem dX6_actClear_14 : decode cX6_actClear 14 = .ok (.iload_n 1, 1) := dk_27 (dk_at dksX6_actClear_0 14 rfl rfl)
theorem dX6_actClear_15 : decode cX6_actClear 15 = .ok (.iaload, 1) := dk_46 (dk_at dksX6_actClear_0 15 rfl rfl)
theorem dX6_actClear_16 : decode cX6_actClear 16 = .ok (.iconst 3, 1) := dk_6 (dk_at dksX6_actClear_0 16 rfl rfl)
theorem dX6_actClear_17 : decode cX6_actClear 17 = .ok (.if_icmp .eq 6, 3) := dk_159 0 6 (dk_at dksX6_actClear_0 17 rfl rfl)
theorem dX6_actClear_20 : decode cX6_actClear 20 = .ok (.bipush (-2), 2) := dk_16 254 (dk_at dksX6_actClear_0 20 rfl rfl)
theorem dX6_actClear_22 : decode cX6_actClear 22 = .ok (.ireturn, 1) := dk_172 (dk_at dksX6_actClear_0 22 rfl rfl)
theorem dX6_actClear_23 : decode cX6_actClear 23 = .ok (.iconst 0, 1) := dk_3 (dk_at dksX6_actClear_0 23 rfl rfl)
theorem dX6_actClear_24 : decode cX6_actClear 24 = .ok (.istore_n 2, 1) := dk_61 (dk_at dksX6_actClear_1 0 rfl rfl)
theorem dX6_actClear_25 : decode cX6_actClear 25 = .ok (.iconst 0, 1) := dk_3 (dk_at dksX6_actClear_1 1 rfl rfl)
theorem dX6_actClear_26 : decode cX6_actClear 26 = .ok (.istore_n 3, 1) := dk_62 (dk_at dksX6_actClear_1 2 rfl rfl)
theorem dX6_actClear_27 : decode cX6_actClear 27 = .ok (.iload_n 3, 1) := dk_29 (dk_at dksX6_actClear_1 3 rfl rfl)
theorem dX6_actClear_28 : decode cX6_actClear 28 = .ok (.aload_n 0, 1) := dk_42 (dk_at dksX6_actClear_1 4 rfl rfl)
theorem dX6_actClear_29 : decode cX6_actClear 29 = .ok (.getfield 144, 3) := dk_180 0 144 (dk_at dksX6_actClear_1 5 rfl rfl)
theorem dX6_actClear_32 : decode cX6_actClear 32 = .ok (.if_icmp .ge 56, 3) := dk_162 0 56 (dk_at dksX6_actClear_1 8 rfl rfl)
theorem dX6_actClear_35 : decode cX6_actClear 35 = .ok (.aload_n 0, 1) := dk_42 (dk_at dksX6_actClear_1 11 rfl rfl)
theorem dX6_actClear_36 : decode cX6_actClear 36 = .ok (.getfield 86, 3) := dk_180 0 86 (dk_at dksX6_actClear_1 12 rfl rfl)
theorem dX6_actClear_39 : decode cX6_actClear 39 = .ok (.iload_n 3, 1) := dk_29 (dk_at dksX6_actClear_1 15 rfl rfl)
theorem dX6_actClear_40 : decode cX6_actClear 40 = .ok (.iaload, 1) := dk_46 (dk_at dksX6_actClear_1 16 rfl rfl)
theorem dX6_actClear_41 : decode cX6_actClear 41 = .ok (.iconst 2, 1) := dk_5 (dk_at dksX6_actClear_1 17 rfl rfl)
theorem dX6_actClear_42 : decode cX6_actClear 42 = .ok (.if_icmp .ne 40, 3) := dk_160 0 40 (dk_at dksX6_actClear_1 18 rfl rfl)
theorem dX6_actClear_45 : decode cX6_actClear 45 = .ok (.aload_n 0, 1) := dk_42 (dk_at dksX6_actClear_1 21 rfl rfl)
theorem dX6_actClear_46 : decode cX6_actClear 46 = .ok (.getfield 89, 3) := dk_180 0 89 (dk_at dksX6_actClear_2 0 rfl rfl)
theorem dX6_actClear_49 : decode cX6_actClear 49 = .ok (.iload_n 3, 1) := dk_29 (dk_at dksX6_actClear_2 3 rfl rfl)
theorem dX6_actClear_50 : decode cX6_actClear 50 = .ok (.iaload, 1) := dk_46 (dk_at dksX6_actClear_2 4 rfl rfl)
theorem dX6_actClear_51 : decode cX6_actClear 51 = .ok (.iload_n 1, 1) := dk_27 (dk_at dksX6_actClear_2 5 rfl rfl)
theorem dX6_actClear_52 : decode cX6_actClear 52 = .ok (.if_icmp .eq 6, 3) := dk_159 0 6 (dk_at dksX6_actClear_2 6 rfl rfl)
theorem dX6_actClear_55 : decode cX6_actClear 55 = .ok (.goto 27, 3) := dk_167 0 27 (dk_at dksX6_actClear_2 9 rfl rfl)
theorem dX6_actClear_58 : decode cX6_actClear 58 = .ok (.aload_n 0, 1) := dk_42 (dk_at dksX6_actClear_2 12 rfl rfl)
theorem dX6_actClear_59 : decode cX6_actClear 59 = .ok (.iload_n 3, 1) := dk_29 (dk_at dksX6_actClear_2 13 rfl rfl)
theorem dX6_actClear_60 : decode cX6_actClear 60 = .ok (.invokevirtual 219, 3) := dk_182 0 219 (dk_at dksX6_actClear_2 14 rfl rfl)
theorem dX6_actClear_63 : decode cX6_actClear 63 = .ok (.ifCond .eq 6, 3) := dk_153 0 6 (dk_at dksX6_actClear_2 17 rfl rfl)
theorem dX6_actClear_66 : decode cX6_actClear 66 = .ok (.bipush (-3), 2) := dk_16 253 (dk_at dksX6_actClear_2 20 rfl rfl)
theorem dX6_actClear_68 : decode cX6_actClear 68 = .ok (.ireturn, 1) := dk_172 (dk_at dksX6_actClear_2 22 rfl rfl)
theorem dX6_actClear_69 : decode cX6_actClear 69 = .ok (.aload_n 0, 1) := dk_42 (dk_at dksX6_actClear_2 23 rfl rfl)
theorem dX6_actClear_70 : decode cX6_actClear 70 = .ok (.getfield 101, 3) := dk_180 0 101 (dk_at dksX6_actClear_3 0 rfl rfl)
theorem dX6_actClear_73 : decode cX6_actClear 73 = .ok (.iload_n 3, 1) := dk_29 (dk_at dksX6_actClear_3 3 rfl rfl)
theorem dX6_actClear_74 : decode cX6_actClear 74 = .ok (.iaload, 1) := dk_46 (dk_at dksX6_actClear_3 4 rfl rfl)
theorem dX6_actClear_75 : decode cX6_actClear 75 = .ok (.iconst 1, 1) := dk_4 (dk_at dksX6_actClear_3 5 rfl rfl)
theorem dX6_actClear_76 : decode cX6_actClear 76 = .ok (.if_icmp .ne 6, 3) := dk_160 0 6 (dk_at dksX6_actClear_3 6 rfl rfl)
theorem dX6_actClear_79 : decode cX6_actClear 79 = .ok (.iinc 2 1, 3) := dk_132 2 1 (dk_at dksX6_actClear_3 9 rfl rfl)
theorem dX6_actClear_82 : decode cX6_actClear 82 = .ok (.iinc 3 1, 3) := dk_132 3 1 (dk_at dksX6_actClear_3 12 rfl rfl)
theorem dX6_actClear_85 : decode cX6_actClear 85 = .ok (.goto (-58), 3) := dk_167 255 198 (dk_at dksX6_actClear_3 15 rfl rfl)
theorem dX6_actClear_88 : decode cX6_actClear 88 = .ok (.iconst 0, 1) := dk_3 (dk_at dksX6_actClear_3 18 rfl rfl)
theorem dX6_actClear_89 : decode cX6_actClear 89 = .ok (.istore_n 3, 1) := dk_62 (dk_at dksX6_actClear_3 19 rfl rfl)
theorem dX6_actClear_90 : decode cX6_actClear 90 = .ok (.iconst 0, 1) := dk_3 (dk_at dksX6_actClear_3 20 rfl rfl)
theorem dX6_actClear_91 : decode cX6_actClear 91 = .ok (.istore 4, 2) := dk_54 4 (dk_at dksX6_actClear_3 21 rfl rfl)
theorem dX6_actClear_93 : decode cX6_actClear 93 = .ok (.iload 4, 2) := dk_21 4 (dk_at dksX6_actClear_4 0 rfl rfl)
theorem dX6_actClear_95 : decode cX6_actClear 95 = .ok (.aload_n 0, 1) := dk_42 (dk_at dksX6_actClear_4 2 rfl rfl)
theorem dX6_actClear_96 : decode cX6_actClear 96 = .ok (.getfield 141, 3) := dk_180 0 141 (dk_at dksX6_actClear_4 3 rfl rfl)
theorem dX6_actClear_99 : decode cX6_actClear 99 = .ok (.if_icmp .ge 32, 3) := dk_162 0 32 (dk_at dksX6_actClear_4 6 rfl rfl)
theorem dX6_actClear_102 : decode cX6_actClear 102 = .ok (.aload_n 0, 1) := dk_42 (dk_at dksX6_actClear_4 9 rfl rfl)
theorem dX6_actClear_103 : decode cX6_actClear 103 = .ok (.iload 4, 2) := dk_21 4 (dk_at dksX6_actClear_4 10 rfl rfl)
theorem dX6_actClear_105 : decode cX6_actClear 105 = .ok (.iload_n 1, 1) := dk_27 (dk_at dksX6_actClear_4 12 rfl rfl)
theorem dX6_actClear_106 : decode cX6_actClear 106 = .ok (.invokevirtual 250, 3) := dk_182 0 250 (dk_at dksX6_actClear_4 13 rfl rfl)
theorem dX6_actClear_109 : decode cX6_actClear 109 = .ok (.ifCond .eq 16, 3) := dk_153 0 16 (dk_at dksX6_actClear_4 16 rfl rfl)
theorem dX6_actClear_112 : decode cX6_actClear 112 = .ok (.iload_n 3, 1) := dk_29 (dk_at dksX6_actClear_4 19 rfl rfl)
theorem dX6_actClear_113 : decode cX6_actClear 113 = .ok (.bipush 40, 2) := dk_16 40 (dk_at dksX6_actClear_4 20 rfl rfl)
theorem dX6_actClear_115 : decode cX6_actClear 115 = .ok (.aload_n 0, 1) := dk_42 (dk_at dksX6_actClear_4 22 rfl rfl)
theorem dX6_actClear_116 : decode cX6_actClear 116 = .ok (.getfield 77, 3) := dk_180 0 77 (dk_at dksX6_actClear_5 0 rfl rfl)
theorem dX6_actClear_119 : decode cX6_actClear 119 = .ok (.iload 4, 2) := dk_21 4 (dk_at dksX6_actClear_5 3 rfl rfl)
theorem dX6_actClear_121 : decode cX6_actClear 121 = .ok (.iaload, 1) := dk_46 (dk_at dksX6_actClear_5 5 rfl rfl)
theorem dX6_actClear_122 : decode cX6_actClear 122 = .ok (.isub, 1) := dk_100 (dk_at dksX6_actClear_5 6 rfl rfl)
theorem dX6_actClear_123 : decode cX6_actClear 123 = .ok (.iadd, 1) := dk_96 (dk_at dksX6_actClear_5 7 rfl rfl)
theorem dX6_actClear_124 : decode cX6_actClear 124 = .ok (.istore_n 3, 1) := dk_62 (dk_at dksX6_actClear_5 8 rfl rfl)
theorem dX6_actClear_125 : decode cX6_actClear 125 = .ok (.iinc 4 1, 3) := dk_132 4 1 (dk_at dksX6_actClear_5 9 rfl rfl)
theorem dX6_actClear_128 : decode cX6_actClear 128 = .ok (.goto (-35), 3) := dk_167 255 221 (dk_at dksX6_actClear_5 12 rfl rfl)
theorem dX6_actClear_131 : decode cX6_actClear 131 = .ok (.iload_n 3, 1) := dk_29 (dk_at dksX6_actClear_5 15 rfl rfl)
theorem dX6_actClear_132 : decode cX6_actClear 132 = .ok (.iload_n 2, 1) := dk_28 (dk_at dksX6_actClear_5 16 rfl rfl)
theorem dX6_actClear_133 : decode cX6_actClear 133 = .ok (.if_icmp .ge 6, 3) := dk_162 0 6 (dk_at dksX6_actClear_5 17 rfl rfl)
theorem dX6_actClear_136 : decode cX6_actClear 136 = .ok (.bipush (-4), 2) := dk_16 252 (dk_at dksX6_actClear_5 20 rfl rfl)
theorem dX6_actClear_138 : decode cX6_actClear 138 = .ok (.ireturn, 1) := dk_172 (dk_at dksX6_actClear_5 22 rfl rfl)
theorem dX6_actClear_139 : decode cX6_actClear 139 = .ok (.iconst 0, 1) := dk_3 (dk_at dksX6_actClear_5 23 rfl rfl)
theorem dX6_actClear_140 : decode cX6_actClear 140 = .ok (.istore 4, 2) := dk_54 4 (dk_at dksX6_actClear_6 0 rfl rfl)
theorem dX6_actClear_142 : decode cX6_actClear 142 = .ok (.iload 4, 2) := dk_21 4 (dk_at dksX6_actClear_6 2 rfl rfl)
theorem dX6_actClear_144 : decode cX6_actClear 144 = .ok (.aload_n 0, 1) := dk_42 (dk_at dksX6_actClear_6 4 rfl rfl)
theorem dX6_actClear_145 : decode cX6_actClear 145 = .ok (.iload_n 1, 1) := dk_27 (dk_at dksX6_actClear_6 5 rfl rfl)
theorem dX6_actClear_146 : decode cX6_actClear 146 = .ok (.invokevirtual 222, 3) := dk_182 0 222 (dk_at dksX6_actClear_6 6 rfl rfl)
theorem dX6_actClear_149 : decode cX6_actClear 149 = .ok (.if_icmp .ge 48, 3) := dk_162 0 48 (dk_at dksX6_actClear_6 9 rfl rfl)
theorem dX6_actClear_152 : decode cX6_actClear 152 = .ok (.aload_n 0, 1) := dk_42 (dk_at dksX6_actClear_6 12 rfl rfl)
theorem dX6_actClear_153 : decode cX6_actClear 153 = .ok (.getfield 71, 3) := dk_180 0 71 (dk_at dksX6_actClear_6 13 rfl rfl)
theorem dX6_actClear_156 : decode cX6_actClear 156 = .ok (.bipush 8, 2) := dk_16 8 (dk_at dksX6_actClear_6 16 rfl rfl)
theorem dX6_actClear_158 : decode cX6_actClear 158 = .ok (.iload_n 1, 1) := dk_27 (dk_at dksX6_actClear_6 18 rfl rfl)
theorem dX6_actClear_159 : decode cX6_actClear 159 = .ok (.imul, 1) := dk_104 (dk_at dksX6_actClear_6 19 rfl rfl)
theorem dX6_actClear_160 : decode cX6_actClear 160 = .ok (.iconst 2, 1) := dk_5 (dk_at dksX6_actClear_6 20 rfl rfl)
theorem dX6_actClear_161 : decode cX6_actClear 161 = .ok (.iload 4, 2) := dk_21 4 (dk_at dksX6_actClear_6 21 rfl rfl)
theorem dX6_actClear_163 : decode cX6_actClear 163 = .ok (.imul, 1) := dk_104 (dk_at dksX6_actClear_6 23 rfl rfl)
theorem dX6_actClear_164 : decode cX6_actClear 164 = .ok (.iadd, 1) := dk_96 (dk_at dksX6_actClear_7 0 rfl rfl)
theorem dX6_actClear_165 : decode cX6_actClear 165 = .ok (.iaload, 1) := dk_46 (dk_at dksX6_actClear_7 1 rfl rfl)
theorem dX6_actClear_166 : decode cX6_actClear 166 = .ok (.istore 5, 2) := dk_54 5 (dk_at dksX6_actClear_7 2 rfl rfl)
theorem dX6_actClear_168 : decode cX6_actClear 168 = .ok (.iload 5, 2) := dk_21 5 (dk_at dksX6_actClear_7 4 rfl rfl)
theorem dX6_actClear_170 : decode cX6_actClear 170 = .ok (.ifCond .lt 21, 3) := dk_155 0 21 (dk_at dksX6_actClear_7 6 rfl rfl)
theorem dX6_actClear_173 : decode cX6_actClear 173 = .ok (.aload_n 0, 1) := dk_42 (dk_at dksX6_actClear_7 9 rfl rfl)
theorem dX6_actClear_174 : decode cX6_actClear 174 = .ok (.getfield 101, 3) := dk_180 0 101 (dk_at dksX6_actClear_7 10 rfl rfl)
theorem dX6_actClear_177 : decode cX6_actClear 177 = .ok (.iload 5, 2) := dk_21 5 (dk_at dksX6_actClear_7 13 rfl rfl)
theorem dX6_actClear_179 : decode cX6_actClear 179 = .ok (.iaload, 1) := dk_46 (dk_at dksX6_actClear_7 15 rfl rfl)
theorem dX6_actClear_180 : decode cX6_actClear 180 = .ok (.iconst 1, 1) := dk_4 (dk_at dksX6_actClear_7 16 rfl rfl)
theorem dX6_actClear_181 : decode cX6_actClear 181 = .ok (.if_icmp .ne 10, 3) := dk_160 0 10 (dk_at dksX6_actClear_7 17 rfl rfl)
theorem dX6_actClear_184 : decode cX6_actClear 184 = .ok (.aload_n 0, 1) := dk_42 (dk_at dksX6_actClear_7 20 rfl rfl)
theorem dX6_actClear_185 : decode cX6_actClear 185 = .ok (.iload 5, 2) := dk_21 5 (dk_at dksX6_actClear_7 21 rfl rfl)
theorem dX6_actClear_187 : decode cX6_actClear 187 = .ok (.iload_n 1, 1) := dk_27 (dk_at dksX6_actClear_7 23 rfl rfl)
theorem dX6_actClear_188 : decode cX6_actClear 188 = .ok (.invokevirtual 253, 3) := dk_182 0 253 (dk_at dksX6_actClear_8 0 rfl rfl)
theorem dX6_actClear_191 : decode cX6_actClear 191 = .ok (.iinc 4 1, 3) := dk_132 4 1 (dk_at dksX6_actClear_8 3 rfl rfl)
theorem dX6_actClear_194 : decode cX6_actClear 194 = .ok (.goto (-52), 3) := dk_167 255 204 (dk_at dksX6_actClear_8 6 rfl rfl)
theorem dX6_actClear_197 : decode cX6_actClear 197 = .ok (.iconst 0, 1) := dk_3 (dk_at dksX6_actClear_8 9 rfl rfl)
theorem dX6_actClear_198 : decode cX6_actClear 198 = .ok (.istore 4, 2) := dk_54 4 (dk_at dksX6_actClear_8 10 rfl rfl)
theorem dX6_actClear_200 : decode cX6_actClear 200 = .ok (.iload 4, 2) := dk_21 4 (dk_at dksX6_actClear_8 12 rfl rfl)
theorem dX6_actClear_202 : decode cX6_actClear 202 = .ok (.aload_n 0, 1) := dk_42 (dk_at dksX6_actClear_8 14 rfl rfl)
theorem dX6_actClear_203 : decode cX6_actClear 203 = .ok (.getfield 144, 3) := dk_180 0 144 (dk_at dksX6_actClear_8 15 rfl rfl)
theorem dX6_actClear_206 : decode cX6_actClear 206 = .ok (.if_icmp .ge 49, 3) := dk_162 0 49 (dk_at dksX6_actClear_8 18 rfl rfl)
theorem dX6_actClear_209 : decode cX6_actClear 209 = .ok (.aload_n 0, 1) := dk_42 (dk_at dksX6_actClear_8 21 rfl rfl)
theorem dX6_actClear_210 : decode cX6_actClear 210 = .ok (.getfield 86, 3) := dk_180 0 86 (dk_at dksX6_actClear_9 0 rfl rfl)
theorem dX6_actClear_213 : decode cX6_actClear 213 = .ok (.iload 4, 2) := dk_21 4 (dk_at dksX6_actClear_9 3 rfl rfl)
theorem dX6_actClear_215 : decode cX6_actClear 215 = .ok (.iaload, 1) := dk_46 (dk_at dksX6_actClear_9 5 rfl rfl)
theorem dX6_actClear_216 : decode cX6_actClear 216 = .ok (.iconst 2, 1) := dk_5 (dk_at dksX6_actClear_9 6 rfl rfl)
theorem dX6_actClear_217 : decode cX6_actClear 217 = .ok (.if_icmp .ne 32, 3) := dk_160 0 32 (dk_at dksX6_actClear_9 7 rfl rfl)
theorem dX6_actClear_220 : decode cX6_actClear 220 = .ok (.aload_n 0, 1) := dk_42 (dk_at dksX6_actClear_9 10 rfl rfl)
theorem dX6_actClear_221 : decode cX6_actClear 221 = .ok (.getfield 89, 3) := dk_180 0 89 (dk_at dksX6_actClear_9 11 rfl rfl)
theorem dX6_actClear_224 : decode cX6_actClear 224 = .ok (.iload 4, 2) := dk_21 4 (dk_at dksX6_actClear_9 14 rfl rfl)
theorem dX6_actClear_226 : decode cX6_actClear 226 = .ok (.iaload, 1) := dk_46 (dk_at dksX6_actClear_9 16 rfl rfl)
theorem dX6_actClear_227 : decode cX6_actClear 227 = .ok (.iload_n 1, 1) := dk_27 (dk_at dksX6_actClear_9 17 rfl rfl)
theorem dX6_actClear_228 : decode cX6_actClear 228 = .ok (.if_icmp .eq 6, 3) := dk_159 0 6 (dk_at dksX6_actClear_9 18 rfl rfl)
theorem dX6_actClear_231 : decode cX6_actClear 231 = .ok (.goto 18, 3) := dk_167 0 18 (dk_at dksX6_actClear_9 21 rfl rfl)
theorem dX6_actClear_234 : decode cX6_actClear 234 = .ok (.aload_n 0, 1) := dk_42 (dk_at dksX6_actClear_10 0 rfl rfl)
theorem dX6_actClear_235 : decode cX6_actClear 235 = .ok (.getfield 86, 3) := dk_180 0 86 (dk_at dksX6_actClear_10 1 rfl rfl)
theorem dX6_actClear_238 : decode cX6_actClear 238 = .ok (.iload 4, 2) := dk_21 4 (dk_at dksX6_actClear_10 4 rfl rfl)
theorem dX6_actClear_240 : decode cX6_actClear 240 = .ok (.iconst 3, 1) := dk_6 (dk_at dksX6_actClear_10 6 rfl rfl)
theorem dX6_actClear_241 : decode cX6_actClear 241 = .ok (.iastore, 1) := dk_79 (dk_at dksX6_actClear_10 7 rfl rfl)
theorem dX6_actClear_242 : decode cX6_actClear 242 = .ok (.aload_n 0, 1) := dk_42 (dk_at dksX6_actClear_10 8 rfl rfl)
theorem dX6_actClear_243 : decode cX6_actClear 243 = .ok (.iload 4, 2) := dk_21 4 (dk_at dksX6_actClear_10 9 rfl rfl)
theorem dX6_actClear_245 : decode cX6_actClear 245 = .ok (.iconst (-1), 1) := dk_2 (dk_at dksX6_actClear_10 11 rfl rfl)
theorem dX6_actClear_246 : decode cX6_actClear 246 = .ok (.invokevirtual 240, 3) := dk_182 0 240 (dk_at dksX6_actClear_10 12 rfl rfl)
theorem dX6_actClear_249 : decode cX6_actClear 249 = .ok (.iinc 4 1, 3) := dk_132 4 1 (dk_at dksX6_actClear_10 15 rfl rfl)
theorem dX6_actClear_252 : decode cX6_actClear 252 = .ok (.goto (-52), 3) := dk_167 255 204 (dk_at dksX6_actClear_10 18 rfl rfl)
theorem dX6_actClear_255 : decode cX6_actClear 255 = .ok (.aload_n 0, 1) := dk_42 (dk_at dksX6_actClear_10 21 rfl rfl)
theorem dX6_actClear_256 : decode cX6_actClear 256 = .ok (.getfield 32, 3) := dk_180 0 32 (dk_at dksX6_actClear_11 0 rfl rfl)
theorem dX6_actClear_259 : decode cX6_actClear 259 = .ok (.iload_n 1, 1) := dk_27 (dk_at dksX6_actClear_11 3 rfl rfl)
theorem dX6_actClear_260 : decode cX6_actClear 260 = .ok (.iconst 4, 1) := dk_7 (dk_at dksX6_actClear_11 4 rfl rfl)
theorem dX6_actClear_261 : decode cX6_actClear 261 = .ok (.iastore, 1) := dk_79 (dk_at dksX6_actClear_11 5 rfl rfl)
theorem dX6_actClear_262 : decode cX6_actClear 262 = .ok (.aload_n 0, 1) := dk_42 (dk_at dksX6_actClear_11 6 rfl rfl)
theorem dX6_actClear_263 : decode cX6_actClear 263 = .ok (.getfield 50, 3) := dk_180 0 50 (dk_at dksX6_actClear_11 7 rfl rfl)
theorem dX6_actClear_266 : decode cX6_actClear 266 = .ok (.iload_n 1, 1) := dk_27 (dk_at dksX6_actClear_11 10 rfl rfl)
theorem dX6_actClear_267 : decode cX6_actClear 267 = .ok (.iaload, 1) := dk_46 (dk_at dksX6_actClear_11 11 rfl rfl)
theorem dX6_actClear_268 : decode cX6_actClear 268 = .ok (.istore 4, 2) := dk_54 4 (dk_at dksX6_actClear_11 12 rfl rfl)
theorem dX6_actClear_270 : decode cX6_actClear 270 = .ok (.iload 4, 2) := dk_21 4 (dk_at dksX6_actClear_11 14 rfl rfl)
theorem dX6_actClear_272 : decode cX6_actClear 272 = .ok (.aload_n 0, 1) := dk_42 (dk_at dksX6_actClear_11 16 rfl rfl)
theorem dX6_actClear_273 : decode cX6_actClear 273 = .ok (.getfield 50, 3) := dk_180 0 50 (dk_at dksX6_actClear_11 17 rfl rfl)
theorem dX6_actClear_276 : decode cX6_actClear 276 = .ok (.iload_n 1, 1) := dk_27 (dk_at dksX6_actClear_11 20 rfl rfl)
theorem dX6_actClear_277 : decode cX6_actClear 277 = .ok (.iaload, 1) := dk_46 (dk_at dksX6_actClear_11 21 rfl rfl)
theorem dX6_actClear_278 : decode cX6_actClear 278 = .ok (.aload_n 0, 1) := dk_42 (dk_at dksX6_actClear_11 22 rfl rfl)
theorem dX6_actClear_279 : decode cX6_actClear 279 = .ok (.getfield 53, 3) := dk_180 0 53 (dk_at dksX6_actClear_12 0 rfl rfl)
theorem dX6_actClear_282 : decode cX6_actClear 282 = .ok (.iload_n 1, 1) := dk_27 (dk_at dksX6_actClear_12 3 rfl rfl)
theorem dX6_actClear_283 : decode cX6_actClear 283 = .ok (.iaload, 1) := dk_46 (dk_at dksX6_actClear_12 4 rfl rfl)
theorem dX6_actClear_284 : decode cX6_actClear 284 = .ok (.iadd, 1) := dk_96 (dk_at dksX6_actClear_12 5 rfl rfl)
theorem dX6_actClear_285 : decode cX6_actClear 285 = .ok (.if_icmp .ge 27, 3) := dk_162 0 27 (dk_at dksX6_actClear_12 6 rfl rfl)
theorem dX6_actClear_288 : decode cX6_actClear 288 = .ok (.aload_n 0, 1) := dk_42 (dk_at dksX6_actClear_12 9 rfl rfl)
theorem dX6_actClear_289 : decode cX6_actClear 289 = .ok (.getfield 26, 3) := dk_180 0 26 (dk_at dksX6_actClear_12 10 rfl rfl)
theorem dX6_actClear_292 : decode cX6_actClear 292 = .ok (.bipush 30, 2) := dk_16 30 (dk_at dksX6_actClear_12 13 rfl rfl)
theorem dX6_actClear_294 : decode cX6_actClear 294 = .ok (.aload_n 0, 1) := dk_42 (dk_at dksX6_actClear_12 15 rfl rfl)
theorem dX6_actClear_295 : decode cX6_actClear 295 = .ok (.getfield 47, 3) := dk_180 0 47 (dk_at dksX6_actClear_12 16 rfl rfl)
theorem dX6_actClear_298 : decode cX6_actClear 298 = .ok (.iload_n 1, 1) := dk_27 (dk_at dksX6_actClear_12 19 rfl rfl)
theorem dX6_actClear_299 : decode cX6_actClear 299 = .ok (.iaload, 1) := dk_46 (dk_at dksX6_actClear_12 20 rfl rfl)
theorem dX6_actClear_300 : decode cX6_actClear 300 = .ok (.imul, 1) := dk_104 (dk_at dksX6_actClear_12 21 rfl rfl)
theorem dX6_actClear_301 : decode cX6_actClear 301 = .ok (.iload 4, 2) := dk_21 4 (dk_at dksX6_actClear_12 22 rfl rfl)
theorem dX6_actClear_303 : decode cX6_actClear 303 = .ok (.iadd, 1) := dk_96 (dk_at dksX6_actClear_13 0 rfl rfl)
theorem dX6_actClear_304 : decode cX6_actClear 304 = .ok (.iconst 0, 1) := dk_3 (dk_at dksX6_actClear_13 1 rfl rfl)
theorem dX6_actClear_305 : decode cX6_actClear 305 = .ok (.iastore, 1) := dk_79 (dk_at dksX6_actClear_13 2 rfl rfl)
theorem dX6_actClear_306 : decode cX6_actClear 306 = .ok (.iinc 4 1, 3) := dk_132 4 1 (dk_at dksX6_actClear_13 3 rfl rfl)
theorem dX6_actClear_309 : decode cX6_actClear 309 = .ok (.goto (-39), 3) := dk_167 255 217 (dk_at dksX6_actClear_13 6 rfl rfl)
theorem dX6_actClear_312 : decode cX6_actClear 312 = .ok (.iload_n 2, 1) := dk_28 (dk_at dksX6_actClear_13 9 rfl rfl)
theorem dX6_actClear_313 : decode cX6_actClear 313 = .ok (.ireturn, 1) := dk_172 (dk_at dksX6_actClear_13 10 rfl rfl)
abbrev cX6_isMeadowBy : ByteArray := prog_21_method_48_code
def yX6_isMeadowBy : MethodName := ⟨RX6, "isMeadowBy", "(II)Z"⟩
def dkwX6_isMeadowBy_1 : List UInt8 := [27, 46, 16, 12, 108, 42, 180, 0, 47, 28, 46, 16, 12, 108, 160, 0, 7, 4, 167, 0, 4, 3, 172]
abbrev dktX6_isMeadowBy_1 : List UInt8 := dkwX6_isMeadowBy_1 ++ []
def dkwX6_isMeadowBy_0 : List UInt8 := [42, 180, 0, 29, 27, 46, 8, 160, 0, 38, 42, 180, 0, 32, 27, 46, 7, 159, 0, 28, 42, 180, 0, 47]
abbrev dktX6_isMeadowBy_0 : List UInt8 := dkwX6_isMeadowBy_0 ++ dktX6_isMeadowBy_1
theorem dksX6_isMeadowBy_0 : cX6_isMeadowBy.data.toList.drop 0 = dktX6_isMeadowBy_0 := by decide +kernel
theorem dksX6_isMeadowBy_1 : cX6_isMeadowBy.data.toList.drop 24 = dktX6_isMeadowBy_1 := dk_seg dksX6_isMeadowBy_0 24 rfl rfl
theorem dX6_isMeadowBy_0 : decode cX6_isMeadowBy 0 = .ok (.aload_n 0, 1) := dk_42 (dk_at dksX6_isMeadowBy_0 0 rfl rfl)
theorem dX6_isMeadowBy_1 : decode cX6_isMeadowBy 1 = .ok (.getfield 29, 3) := dk_180 0 29 (dk_at dksX6_isMeadowBy_0 1 rfl rfl)
theorem dX6_isMeadowBy_4 : decode cX6_isMeadowBy 4 = .ok (.iload_n 1, 1) := dk_27 (dk_at dksX6_isMeadowBy_0 4 rfl rfl)
theorem dX6_isMeadowBy_5 : decode cX6_isMeadowBy 5 = .ok (.iaload, 1) := dk_46 (dk_at dksX6_isMeadowBy_0 5 rfl rfl)
theorem dX6_isMeadowBy_6 : decode cX6_isMeadowBy 6 = .ok (.iconst 5, 1) := dk_8 (dk_at dksX6_isMeadowBy_0 6 rfl rfl)
theorem dX6_isMeadowBy_7 : decode cX6_isMeadowBy 7 = .ok (.if_icmp .ne 38, 3) := dk_160 0 38 (dk_at dksX6_isMeadowBy_0 7 rfl rfl)
theorem dX6_isMeadowBy_10 : decode cX6_isMeadowBy 10 = .ok (.aload_n 0, 1) := dk_42 (dk_at dksX6_isMeadowBy_0 10 rfl rfl)
theorem dX6_isMeadowBy_11 : decode cX6_isMeadowBy 11 = .ok (.getfield 32, 3) := dk_180 0 32 (dk_at dksX6_isMeadowBy_0 11 rfl rfl)
theorem dX6_isMeadowBy_14 : decode cX6_isMeadowBy 14 = .ok (.iload_n 1, 1) := dk_27 (dk_at dksX6_isMeadowBy_0 14 rfl rfl)
theorem dX6_isMeadowBy_15 : decode cX6_isMeadowBy 15 = .ok (.iaload, 1) := dk_46 (dk_at dksX6_isMeadowBy_0 15 rfl rfl)
theorem dX6_isMeadowBy_16 : decode cX6_isMeadowBy 16 = .ok (.iconst 4, 1) := dk_7 (dk_at dksX6_isMeadowBy_0 16 rfl rfl)
theorem dX6_isMeadowBy_17 : decode cX6_isMeadowBy 17 = .ok (.if_icmp .eq 28, 3) := dk_159 0 28 (dk_at dksX6_isMeadowBy_0 17 rfl rfl)
theorem dX6_isMeadowBy_20 : decode cX6_isMeadowBy 20 = .ok (.aload_n 0, 1) := dk_42 (dk_at dksX6_isMeadowBy_0 20 rfl rfl)
theorem dX6_isMeadowBy_21 : decode cX6_isMeadowBy 21 = .ok (.getfield 47, 3) := dk_180 0 47 (dk_at dksX6_isMeadowBy_0 21 rfl rfl)
theorem dX6_isMeadowBy_24 : decode cX6_isMeadowBy 24 = .ok (.iload_n 1, 1) := dk_27 (dk_at dksX6_isMeadowBy_1 0 rfl rfl)
theorem dX6_isMeadowBy_25 : decode cX6_isMeadowBy 25 = .ok (.iaload, 1) := dk_46 (dk_at dksX6_isMeadowBy_1 1 rfl rfl)
theorem dX6_isMeadowBy_26 : decode cX6_isMeadowBy 26 = .ok (.bipush 12, 2) := dk_16 12 (dk_at dksX6_isMeadowBy_1 2 rfl rfl)
theorem dX6_isMeadowBy_28 : decode cX6_isMeadowBy 28 = .ok (.idiv, 1) := dk_108 (dk_at dksX6_isMeadowBy_1 4 rfl rfl)
theorem dX6_isMeadowBy_29 : decode cX6_isMeadowBy 29 = .ok (.aload_n 0, 1) := dk_42 (dk_at dksX6_isMeadowBy_1 5 rfl rfl)
theorem dX6_isMeadowBy_30 : decode cX6_isMeadowBy 30 = .ok (.getfield 47, 3) := dk_180 0 47 (dk_at dksX6_isMeadowBy_1 6 rfl rfl)
theorem dX6_isMeadowBy_33 : decode cX6_isMeadowBy 33 = .ok (.iload_n 2, 1) := dk_28 (dk_at dksX6_isMeadowBy_1 9 rfl rfl)
theorem dX6_isMeadowBy_34 : decode cX6_isMeadowBy 34 = .ok (.iaload, 1) := dk_46 (dk_at dksX6_isMeadowBy_1 10 rfl rfl)
theorem dX6_isMeadowBy_35 : decode cX6_isMeadowBy 35 = .ok (.bipush 12, 2) := dk_16 12 (dk_at dksX6_isMeadowBy_1 11 rfl rfl)
theorem dX6_isMeadowBy_37 : decode cX6_isMeadowBy 37 = .ok (.idiv, 1) := dk_108 (dk_at dksX6_isMeadowBy_1 13 rfl rfl)
theorem dX6_isMeadowBy_38 : decode cX6_isMeadowBy 38 = .ok (.if_icmp .ne 7, 3) := dk_160 0 7 (dk_at dksX6_isMeadowBy_1 14 rfl rfl)
theorem dX6_isMeadowBy_41 : decode cX6_isMeadowBy 41 = .ok (.iconst 1, 1) := dk_4 (dk_at dksX6_isMeadowBy_1 17 rfl rfl)
theorem dX6_isMeadowBy_42 : decode cX6_isMeadowBy 42 = .ok (.goto 4, 3) := dk_167 0 4 (dk_at dksX6_isMeadowBy_1 18 rfl rfl)
theorem dX6_isMeadowBy_45 : decode cX6_isMeadowBy 45 = .ok (.iconst 0, 1) := dk_3 (dk_at dksX6_isMeadowBy_1 21 rfl rfl)
theorem dX6_isMeadowBy_46 : decode cX6_isMeadowBy 46 = .ok (.ireturn, 1) := dk_172 (dk_at dksX6_isMeadowBy_1 22 rfl rfl)
abbrev cX6_toMeadow : ByteArray := prog_21_method_49_code
def yX6_toMeadow : MethodName := ⟨RX6, "toMeadow", "(II)V"⟩
def dkwX6_toMeadow_3 : List UInt8 := [180, 0, 95, 27, 3, 79, 42, 27, 29, 182, 0, 240, 177]
abbrev dktX6_toMeadow_3 : List UInt8 := dkwX6_toMeadow_3 ++ []
def dkwX6_toMeadow_2 : List UInt8 := [180, 0, 77, 29, 92, 46, 4, 96, 79, 42, 180, 0, 89, 27, 29, 79, 42, 180, 0, 92, 27, 3, 79, 42]
abbrev dktX6_toMeadow_2 : List UInt8 := dkwX6_toMeadow_2 ++ dktX6_toMeadow_3
def dkwX6_toMeadow_1 : List UInt8 := [132, 3, 1, 167, 255, 233, 42, 180, 0, 74, 16, 40, 29, 104, 42, 180, 0, 77, 29, 46, 96, 27, 79, 42]
abbrev dktX6_toMeadow_1 : List UInt8 := dkwX6_toMeadow_1 ++ dktX6_toMeadow_2
def dkwX6_toMeadow_0 : List UInt8 := [3, 62, 42, 29, 28, 182, 0, 250, 153, 0, 14, 42, 180, 0, 77, 29, 46, 16, 40, 160, 0, 9]
abbrev dktX6_toMeadow_0 : List UInt8 := dkwX6_toMeadow_0 ++ dktX6_toMeadow_1
theorem dksX6_toMeadow_0 : cX6_toMeadow.data.toList.drop 0 = dktX6_toMeadow_0 := by decide +kernel
theorem dksX6_toMeadow_1 : cX6_toMeadow.data.toList.drop 22 = dktX6_toMeadow_1 := dk_seg dksX6_toMeadow_0 22 rfl rfl
theorem dksX6_toMeadow_2 : cX6_toMeadow.data.toList.drop 46 = dktX6_toMeadow_2 := dk_seg dksX6_toMeadow_1 24 rfl rfl
theorem dksX6_toMeadow_3 : cX6_toMeadow.data.toList.drop 70 = dktX6_toMeadow_3 := dk_seg dksX6_toMeadow_2 24 rfl rfl
theorem dX6_toMeadow_0 : decode cX6_toMeadow 0 = .ok (.iconst 0, 1) := dk_3 (dk_at dksX6_toMeadow_0 0 rfl rfl)
theorem dX6_toMeadow_1 : decode cX6_toMeadow 1 = .ok (.istore_n 3, 1) := dk_62 (dk_at dksX6_toMeadow_0 1 rfl rfl)
theorem dX6_toMeadow_2 : decode cX6_toMeadow 2 = .ok (.aload_n 0, 1) := dk_42 (dk_at dksX6_toMeadow_0 2 rfl rfl)
theorem dX6_toMeadow_3 : decode cX6_toMeadow 3 = .ok (.iload_n 3, 1) := dk_29 (dk_at dksX6_toMeadow_0 3 rfl rfl)
theorem dX6_toMeadow_4 : decode cX6_toMeadow 4 = .ok (.iload_n 2, 1) := dk_28 (dk_at dksX6_toMeadow_0 4 rfl rfl)
theorem dX6_toMeadow_5 : decode cX6_toMeadow 5 = .ok (.invokevirtual 250, 3) := dk_182 0 250 (dk_at dksX6_toMeadow_0 5 rfl rfl)
theorem dX6_toMeadow_8 : decode cX6_toMeadow 8 = .ok (.ifCond .eq 14, 3) := dk_153 0 14 (dk_at dksX6_toMeadow_0 8 rfl rfl)
theorem dX6_toMeadow_11 : decode cX6_toMeadow 11 = .ok (.aload_n 0, 1) := dk_42 (dk_at dksX6_toMeadow_0 11 rfl rfl)
theorem dX6_toMeadow_12 : decode cX6_toMeadow 12 = .ok (.getfield 77, 3) := dk_180 0 77 (dk_at dksX6_toMeadow_0 12 rfl rfl)
theorem dX6_toMeadow_15 : decode cX6_toMeadow 15 = .ok (.iload_n 3, 1) := dk_29 (dk_at dksX6_toMeadow_0 15 rfl rfl)
theorem dX6_toMeadow_16 : decode cX6_toMeadow 16 = .ok (.iaload, 1) := dk_46 (dk_at dksX6_toMeadow_0 16 rfl rfl)
theorem dX6_toMeadow_17 : decode cX6_toMeadow 17 = .ok (.bipush 40, 2) := dk_16 40 (dk_at dksX6_toMeadow_0 17 rfl rfl)
theorem dX6_toMeadow_19 : decode cX6_toMeadow 19 = .ok (.if_icmp .ne 9, 3) := dk_160 0 9 (dk_at dksX6_toMeadow_0 19 rfl rfl)
theorem dX6_toMeadow_22 : decode cX6_toMeadow 22 = .ok (.iinc 3 1, 3) := dk_132 3 1 (dk_at dksX6_toMeadow_1 0 rfl rfl)
theorem dX6_toMeadow_25 : decode cX6_toMeadow 25 = .ok (.goto (-23), 3) := dk_167 255 233 (dk_at dksX6_toMeadow_1 3 rfl rfl)
theorem dX6_toMeadow_28 : decode cX6_toMeadow 28 = .ok (.aload_n 0, 1) := dk_42 (dk_at dksX6_toMeadow_1 6 rfl rfl)
theorem dX6_toMeadow_29 : decode cX6_toMeadow 29 = .ok (.getfield 74, 3) := dk_180 0 74 (dk_at dksX6_toMeadow_1 7 rfl rfl)
theorem dX6_toMeadow_32 : decode cX6_toMeadow 32 = .ok (.bipush 40, 2) := dk_16 40 (dk_at dksX6_toMeadow_1 10 rfl rfl)
theorem dX6_toMeadow_34 : decode cX6_toMeadow 34 = .ok (.iload_n 3, 1) := dk_29 (dk_at dksX6_toMeadow_1 12 rfl rfl)
theorem dX6_toMeadow_35 : decode cX6_toMeadow 35 = .ok (.imul, 1) := dk_104 (dk_at dksX6_toMeadow_1 13 rfl rfl)
theorem dX6_toMeadow_36 : decode cX6_toMeadow 36 = .ok (.aload_n 0, 1) := dk_42 (dk_at dksX6_toMeadow_1 14 rfl rfl)
theorem dX6_toMeadow_37 : decode cX6_toMeadow 37 = .ok (.getfield 77, 3) := dk_180 0 77 (dk_at dksX6_toMeadow_1 15 rfl rfl)
theorem dX6_toMeadow_40 : decode cX6_toMeadow 40 = .ok (.iload_n 3, 1) := dk_29 (dk_at dksX6_toMeadow_1 18 rfl rfl)
theorem dX6_toMeadow_41 : decode cX6_toMeadow 41 = .ok (.iaload, 1) := dk_46 (dk_at dksX6_toMeadow_1 19 rfl rfl)
theorem dX6_toMeadow_42 : decode cX6_toMeadow 42 = .ok (.iadd, 1) := dk_96 (dk_at dksX6_toMeadow_1 20 rfl rfl)
theorem dX6_toMeadow_43 : decode cX6_toMeadow 43 = .ok (.iload_n 1, 1) := dk_27 (dk_at dksX6_toMeadow_1 21 rfl rfl)
theorem dX6_toMeadow_44 : decode cX6_toMeadow 44 = .ok (.iastore, 1) := dk_79 (dk_at dksX6_toMeadow_1 22 rfl rfl)
theorem dX6_toMeadow_45 : decode cX6_toMeadow 45 = .ok (.aload_n 0, 1) := dk_42 (dk_at dksX6_toMeadow_1 23 rfl rfl)
theorem dX6_toMeadow_46 : decode cX6_toMeadow 46 = .ok (.getfield 77, 3) := dk_180 0 77 (dk_at dksX6_toMeadow_2 0 rfl rfl)
theorem dX6_toMeadow_49 : decode cX6_toMeadow 49 = .ok (.iload_n 3, 1) := dk_29 (dk_at dksX6_toMeadow_2 3 rfl rfl)
theorem dX6_toMeadow_50 : decode cX6_toMeadow 50 = .ok (.dup2, 1) := dk_92 (dk_at dksX6_toMeadow_2 4 rfl rfl)
theorem dX6_toMeadow_51 : decode cX6_toMeadow 51 = .ok (.iaload, 1) := dk_46 (dk_at dksX6_toMeadow_2 5 rfl rfl)
theorem dX6_toMeadow_52 : decode cX6_toMeadow 52 = .ok (.iconst 1, 1) := dk_4 (dk_at dksX6_toMeadow_2 6 rfl rfl)
theorem dX6_toMeadow_53 : decode cX6_toMeadow 53 = .ok (.iadd, 1) := dk_96 (dk_at dksX6_toMeadow_2 7 rfl rfl)
theorem dX6_toMeadow_54 : decode cX6_toMeadow 54 = .ok (.iastore, 1) := dk_79 (dk_at dksX6_toMeadow_2 8 rfl rfl)
theorem dX6_toMeadow_55 : decode cX6_toMeadow 55 = .ok (.aload_n 0, 1) := dk_42 (dk_at dksX6_toMeadow_2 9 rfl rfl)
theorem dX6_toMeadow_56 : decode cX6_toMeadow 56 = .ok (.getfield 89, 3) := dk_180 0 89 (dk_at dksX6_toMeadow_2 10 rfl rfl)
theorem dX6_toMeadow_59 : decode cX6_toMeadow 59 = .ok (.iload_n 1, 1) := dk_27 (dk_at dksX6_toMeadow_2 13 rfl rfl)
theorem dX6_toMeadow_60 : decode cX6_toMeadow 60 = .ok (.iload_n 3, 1) := dk_29 (dk_at dksX6_toMeadow_2 14 rfl rfl)
theorem dX6_toMeadow_61 : decode cX6_toMeadow 61 = .ok (.iastore, 1) := dk_79 (dk_at dksX6_toMeadow_2 15 rfl rfl)
theorem dX6_toMeadow_62 : decode cX6_toMeadow 62 = .ok (.aload_n 0, 1) := dk_42 (dk_at dksX6_toMeadow_2 16 rfl rfl)
theorem dX6_toMeadow_63 : decode cX6_toMeadow 63 = .ok (.getfield 92, 3) := dk_180 0 92 (dk_at dksX6_toMeadow_2 17 rfl rfl)
theorem dX6_toMeadow_66 : decode cX6_toMeadow 66 = .ok (.iload_n 1, 1) := dk_27 (dk_at dksX6_toMeadow_2 20 rfl rfl)
theorem dX6_toMeadow_67 : decode cX6_toMeadow 67 = .ok (.iconst 0, 1) := dk_3 (dk_at dksX6_toMeadow_2 21 rfl rfl)
theorem dX6_toMeadow_68 : decode cX6_toMeadow 68 = .ok (.iastore, 1) := dk_79 (dk_at dksX6_toMeadow_2 22 rfl rfl)
theorem dX6_toMeadow_69 : decode cX6_toMeadow 69 = .ok (.aload_n 0, 1) := dk_42 (dk_at dksX6_toMeadow_2 23 rfl rfl)
theorem dX6_toMeadow_70 : decode cX6_toMeadow 70 = .ok (.getfield 95, 3) := dk_180 0 95 (dk_at dksX6_toMeadow_3 0 rfl rfl)
theorem dX6_toMeadow_73 : decode cX6_toMeadow 73 = .ok (.iload_n 1, 1) := dk_27 (dk_at dksX6_toMeadow_3 3 rfl rfl)
theorem dX6_toMeadow_74 : decode cX6_toMeadow 74 = .ok (.iconst 0, 1) := dk_3 (dk_at dksX6_toMeadow_3 4 rfl rfl)
theorem dX6_toMeadow_75 : decode cX6_toMeadow 75 = .ok (.iastore, 1) := dk_79 (dk_at dksX6_toMeadow_3 5 rfl rfl)
theorem dX6_toMeadow_76 : decode cX6_toMeadow 76 = .ok (.aload_n 0, 1) := dk_42 (dk_at dksX6_toMeadow_3 6 rfl rfl)
theorem dX6_toMeadow_77 : decode cX6_toMeadow 77 = .ok (.iload_n 1, 1) := dk_27 (dk_at dksX6_toMeadow_3 7 rfl rfl)
theorem dX6_toMeadow_78 : decode cX6_toMeadow 78 = .ok (.iload_n 3, 1) := dk_29 (dk_at dksX6_toMeadow_3 8 rfl rfl)
theorem dX6_toMeadow_79 : decode cX6_toMeadow 79 = .ok (.invokevirtual 240, 3) := dk_182 0 240 (dk_at dksX6_toMeadow_3 9 rfl rfl)
theorem dX6_toMeadow_82 : decode cX6_toMeadow 82 = .ok (.return_, 1) := dk_177 (dk_at dksX6_toMeadow_3 12 rfl rfl)
abbrev cX6_actTurn : ByteArray := prog_21_method_51_code
def yX6_actTurn : MethodName := ⟨RX6, "actTurn", "(I)I"⟩
def dkwX6_actTurn_9 : List UInt8 := [46, 164, 0, 9, 42, 21, 4, 182, 0, 216, 132, 4, 1, 167, 255, 116, 167, 255, 60, 42, 180, 0, 135, 172]
abbrev dktX6_actTurn_9 : List UInt8 := dkwX6_actTurn_9 ++ []
def dkwX6_actTurn_8 : List UInt8 := [167, 0, 34, 42, 180, 0, 32, 21, 4, 46, 5, 160, 0, 23, 42, 180, 0, 135, 42, 180, 0, 44, 21, 4]
abbrev dktX6_actTurn_8 : List UInt8 := dkwX6_actTurn_8 ++ dktX6_actTurn_9
def dkwX6_actTurn_7 : List UInt8 := [42, 180, 0, 38, 21, 4, 46, 163, 0, 8, 21, 5, 153, 0, 14, 42, 180, 0, 32, 21, 4, 6, 79]
abbrev dktX6_actTurn_7 : List UInt8 := dkwX6_actTurn_7 ++ dktX6_actTurn_8
def dkwX6_actTurn_6 : List UInt8 := [180, 0, 135, 42, 180, 0, 44, 21, 4, 46, 164, 0, 7, 4, 167, 0, 4, 3, 54, 5, 42, 180, 0, 135]
abbrev dktX6_actTurn_6 : List UInt8 := dkwX6_actTurn_6 ++ dktX6_actTurn_7
def dkwX6_actTurn_5 : List UInt8 := [42, 180, 0, 32, 21, 4, 46, 5, 160, 0, 31, 42, 180, 0, 41, 21, 4, 46, 156, 0, 21, 42]
abbrev dktX6_actTurn_5 : List UInt8 := dkwX6_actTurn_5 ++ dktX6_actTurn_6
def dkwX6_actTurn_4 : List UInt8 := [180, 0, 32, 21, 4, 46, 4, 159, 0, 17, 42, 180, 0, 32, 21, 4, 46, 5, 159, 0, 6, 167, 0, 106]
abbrev dktX6_actTurn_4 : List UInt8 := dkwX6_actTurn_4 ++ dktX6_actTurn_5
def dkwX6_actTurn_3 : List UInt8 := [132, 4, 1, 167, 255, 227, 42, 29, 181, 0, 135, 3, 54, 4, 21, 4, 42, 180, 0, 141, 162, 0, 137, 42]
abbrev dktX6_actTurn_3 : List UInt8 := dkwX6_actTurn_3 ++ dktX6_actTurn_4
def dkwX6_actTurn_2 : List UInt8 := [42, 180, 0, 141, 162, 0, 26, 42, 21, 4, 182, 1, 2, 29, 162, 0, 10, 42, 21, 4, 182, 1, 2, 62]
abbrev dktX6_actTurn_2 : List UInt8 := dkwX6_actTurn_2 ++ dktX6_actTurn_3
def dkwX6_actTurn_1 : List UInt8 := [2, 172, 42, 180, 0, 135, 27, 96, 61, 42, 180, 0, 135, 28, 162, 0, 194, 28, 62, 3, 54, 4, 21, 4]
abbrev dktX6_actTurn_1 : List UInt8 := dkwX6_actTurn_1 ++ dktX6_actTurn_2
def dkwX6_actTurn_0 : List UInt8 := [27, 4, 161, 0, 22, 27, 19, 1, 0, 163, 0, 15, 42, 180, 0, 135, 27, 96, 19, 1, 1, 164, 0, 5]
abbrev dktX6_actTurn_0 : List UInt8 := dkwX6_actTurn_0 ++ dktX6_actTurn_1
theorem dksX6_actTurn_0 : cX6_actTurn.data.toList.drop 0 = dktX6_actTurn_0 := by decide +kernel
theorem dksX6_actTurn_1 : cX6_actTurn.data.toList.drop 24 = dktX6_actTurn_1 := dk_seg dksX6_actTurn_0 24 rfl rfl
theorem dksX6_actTurn_2 : cX6_actTurn.data.toList.drop 48 = dktX6_actTurn_2 := dk_seg dksX6_actTurn_1 24 rfl rfl
theorem dksX6_actTurn_3 : cX6_actTurn.data.toList.drop 72 = dktX6_actTurn_3 := dk_seg dksX6_actTurn_2 24 rfl rfl
theorem dksX6_actTurn_4 : cX6_actTurn.data.toList.drop 96 = dktX6_actTurn_4 := dk_seg dksX6_actTurn_3 24 rfl rfl
theorem dksX6_actTurn_5 : cX6_actTurn.data.toList.drop 120 = dktX6_actTurn_5 := dk_seg dksX6_actTurn_4 24 rfl rfl
theorem dksX6_actTurn_6 : cX6_actTurn.data.toList.drop 142 = dktX6_actTurn_6 := dk_seg dksX6_actTurn_5 22 rfl rfl
theorem dksX6_actTurn_7 : cX6_actTurn.data.toList.drop 166 = dktX6_actTurn_7 := dk_seg dksX6_actTurn_6 24 rfl rfl
theorem dksX6_actTurn_8 : cX6_actTurn.data.toList.drop 189 = dktX6_actTurn_8 := dk_seg dksX6_actTurn_7 23 rfl rfl
theorem dksX6_actTurn_9 : cX6_actTurn.data.toList.drop 213 = dktX6_actTurn_9 := dk_seg dksX6_actTurn_8 24 rfl rfl
theorem dX6_actTurn_0 : decode cX6_actTurn 0 = .ok (.iload_n 1, 1) := dk_27 (dk_at dksX6_actTurn_0 0 rfl rfl)
theorem dX6_actTurn_1 : decode cX6_actTurn 1 = .ok (.iconst 1, 1) := dk_4 (dk_at dksX6_actTurn_0 1 rfl rfl)
theorem dX6_actTurn_2 : decode cX6_actTurn 2 = .ok (.if_icmp .lt 22, 3) := dk_161 0 22 (dk_at dksX6_actTurn_0 2 rfl rfl)
theorem dX6_actTurn_5 : decode cX6_actTurn 5 = .ok (.iload_n 1, 1) := dk_27 (dk_at dksX6_actTurn_0 5 rfl rfl)
theorem dX6_actTurn_6 : decode cX6_actTurn 6 = .ok (.ldc_w 256, 3) := dk_19 1 0 (dk_at dksX6_actTurn_0 6 rfl rfl)
theorem dX6_actTurn_9 : decode cX6_actTurn 9 = .ok (.if_icmp .gt 15, 3) := dk_163 0 15 (dk_at dksX6_actTurn_0 9 rfl rfl)
theorem dX6_actTurn_12 : decode cX6_actTurn 12 = .ok (.aload_n 0, 1) := dk_42 (dk_at dksX6_actTurn_0 12 rfl rfl)
theorem dX6_actTurn_13 : decode cX6_actTurn 13 = .ok (.getfield 135, 3) := dk_180 0 135 (dk_at dksX6_actTurn_0 13 rfl rfl)
theorem dX6_actTurn_16 : decode cX6_actTurn 16 = .ok (.iload_n 1, 1) := dk_27 (dk_at dksX6_actTurn_0 16 rfl rfl)
theorem dX6_actTurn_17 : decode cX6_actTurn 17 = .ok (.iadd, 1) := dk_96 (dk_at dksX6_actTurn_0 17 rfl rfl)
theorem dX6_actTurn_18 : decode cX6_actTurn 18 = .ok (.ldc_w 257, 3) := dk_19 1 1 (dk_at dksX6_actTurn_0 18 rfl rfl)
theorem dX6_actTurn_21 : decode cX6_actTurn 21 = .ok (.if_icmp .le 5, 3) := dk_164 0 5 (dk_at dksX6_actTurn_0 21 rfl rfl)
theorem dX6_actTurn_24 : decode cX6_actTurn 24 = .ok (.iconst (-1), 1) := dk_2 (dk_at dksX6_actTurn_1 0 rfl rfl)
theorem dX6_actTurn_25 : decode cX6_actTurn 25 = .ok (.ireturn, 1) := dk_172 (dk_at dksX6_actTurn_1 1 rfl rfl)
theorem dX6_actTurn_26 : decode cX6_actTurn 26 = .ok (.aload_n 0, 1) := dk_42 (dk_at dksX6_actTurn_1 2 rfl rfl)
theorem dX6_actTurn_27 : decode cX6_actTurn 27 = .ok (.getfield 135, 3) := dk_180 0 135 (dk_at dksX6_actTurn_1 3 rfl rfl)
theorem dX6_actTurn_30 : decode cX6_actTurn 30 = .ok (.iload_n 1, 1) := dk_27 (dk_at dksX6_actTurn_1 6 rfl rfl)
theorem dX6_actTurn_31 : decode cX6_actTurn 31 = .ok (.iadd, 1) := dk_96 (dk_at dksX6_actTurn_1 7 rfl rfl)
theorem dX6_actTurn_32 : decode cX6_actTurn 32 = .ok (.istore_n 2, 1) := dk_61 (dk_at dksX6_actTurn_1 8 rfl rfl)
theorem dX6_actTurn_33 : decode cX6_actTurn 33 = .ok (.aload_n 0, 1) := dk_42 (dk_at dksX6_actTurn_1 9 rfl rfl)
theorem dX6_actTurn_34 : decode cX6_actTurn 34 = .ok (.getfield 135, 3) := dk_180 0 135 (dk_at dksX6_actTurn_1 10 rfl rfl)
theorem dX6_actTurn_37 : decode cX6_actTurn 37 = .ok (.iload_n 2, 1) := dk_28 (dk_at dksX6_actTurn_1 13 rfl rfl)
theorem dX6_actTurn_38 : decode cX6_actTurn 38 = .ok (.if_icmp .ge 194, 3) := dk_162 0 194 (dk_at dksX6_actTurn_1 14 rfl rfl)
theorem dX6_actTurn_41 : decode cX6_actTurn 41 = .ok (.iload_n 2, 1) := dk_28 (dk_at dksX6_actTurn_1 17 rfl rfl)
theorem dX6_actTurn_42 : decode cX6_actTurn 42 = .ok (.istore_n 3, 1) := dk_62 (dk_at dksX6_actTurn_1 18 rfl rfl)
theorem dX6_actTurn_43 : decode cX6_actTurn 43 = .ok (.iconst 0, 1) := dk_3 (dk_at dksX6_actTurn_1 19 rfl rfl)
theorem dX6_actTurn_44 : decode cX6_actTurn 44 = .ok (.istore 4, 2) := dk_54 4 (dk_at dksX6_actTurn_1 20 rfl rfl)
theorem dX6_actTurn_46 : decode cX6_actTurn 46 = .ok (.iload 4, 2) := dk_21 4 (dk_at dksX6_actTurn_1 22 rfl rfl)
theorem dX6_actTurn_48 : decode cX6_actTurn 48 = .ok (.aload_n 0, 1) := dk_42 (dk_at dksX6_actTurn_2 0 rfl rfl)
theorem dX6_actTurn_49 : decode cX6_actTurn 49 = .ok (.getfield 141, 3) := dk_180 0 141 (dk_at dksX6_actTurn_2 1 rfl rfl)
theorem dX6_actTurn_52 : decode cX6_actTurn 52 = .ok (.if_icmp .ge 26, 3) := dk_162 0 26 (dk_at dksX6_actTurn_2 4 rfl rfl)
theorem dX6_actTurn_55 : decode cX6_actTurn 55 = .ok (.aload_n 0, 1) := dk_42 (dk_at dksX6_actTurn_2 7 rfl rfl)
theorem dX6_actTurn_56 : decode cX6_actTurn 56 = .ok (.iload 4, 2) := dk_21 4 (dk_at dksX6_actTurn_2 8 rfl rfl)
theorem dX6_actTurn_58 : decode cX6_actTurn 58 = .ok (.invokevirtual 258, 3) := dk_182 1 2 (dk_at dksX6_actTurn_2 10 rfl rfl)
theorem dX6_actTurn_61 : decode cX6_actTurn 61 = .ok (.iload_n 3, 1) := dk_29 (dk_at dksX6_actTurn_2 13 rfl rfl)
theorem dX6_actTurn_62 : decode cX6_actTurn 62 = .ok (.if_icmp .ge 10, 3) := dk_162 0 10 (dk_at dksX6_actTurn_2 14 rfl rfl)
theorem dX6_actTurn_65 : decode cX6_actTurn 65 = .ok (.aload_n 0, 1) := dk_42 (dk_at dksX6_actTurn_2 17 rfl rfl)
theorem dX6_actTurn_66 : decode cX6_actTurn 66 = .ok (.iload 4, 2) := dk_21 4 (dk_at dksX6_actTurn_2 18 rfl rfl)
theorem dX6_actTurn_68 : decode cX6_actTurn 68 = .ok (.invokevirtual 258, 3) := dk_182 1 2 (dk_at dksX6_actTurn_2 20 rfl rfl)
theorem dX6_actTurn_71 : decode cX6_actTurn 71 = .ok (.istore_n 3, 1) := dk_62 (dk_at dksX6_actTurn_2 23 rfl rfl)
theorem dX6_actTurn_72 : decode cX6_actTurn 72 = .ok (.iinc 4 1, 3) := dk_132 4 1 (dk_at dksX6_actTurn_3 0 rfl rfl)
theorem dX6_actTurn_75 : decode cX6_actTurn 75 = .ok (.goto (-29), 3) := dk_167 255 227 (dk_at dksX6_actTurn_3 3 rfl rfl)
theorem dX6_actTurn_78 : decode cX6_actTurn 78 = .ok (.aload_n 0, 1) := dk_42 (dk_at dksX6_actTurn_3 6 rfl rfl)
theorem dX6_actTurn_79 : decode cX6_actTurn 79 = .ok (.iload_n 3, 1) := dk_29 (dk_at dksX6_actTurn_3 7 rfl rfl)
theorem dX6_actTurn_80 : decode cX6_actTurn 80 = .ok (.putfield 135, 3) := dk_181 0 135 (dk_at dksX6_actTurn_3 8 rfl rfl)
theorem dX6_actTurn_83 : decode cX6_actTurn 83 = .ok (.iconst 0, 1) := dk_3 (dk_at dksX6_actTurn_3 11 rfl rfl)
theorem dX6_actTurn_84 : decode cX6_actTurn 84 = .ok (.istore 4, 2) := dk_54 4 (dk_at dksX6_actTurn_3 12 rfl rfl)
theorem dX6_actTurn_86 : decode cX6_actTurn 86 = .ok (.iload 4, 2) := dk_21 4 (dk_at dksX6_actTurn_3 14 rfl rfl)
theorem dX6_actTurn_88 : decode cX6_actTurn 88 = .ok (.aload_n 0, 1) := dk_42 (dk_at dksX6_actTurn_3 16 rfl rfl)
theorem dX6_actTurn_89 : decode cX6_actTurn 89 = .ok (.getfield 141, 3) := dk_180 0 141 (dk_at dksX6_actTurn_3 17 rfl rfl)
theorem dX6_actTurn_92 : decode cX6_actTurn 92 = .ok (.if_icmp .ge 137, 3) := dk_162 0 137 (dk_at dksX6_actTurn_3 20 rfl rfl)
theorem dX6_actTurn_95 : decode cX6_actTurn 95 = .ok (.aload_n 0, 1) := dk_42 (dk_at dksX6_actTurn_3 23 rfl rfl)
theorem dX6_actTurn_96 : decode cX6_actTurn 96 = .ok (.getfield 32, 3) := dk_180 0 32 (dk_at dksX6_actTurn_4 0 rfl rfl)
theorem dX6_actTurn_99 : decode cX6_actTurn 99 = .ok (.iload 4, 2) := dk_21 4 (dk_at dksX6_actTurn_4 3 rfl rfl)
theorem dX6_actTurn_101 : decode cX6_actTurn 101 = .ok (.iaload, 1) := dk_46 (dk_at dksX6_actTurn_4 5 rfl rfl)
theorem dX6_actTurn_102 : decode cX6_actTurn 102 = .ok (.iconst 1, 1) := dk_4 (dk_at dksX6_actTurn_4 6 rfl rfl)
theorem dX6_actTurn_103 : decode cX6_actTurn 103 = .ok (.if_icmp .eq 17, 3) := dk_159 0 17 (dk_at dksX6_actTurn_4 7 rfl rfl)
theorem dX6_actTurn_106 : decode cX6_actTurn 106 = .ok (.aload_n 0, 1) := dk_42 (dk_at dksX6_actTurn_4 10 rfl rfl)
theorem dX6_actTurn_107 : decode cX6_actTurn 107 = .ok (.getfield 32, 3) := dk_180 0 32 (dk_at dksX6_actTurn_4 11 rfl rfl)
theorem dX6_actTurn_110 : decode cX6_actTurn 110 = .ok (.iload 4, 2) := dk_21 4 (dk_at dksX6_actTurn_4 14 rfl rfl)
theorem dX6_actTurn_112 : decode cX6_actTurn 112 = .ok (.iaload, 1) := dk_46 (dk_at dksX6_actTurn_4 16 rfl rfl)
theorem dX6_actTurn_113 : decode cX6_actTurn 113 = .ok (.iconst 2, 1) := dk_5 (dk_at dksX6_actTurn_4 17 rfl rfl)
theorem dX6_actTurn_114 : decode cX6_actTurn 114 = .ok (.if_icmp .eq 6, 3) := dk_159 0 6 (dk_at dksX6_actTurn_4 18 rfl rfl)
theorem dX6_actTurn_117 : decode cX6_actTurn 117 = .ok (.goto 106, 3) := dk_167 0 106 (dk_at dksX6_actTurn_4 21 rfl rfl)
theorem dX6_actTurn_120 : decode cX6_actTurn 120 = .ok (.aload_n 0, 1) := dk_42 (dk_at dksX6_actTurn_5 0 rfl rfl)
theorem dX6_actTurn_121 : decode cX6_actTurn 121 = .ok (.getfield 32, 3) := dk_180 0 32 (dk_at dksX6_actTurn_5 1 rfl rfl)
theorem dX6_actTurn_124 : decode cX6_actTurn 124 = .ok (.iload 4, 2) := dk_21 4 (dk_at dksX6_actTurn_5 4 rfl rfl)
theorem dX6_actTurn_126 : decode cX6_actTurn 126 = .ok (.iaload, 1) := dk_46 (dk_at dksX6_actTurn_5 6 rfl rfl)
theorem dX6_actTurn_127 : decode cX6_actTurn 127 = .ok (.iconst 2, 1) := dk_5 (dk_at dksX6_actTurn_5 7 rfl rfl)
theorem dX6_actTurn_128 : decode cX6_actTurn 128 = .ok (.if_icmp .ne 31, 3) := dk_160 0 31 (dk_at dksX6_actTurn_5 8 rfl rfl)
theorem dX6_actTurn_131 : decode cX6_actTurn 131 = .ok (.aload_n 0, 1) := dk_42 (dk_at dksX6_actTurn_5 11 rfl rfl)
theorem dX6_actTurn_132 : decode cX6_actTurn 132 = .ok (.getfield 41, 3) := dk_180 0 41 (dk_at dksX6_actTurn_5 12 rfl rfl)
theorem dX6_actTurn_135 : decode cX6_actTurn 135 = .ok (.iload 4, 2) := dk_21 4 (dk_at dksX6_actTurn_5 15 rfl rfl)
theorem dX6_actTurn_137 : decode cX6_actTurn 137 = .ok (.iaload, 1) := dk_46 (dk_at dksX6_actTurn_5 17 rfl rfl)
theorem dX6_actTurn_138 : decode cX6_actTurn 138 = .ok (.ifCond .ge 21, 3) := dk_156 0 21 (dk_at dksX6_actTurn_5 18 rfl rfl)
theorem dX6_actTurn_141 : decode cX6_actTurn 141 = .ok (.aload_n 0, 1) := dk_42 (dk_at dksX6_actTurn_5 21 rfl rfl)
theorem dX6_actTurn_142 : decode cX6_actTurn 142 = .ok (.getfield 135, 3) := dk_180 0 135 (dk_at dksX6_actTurn_6 0 rfl rfl)
theorem dX6_actTurn_145 : decode cX6_actTurn 145 = .ok (.aload_n 0, 1) := dk_42 (dk_at dksX6_actTurn_6 3 rfl rfl)
theorem dX6_actTurn_146 : decode cX6_actTurn 146 = .ok (.getfield 44, 3) := dk_180 0 44 (dk_at dksX6_actTurn_6 4 rfl rfl)
theorem dX6_actTurn_149 : decode cX6_actTurn 149 = .ok (.iload 4, 2) := dk_21 4 (dk_at dksX6_actTurn_6 7 rfl rfl)
theorem dX6_actTurn_151 : decode cX6_actTurn 151 = .ok (.iaload, 1) := dk_46 (dk_at dksX6_actTurn_6 9 rfl rfl)
theorem dX6_actTurn_152 : decode cX6_actTurn 152 = .ok (.if_icmp .le 7, 3) := dk_164 0 7 (dk_at dksX6_actTurn_6 10 rfl rfl)
theorem dX6_actTurn_155 : decode cX6_actTurn 155 = .ok (.iconst 1, 1) := dk_4 (dk_at dksX6_actTurn_6 13 rfl rfl)
theorem dX6_actTurn_156 : decode cX6_actTurn 156 = .ok (.goto 4, 3) := dk_167 0 4 (dk_at dksX6_actTurn_6 14 rfl rfl)
theorem dX6_actTurn_159 : decode cX6_actTurn 159 = .ok (.iconst 0, 1) := dk_3 (dk_at dksX6_actTurn_6 17 rfl rfl)
theorem dX6_actTurn_160 : decode cX6_actTurn 160 = .ok (.istore 5, 2) := dk_54 5 (dk_at dksX6_actTurn_6 18 rfl rfl)
theorem dX6_actTurn_162 : decode cX6_actTurn 162 = .ok (.aload_n 0, 1) := dk_42 (dk_at dksX6_actTurn_6 20 rfl rfl)
theorem dX6_actTurn_163 : decode cX6_actTurn 163 = .ok (.getfield 135, 3) := dk_180 0 135 (dk_at dksX6_actTurn_6 21 rfl rfl)
theorem dX6_actTurn_166 : decode cX6_actTurn 166 = .ok (.aload_n 0, 1) := dk_42 (dk_at dksX6_actTurn_7 0 rfl rfl)
theorem dX6_actTurn_167 : decode cX6_actTurn 167 = .ok (.getfield 38, 3) := dk_180 0 38 (dk_at dksX6_actTurn_7 1 rfl rfl)
theorem dX6_actTurn_170 : decode cX6_actTurn 170 = .ok (.iload 4, 2) := dk_21 4 (dk_at dksX6_actTurn_7 4 rfl rfl)
theorem dX6_actTurn_172 : decode cX6_actTurn 172 = .ok (.iaload, 1) := dk_46 (dk_at dksX6_actTurn_7 6 rfl rfl)
theorem dX6_actTurn_173 : decode cX6_actTurn 173 = .ok (.if_icmp .gt 8, 3) := dk_163 0 8 (dk_at dksX6_actTurn_7 7 rfl rfl)
theorem dX6_actTurn_176 : decode cX6_actTurn 176 = .ok (.iload 5, 2) := dk_21 5 (dk_at dksX6_actTurn_7 10 rfl rfl)
theorem dX6_actTurn_178 : decode cX6_actTurn 178 = .ok (.ifCond .eq 14, 3) := dk_153 0 14 (dk_at dksX6_actTurn_7 12 rfl rfl)
theorem dX6_actTurn_181 : decode cX6_actTurn 181 = .ok (.aload_n 0, 1) := dk_42 (dk_at dksX6_actTurn_7 15 rfl rfl)
theorem dX6_actTurn_182 : decode cX6_actTurn 182 = .ok (.getfield 32, 3) := dk_180 0 32 (dk_at dksX6_actTurn_7 16 rfl rfl)
theorem dX6_actTurn_185 : decode cX6_actTurn 185 = .ok (.iload 4, 2) := dk_21 4 (dk_at dksX6_actTurn_7 19 rfl rfl)
theorem dX6_actTurn_187 : decode cX6_actTurn 187 = .ok (.iconst 3, 1) := dk_6 (dk_at dksX6_actTurn_7 21 rfl rfl)
theorem dX6_actTurn_188 : decode cX6_actTurn 188 = .ok (.iastore, 1) := dk_79 (dk_at dksX6_actTurn_7 22 rfl rfl)
theorem dX6_actTurn_189 : decode cX6_actTurn 189 = .ok (.goto 34, 3) := dk_167 0 34 (dk_at dksX6_actTurn_8 0 rfl rfl)
theorem dX6_actTurn_192 : decode cX6_actTurn 192 = .ok (.aload_n 0, 1) := dk_42 (dk_at dksX6_actTurn_8 3 rfl rfl)
theorem dX6_actTurn_193 : decode cX6_actTurn 193 = .ok (.getfield 32, 3) := dk_180 0 32 (dk_at dksX6_actTurn_8 4 rfl rfl)
theorem dX6_actTurn_196 : decode cX6_actTurn 196 = .ok (.iload 4, 2) := dk_21 4 (dk_at dksX6_actTurn_8 7 rfl rfl)
theorem dX6_actTurn_198 : decode cX6_actTurn 198 = .ok (.iaload, 1) := dk_46 (dk_at dksX6_actTurn_8 9 rfl rfl)
theorem dX6_actTurn_199 : decode cX6_actTurn 199 = .ok (.iconst 2, 1) := dk_5 (dk_at dksX6_actTurn_8 10 rfl rfl)
theorem dX6_actTurn_200 : decode cX6_actTurn 200 = .ok (.if_icmp .ne 23, 3) := dk_160 0 23 (dk_at dksX6_actTurn_8 11 rfl rfl)
theorem dX6_actTurn_203 : decode cX6_actTurn 203 = .ok (.aload_n 0, 1) := dk_42 (dk_at dksX6_actTurn_8 14 rfl rfl)
theorem dX6_actTurn_204 : decode cX6_actTurn 204 = .ok (.getfield 135, 3) := dk_180 0 135 (dk_at dksX6_actTurn_8 15 rfl rfl)
theorem dX6_actTurn_207 : decode cX6_actTurn 207 = .ok (.aload_n 0, 1) := dk_42 (dk_at dksX6_actTurn_8 18 rfl rfl)
theorem dX6_actTurn_208 : decode cX6_actTurn 208 = .ok (.getfield 44, 3) := dk_180 0 44 (dk_at dksX6_actTurn_8 19 rfl rfl)
theorem dX6_actTurn_211 : decode cX6_actTurn 211 = .ok (.iload 4, 2) := dk_21 4 (dk_at dksX6_actTurn_8 22 rfl rfl)
theorem dX6_actTurn_213 : decode cX6_actTurn 213 = .ok (.iaload, 1) := dk_46 (dk_at dksX6_actTurn_9 0 rfl rfl)
theorem dX6_actTurn_214 : decode cX6_actTurn 214 = .ok (.if_icmp .le 9, 3) := dk_164 0 9 (dk_at dksX6_actTurn_9 1 rfl rfl)
theorem dX6_actTurn_217 : decode cX6_actTurn 217 = .ok (.aload_n 0, 1) := dk_42 (dk_at dksX6_actTurn_9 4 rfl rfl)
theorem dX6_actTurn_218 : decode cX6_actTurn 218 = .ok (.iload 4, 2) := dk_21 4 (dk_at dksX6_actTurn_9 5 rfl rfl)
theorem dX6_actTurn_220 : decode cX6_actTurn 220 = .ok (.invokevirtual 216, 3) := dk_182 0 216 (dk_at dksX6_actTurn_9 7 rfl rfl)
theorem dX6_actTurn_223 : decode cX6_actTurn 223 = .ok (.iinc 4 1, 3) := dk_132 4 1 (dk_at dksX6_actTurn_9 10 rfl rfl)
theorem dX6_actTurn_226 : decode cX6_actTurn 226 = .ok (.goto (-140), 3) := dk_167 255 116 (dk_at dksX6_actTurn_9 13 rfl rfl)
theorem dX6_actTurn_229 : decode cX6_actTurn 229 = .ok (.goto (-196), 3) := dk_167 255 60 (dk_at dksX6_actTurn_9 16 rfl rfl)
theorem dX6_actTurn_232 : decode cX6_actTurn 232 = .ok (.aload_n 0, 1) := dk_42 (dk_at dksX6_actTurn_9 19 rfl rfl)
theorem dX6_actTurn_233 : decode cX6_actTurn 233 = .ok (.getfield 135, 3) := dk_180 0 135 (dk_at dksX6_actTurn_9 20 rfl rfl)
theorem dX6_actTurn_236 : decode cX6_actTurn 236 = .ok (.ireturn, 1) := dk_172 (dk_at dksX6_actTurn_9 23 rfl rfl)
abbrev cX6_nextAt : ByteArray := prog_21_method_50_code
def yX6_nextAt : MethodName := ⟨RX6, "nextAt", "(I)I"⟩
def dkwX6_nextAt_3 : List UInt8 := [167, 0, 9, 42, 180, 0, 135, 4, 96, 172]
abbrev dktX6_nextAt_3 : List UInt8 := dkwX6_nextAt_3 ++ []
def dkwX6_nextAt_2 : List UInt8 := [4, 96, 28, 162, 0, 12, 42, 180, 0, 44, 27, 46, 4, 96, 61, 28, 42, 180, 0, 135, 164, 0, 7, 28]
abbrev dktX6_nextAt_2 : List UInt8 := dkwX6_nextAt_2 ++ dktX6_nextAt_3
def dkwX6_nextAt_1 : List UInt8 := [180, 0, 38, 27, 46, 4, 96, 61, 42, 180, 0, 32, 27, 46, 5, 160, 0, 24, 42, 180, 0, 44, 27, 46]
abbrev dktX6_nextAt_1 : List UInt8 := dkwX6_nextAt_1 ++ dktX6_nextAt_2
def dkwX6_nextAt_0 : List UInt8 := [42, 180, 0, 32, 27, 46, 4, 159, 0, 16, 42, 180, 0, 32, 27, 46, 5, 159, 0, 6, 18, 197, 172, 42]
abbrev dktX6_nextAt_0 : List UInt8 := dkwX6_nextAt_0 ++ dktX6_nextAt_1
theorem dksX6_nextAt_0 : cX6_nextAt.data.toList.drop 0 = dktX6_nextAt_0 := by decide +kernel
theorem dksX6_nextAt_1 : cX6_nextAt.data.toList.drop 24 = dktX6_nextAt_1 := dk_seg dksX6_nextAt_0 24 rfl rfl
theorem dksX6_nextAt_2 : cX6_nextAt.data.toList.drop 48 = dktX6_nextAt_2 := dk_seg dksX6_nextAt_1 24 rfl rfl
theorem dksX6_nextAt_3 : cX6_nextAt.data.toList.drop 72 = dktX6_nextAt_3 := dk_seg dksX6_nextAt_2 24 rfl rfl
theorem dX6_nextAt_0 : decode cX6_nextAt 0 = .ok (.aload_n 0, 1) := dk_42 (dk_at dksX6_nextAt_0 0 rfl rfl)
theorem dX6_nextAt_1 : decode cX6_nextAt 1 = .ok (.getfield 32, 3) := dk_180 0 32 (dk_at dksX6_nextAt_0 1 rfl rfl)
theorem dX6_nextAt_4 : decode cX6_nextAt 4 = .ok (.iload_n 1, 1) := dk_27 (dk_at dksX6_nextAt_0 4 rfl rfl)
theorem dX6_nextAt_5 : decode cX6_nextAt 5 = .ok (.iaload, 1) := dk_46 (dk_at dksX6_nextAt_0 5 rfl rfl)
theorem dX6_nextAt_6 : decode cX6_nextAt 6 = .ok (.iconst 1, 1) := dk_4 (dk_at dksX6_nextAt_0 6 rfl rfl)
theorem dX6_nextAt_7 : decode cX6_nextAt 7 = .ok (.if_icmp .eq 16, 3) := dk_159 0 16 (dk_at dksX6_nextAt_0 7 rfl rfl)
theorem dX6_nextAt_10 : decode cX6_nextAt 10 = .ok (.aload_n 0, 1) := dk_42 (dk_at dksX6_nextAt_0 10 rfl rfl)
theorem dX6_nextAt_11 : decode cX6_nextAt 11 = .ok (.getfield 32, 3) := dk_180 0 32 (dk_at dksX6_nextAt_0 11 rfl rfl)
theorem dX6_nextAt_14 : decode cX6_nextAt 14 = .ok (.iload_n 1, 1) := dk_27 (dk_at dksX6_nextAt_0 14 rfl rfl)
theorem dX6_nextAt_15 : decode cX6_nextAt 15 = .ok (.iaload, 1) := dk_46 (dk_at dksX6_nextAt_0 15 rfl rfl)
theorem dX6_nextAt_16 : decode cX6_nextAt 16 = .ok (.iconst 2, 1) := dk_5 (dk_at dksX6_nextAt_0 16 rfl rfl)
theorem dX6_nextAt_17 : decode cX6_nextAt 17 = .ok (.if_icmp .eq 6, 3) := dk_159 0 6 (dk_at dksX6_nextAt_0 17 rfl rfl)
theorem dX6_nextAt_20 : decode cX6_nextAt 20 = .ok (.ldc 197, 2) := dk_18 197 (dk_at dksX6_nextAt_0 20 rfl rfl)
theorem dX6_nextAt_22 : decode cX6_nextAt 22 = .ok (.ireturn, 1) := dk_172 (dk_at dksX6_nextAt_0 22 rfl rfl)
theorem dX6_nextAt_23 : decode cX6_nextAt 23 = .ok (.aload_n 0, 1) := dk_42 (dk_at dksX6_nextAt_0 23 rfl rfl)
theorem dX6_nextAt_24 : decode cX6_nextAt 24 = .ok (.getfield 38, 3) := dk_180 0 38 (dk_at dksX6_nextAt_1 0 rfl rfl)
theorem dX6_nextAt_27 : decode cX6_nextAt 27 = .ok (.iload_n 1, 1) := dk_27 (dk_at dksX6_nextAt_1 3 rfl rfl)
theorem dX6_nextAt_28 : decode cX6_nextAt 28 = .ok (.iaload, 1) := dk_46 (dk_at dksX6_nextAt_1 4 rfl rfl)
theorem dX6_nextAt_29 : decode cX6_nextAt 29 = .ok (.iconst 1, 1) := dk_4 (dk_at dksX6_nextAt_1 5 rfl rfl)
theorem dX6_nextAt_30 : decode cX6_nextAt 30 = .ok (.iadd, 1) := dk_96 (dk_at dksX6_nextAt_1 6 rfl rfl)
theorem dX6_nextAt_31 : decode cX6_nextAt 31 = .ok (.istore_n 2, 1) := dk_61 (dk_at dksX6_nextAt_1 7 rfl rfl)
theorem dX6_nextAt_32 : decode cX6_nextAt 32 = .ok (.aload_n 0, 1) := dk_42 (dk_at dksX6_nextAt_1 8 rfl rfl)
theorem dX6_nextAt_33 : decode cX6_nextAt 33 = .ok (.getfield 32, 3) := dk_180 0 32 (dk_at dksX6_nextAt_1 9 rfl rfl)
theorem dX6_nextAt_36 : decode cX6_nextAt 36 = .ok (.iload_n 1, 1) := dk_27 (dk_at dksX6_nextAt_1 12 rfl rfl)
theorem dX6_nextAt_37 : decode cX6_nextAt 37 = .ok (.iaload, 1) := dk_46 (dk_at dksX6_nextAt_1 13 rfl rfl)
theorem dX6_nextAt_38 : decode cX6_nextAt 38 = .ok (.iconst 2, 1) := dk_5 (dk_at dksX6_nextAt_1 14 rfl rfl)
theorem dX6_nextAt_39 : decode cX6_nextAt 39 = .ok (.if_icmp .ne 24, 3) := dk_160 0 24 (dk_at dksX6_nextAt_1 15 rfl rfl)
theorem dX6_nextAt_42 : decode cX6_nextAt 42 = .ok (.aload_n 0, 1) := dk_42 (dk_at dksX6_nextAt_1 18 rfl rfl)
theorem dX6_nextAt_43 : decode cX6_nextAt 43 = .ok (.getfield 44, 3) := dk_180 0 44 (dk_at dksX6_nextAt_1 19 rfl rfl)
theorem dX6_nextAt_46 : decode cX6_nextAt 46 = .ok (.iload_n 1, 1) := dk_27 (dk_at dksX6_nextAt_1 22 rfl rfl)
theorem dX6_nextAt_47 : decode cX6_nextAt 47 = .ok (.iaload, 1) := dk_46 (dk_at dksX6_nextAt_1 23 rfl rfl)
theorem dX6_nextAt_48 : decode cX6_nextAt 48 = .ok (.iconst 1, 1) := dk_4 (dk_at dksX6_nextAt_2 0 rfl rfl)
theorem dX6_nextAt_49 : decode cX6_nextAt 49 = .ok (.iadd, 1) := dk_96 (dk_at dksX6_nextAt_2 1 rfl rfl)
theorem dX6_nextAt_50 : decode cX6_nextAt 50 = .ok (.iload_n 2, 1) := dk_28 (dk_at dksX6_nextAt_2 2 rfl rfl)
theorem dX6_nextAt_51 : decode cX6_nextAt 51 = .ok (.if_icmp .ge 12, 3) := dk_162 0 12 (dk_at dksX6_nextAt_2 3 rfl rfl)
theorem dX6_nextAt_54 : decode cX6_nextAt 54 = .ok (.aload_n 0, 1) := dk_42 (dk_at dksX6_nextAt_2 6 rfl rfl)
theorem dX6_nextAt_55 : decode cX6_nextAt 55 = .ok (.getfield 44, 3) := dk_180 0 44 (dk_at dksX6_nextAt_2 7 rfl rfl)
theorem dX6_nextAt_58 : decode cX6_nextAt 58 = .ok (.iload_n 1, 1) := dk_27 (dk_at dksX6_nextAt_2 10 rfl rfl)
theorem dX6_nextAt_59 : decode cX6_nextAt 59 = .ok (.iaload, 1) := dk_46 (dk_at dksX6_nextAt_2 11 rfl rfl)
theorem dX6_nextAt_60 : decode cX6_nextAt 60 = .ok (.iconst 1, 1) := dk_4 (dk_at dksX6_nextAt_2 12 rfl rfl)
theorem dX6_nextAt_61 : decode cX6_nextAt 61 = .ok (.iadd, 1) := dk_96 (dk_at dksX6_nextAt_2 13 rfl rfl)
theorem dX6_nextAt_62 : decode cX6_nextAt 62 = .ok (.istore_n 2, 1) := dk_61 (dk_at dksX6_nextAt_2 14 rfl rfl)
theorem dX6_nextAt_63 : decode cX6_nextAt 63 = .ok (.iload_n 2, 1) := dk_28 (dk_at dksX6_nextAt_2 15 rfl rfl)
theorem dX6_nextAt_64 : decode cX6_nextAt 64 = .ok (.aload_n 0, 1) := dk_42 (dk_at dksX6_nextAt_2 16 rfl rfl)
theorem dX6_nextAt_65 : decode cX6_nextAt 65 = .ok (.getfield 135, 3) := dk_180 0 135 (dk_at dksX6_nextAt_2 17 rfl rfl)
theorem dX6_nextAt_68 : decode cX6_nextAt 68 = .ok (.if_icmp .le 7, 3) := dk_164 0 7 (dk_at dksX6_nextAt_2 20 rfl rfl)
theorem dX6_nextAt_71 : decode cX6_nextAt 71 = .ok (.iload_n 2, 1) := dk_28 (dk_at dksX6_nextAt_2 23 rfl rfl)
theorem dX6_nextAt_72 : decode cX6_nextAt 72 = .ok (.goto 9, 3) := dk_167 0 9 (dk_at dksX6_nextAt_3 0 rfl rfl)
theorem dX6_nextAt_75 : decode cX6_nextAt 75 = .ok (.aload_n 0, 1) := dk_42 (dk_at dksX6_nextAt_3 3 rfl rfl)
theorem dX6_nextAt_76 : decode cX6_nextAt 76 = .ok (.getfield 135, 3) := dk_180 0 135 (dk_at dksX6_nextAt_3 4 rfl rfl)
theorem dX6_nextAt_79 : decode cX6_nextAt 79 = .ok (.iconst 1, 1) := dk_4 (dk_at dksX6_nextAt_3 7 rfl rfl)
theorem dX6_nextAt_80 : decode cX6_nextAt 80 = .ok (.iadd, 1) := dk_96 (dk_at dksX6_nextAt_3 8 rfl rfl)
theorem dX6_nextAt_81 : decode cX6_nextAt 81 = .ok (.ireturn, 1) := dk_172 (dk_at dksX6_nextAt_3 9 rfl rfl)
abbrev cX6_row : ByteArray := prog_21_method_58_code
def yX6_row : MethodName := ⟨RX6, "row", "(III)I"⟩
def dkwX6_row_0 : List UInt8 := [42, 5, 27, 28, 29, 3, 3, 182, 1, 74, 172]
abbrev dktX6_row_0 : List UInt8 := dkwX6_row_0 ++ []
theorem dksX6_row_0 : cX6_row.data.toList.drop 0 = dktX6_row_0 := by decide +kernel
theorem dX6_row_0 : decode cX6_row 0 = .ok (.aload_n 0, 1) := dk_42 (dk_at dksX6_row_0 0 rfl rfl)
theorem dX6_row_1 : decode cX6_row 1 = .ok (.iconst 2, 1) := dk_5 (dk_at dksX6_row_0 1 rfl rfl)
theorem dX6_row_2 : decode cX6_row 2 = .ok (.iload_n 1, 1) := dk_27 (dk_at dksX6_row_0 2 rfl rfl)
theorem dX6_row_3 : decode cX6_row 3 = .ok (.iload_n 2, 1) := dk_28 (dk_at dksX6_row_0 3 rfl rfl)
theorem dX6_row_4 : decode cX6_row 4 = .ok (.iload_n 3, 1) := dk_29 (dk_at dksX6_row_0 4 rfl rfl)
theorem dX6_row_5 : decode cX6_row 5 = .ok (.iconst 0, 1) := dk_3 (dk_at dksX6_row_0 5 rfl rfl)
theorem dX6_row_6 : decode cX6_row 6 = .ok (.iconst 0, 1) := dk_3 (dk_at dksX6_row_0 6 rfl rfl)
theorem dX6_row_7 : decode cX6_row 7 = .ok (.invokevirtual 330, 3) := dk_182 1 74 (dk_at dksX6_row_0 7 rfl rfl)
theorem dX6_row_10 : decode cX6_row 10 = .ok (.ireturn, 1) := dk_172 (dk_at dksX6_row_0 10 rfl rfl)
abbrev cX6_tear : ByteArray := prog_21_method_59_code
def yX6_tear : MethodName := ⟨RX6, "tear", "(II)I"⟩
def dkwX6_tear_0 : List UInt8 := [42, 6, 27, 28, 3, 3, 3, 182, 1, 74, 172]
abbrev dktX6_tear_0 : List UInt8 := dkwX6_tear_0 ++ []
theorem dksX6_tear_0 : cX6_tear.data.toList.drop 0 = dktX6_tear_0 := by decide +kernel
theorem dX6_tear_0 : decode cX6_tear 0 = .ok (.aload_n 0, 1) := dk_42 (dk_at dksX6_tear_0 0 rfl rfl)
theorem dX6_tear_1 : decode cX6_tear 1 = .ok (.iconst 3, 1) := dk_6 (dk_at dksX6_tear_0 1 rfl rfl)
theorem dX6_tear_2 : decode cX6_tear 2 = .ok (.iload_n 1, 1) := dk_27 (dk_at dksX6_tear_0 2 rfl rfl)
theorem dX6_tear_3 : decode cX6_tear 3 = .ok (.iload_n 2, 1) := dk_28 (dk_at dksX6_tear_0 3 rfl rfl)
theorem dX6_tear_4 : decode cX6_tear 4 = .ok (.iconst 0, 1) := dk_3 (dk_at dksX6_tear_0 4 rfl rfl)
theorem dX6_tear_5 : decode cX6_tear 5 = .ok (.iconst 0, 1) := dk_3 (dk_at dksX6_tear_0 5 rfl rfl)
theorem dX6_tear_6 : decode cX6_tear 6 = .ok (.iconst 0, 1) := dk_3 (dk_at dksX6_tear_0 6 rfl rfl)
theorem dX6_tear_7 : decode cX6_tear 7 = .ok (.invokevirtual 330, 3) := dk_182 1 74 (dk_at dksX6_tear_0 7 rfl rfl)
theorem dX6_tear_10 : decode cX6_tear 10 = .ok (.ireturn, 1) := dk_172 (dk_at dksX6_tear_0 10 rfl rfl)
abbrev cX6_place : ByteArray := prog_21_method_60_code
def yX6_place : MethodName := ⟨RX6, "place", "(IIII)I"⟩
def dkwX6_place_0 : List UInt8 := [42, 7, 27, 28, 29, 21, 4, 3, 182, 1, 74, 172]
abbrev dktX6_place_0 : List UInt8 := dkwX6_place_0 ++ []
theorem dksX6_place_0 : cX6_place.data.toList.drop 0 = dktX6_place_0 := by decide +kernel
theorem dX6_place_0 : decode cX6_place 0 = .ok (.aload_n 0, 1) := dk_42 (dk_at dksX6_place_0 0 rfl rfl)
theorem dX6_place_1 : decode cX6_place 1 = .ok (.iconst 4, 1) := dk_7 (dk_at dksX6_place_0 1 rfl rfl)
theorem dX6_place_2 : decode cX6_place 2 = .ok (.iload_n 1, 1) := dk_27 (dk_at dksX6_place_0 2 rfl rfl)
theorem dX6_place_3 : decode cX6_place 3 = .ok (.iload_n 2, 1) := dk_28 (dk_at dksX6_place_0 3 rfl rfl)
theorem dX6_place_4 : decode cX6_place 4 = .ok (.iload_n 3, 1) := dk_29 (dk_at dksX6_place_0 4 rfl rfl)
theorem dX6_place_5 : decode cX6_place 5 = .ok (.iload 4, 2) := dk_21 4 (dk_at dksX6_place_0 5 rfl rfl)
theorem dX6_place_7 : decode cX6_place 7 = .ok (.iconst 0, 1) := dk_3 (dk_at dksX6_place_0 7 rfl rfl)
theorem dX6_place_8 : decode cX6_place 8 = .ok (.invokevirtual 330, 3) := dk_182 1 74 (dk_at dksX6_place_0 8 rfl rfl)
theorem dX6_place_11 : decode cX6_place 11 = .ok (.ireturn, 1) := dk_172 (dk_at dksX6_place_0 11 rfl rfl)
abbrev cX6_grave : ByteArray := prog_21_method_61_code
def yX6_grave : MethodName := ⟨RX6, "grave", "(IIIII)I"⟩
def dkwX6_grave_0 : List UInt8 := [42, 8, 27, 28, 29, 21, 4, 21, 5, 182, 1, 74, 172]
abbrev dktX6_grave_0 : List UInt8 := dkwX6_grave_0 ++ []
theorem dksX6_grave_0 : cX6_grave.data.toList.drop 0 = dktX6_grave_0 := by decide +kernel
theorem dX6_grave_0 : decode cX6_grave 0 = .ok (.aload_n 0, 1) := dk_42 (dk_at dksX6_grave_0 0 rfl rfl)
theorem dX6_grave_1 : decode cX6_grave 1 = .ok (.iconst 5, 1) := dk_8 (dk_at dksX6_grave_0 1 rfl rfl)
theorem dX6_grave_2 : decode cX6_grave 2 = .ok (.iload_n 1, 1) := dk_27 (dk_at dksX6_grave_0 2 rfl rfl)
theorem dX6_grave_3 : decode cX6_grave 3 = .ok (.iload_n 2, 1) := dk_28 (dk_at dksX6_grave_0 3 rfl rfl)
theorem dX6_grave_4 : decode cX6_grave 4 = .ok (.iload_n 3, 1) := dk_29 (dk_at dksX6_grave_0 4 rfl rfl)
theorem dX6_grave_5 : decode cX6_grave 5 = .ok (.iload 4, 2) := dk_21 4 (dk_at dksX6_grave_0 5 rfl rfl)
theorem dX6_grave_7 : decode cX6_grave 7 = .ok (.iload 5, 2) := dk_21 5 (dk_at dksX6_grave_0 7 rfl rfl)
theorem dX6_grave_9 : decode cX6_grave 9 = .ok (.invokevirtual 330, 3) := dk_182 1 74 (dk_at dksX6_grave_0 9 rfl rfl)
theorem dX6_grave_12 : decode cX6_grave 12 = .ok (.ireturn, 1) := dk_172 (dk_at dksX6_grave_0 12 rfl rfl)
abbrev cX6_person : ByteArray := prog_21_method_62_code
def yX6_person : MethodName := ⟨RX6, "person", "(I)I"⟩
def dkwX6_person_0 : List UInt8 := [42, 16, 6, 27, 3, 3, 3, 3, 182, 1, 74, 172]
abbrev dktX6_person_0 : List UInt8 := dkwX6_person_0 ++ []
theorem dksX6_person_0 : cX6_person.data.toList.drop 0 = dktX6_person_0 := by decide +kernel
theorem dX6_person_0 : decode cX6_person 0 = .ok (.aload_n 0, 1) := dk_42 (dk_at dksX6_person_0 0 rfl rfl)
theorem dX6_person_1 : decode cX6_person 1 = .ok (.bipush 6, 2) := dk_16 6 (dk_at dksX6_person_0 1 rfl rfl)
theorem dX6_person_3 : decode cX6_person 3 = .ok (.iload_n 1, 1) := dk_27 (dk_at dksX6_person_0 3 rfl rfl)
theorem dX6_person_4 : decode cX6_person 4 = .ok (.iconst 0, 1) := dk_3 (dk_at dksX6_person_0 4 rfl rfl)
theorem dX6_person_5 : decode cX6_person 5 = .ok (.iconst 0, 1) := dk_3 (dk_at dksX6_person_0 5 rfl rfl)
theorem dX6_person_6 : decode cX6_person 6 = .ok (.iconst 0, 1) := dk_3 (dk_at dksX6_person_0 6 rfl rfl)
theorem dX6_person_7 : decode cX6_person 7 = .ok (.iconst 0, 1) := dk_3 (dk_at dksX6_person_0 7 rfl rfl)
theorem dX6_person_8 : decode cX6_person 8 = .ok (.invokevirtual 330, 3) := dk_182 1 74 (dk_at dksX6_person_0 8 rfl rfl)
theorem dX6_person_11 : decode cX6_person 11 = .ok (.ireturn, 1) := dk_172 (dk_at dksX6_person_0 11 rfl rfl)
abbrev cX6_kin : ByteArray := prog_21_method_63_code
def yX6_kin : MethodName := ⟨RX6, "kin", "(III)I"⟩
def dkwX6_kin_0 : List UInt8 := [42, 16, 7, 27, 28, 29, 3, 3, 182, 1, 74, 172]
abbrev dktX6_kin_0 : List UInt8 := dkwX6_kin_0 ++ []
theorem dksX6_kin_0 : cX6_kin.data.toList.drop 0 = dktX6_kin_0 := by decide +kernel
theorem dX6_kin_0 : decode cX6_kin 0 = .ok (.aload_n 0, 1) := dk_42 (dk_at dksX6_kin_0 0 rfl rfl)
theorem dX6_kin_1 : decode cX6_kin 1 = .ok (.bipush 7, 2) := dk_16 7 (dk_at dksX6_kin_0 1 rfl rfl)
theorem dX6_kin_3 : decode cX6_kin 3 = .ok (.iload_n 1, 1) := dk_27 (dk_at dksX6_kin_0 3 rfl rfl)
theorem dX6_kin_4 : decode cX6_kin 4 = .ok (.iload_n 2, 1) := dk_28 (dk_at dksX6_kin_0 4 rfl rfl)
theorem dX6_kin_5 : decode cX6_kin 5 = .ok (.iload_n 3, 1) := dk_29 (dk_at dksX6_kin_0 5 rfl rfl)
theorem dX6_kin_6 : decode cX6_kin 6 = .ok (.iconst 0, 1) := dk_3 (dk_at dksX6_kin_0 6 rfl rfl)
theorem dX6_kin_7 : decode cX6_kin 7 = .ok (.iconst 0, 1) := dk_3 (dk_at dksX6_kin_0 7 rfl rfl)
theorem dX6_kin_8 : decode cX6_kin 8 = .ok (.invokevirtual 330, 3) := dk_182 1 74 (dk_at dksX6_kin_0 8 rfl rfl)
theorem dX6_kin_11 : decode cX6_kin 11 = .ok (.ireturn, 1) := dk_172 (dk_at dksX6_kin_0 11 rfl rfl)
abbrev cX6_paper : ByteArray := prog_21_method_64_code
def yX6_paper : MethodName := ⟨RX6, "paper", "(II)I"⟩
def dkwX6_paper_0 : List UInt8 := [42, 16, 8, 27, 28, 3, 3, 3, 182, 1, 74, 172]
abbrev dktX6_paper_0 : List UInt8 := dkwX6_paper_0 ++ []
theorem dksX6_paper_0 : cX6_paper.data.toList.drop 0 = dktX6_paper_0 := by decide +kernel
theorem dX6_paper_0 : decode cX6_paper 0 = .ok (.aload_n 0, 1) := dk_42 (dk_at dksX6_paper_0 0 rfl rfl)
theorem dX6_paper_1 : decode cX6_paper 1 = .ok (.bipush 8, 2) := dk_16 8 (dk_at dksX6_paper_0 1 rfl rfl)
theorem dX6_paper_3 : decode cX6_paper 3 = .ok (.iload_n 1, 1) := dk_27 (dk_at dksX6_paper_0 3 rfl rfl)
theorem dX6_paper_4 : decode cX6_paper 4 = .ok (.iload_n 2, 1) := dk_28 (dk_at dksX6_paper_0 4 rfl rfl)
theorem dX6_paper_5 : decode cX6_paper 5 = .ok (.iconst 0, 1) := dk_3 (dk_at dksX6_paper_0 5 rfl rfl)
theorem dX6_paper_6 : decode cX6_paper 6 = .ok (.iconst 0, 1) := dk_3 (dk_at dksX6_paper_0 6 rfl rfl)
theorem dX6_paper_7 : decode cX6_paper 7 = .ok (.iconst 0, 1) := dk_3 (dk_at dksX6_paper_0 7 rfl rfl)
theorem dX6_paper_8 : decode cX6_paper 8 = .ok (.invokevirtual 330, 3) := dk_182 1 74 (dk_at dksX6_paper_0 8 rfl rfl)
theorem dX6_paper_11 : decode cX6_paper 11 = .ok (.ireturn, 1) := dk_172 (dk_at dksX6_paper_0 11 rfl rfl)
abbrev cX6_right : ByteArray := prog_21_method_65_code
def yX6_right : MethodName := ⟨RX6, "right", "(III)I"⟩
def dkwX6_right_0 : List UInt8 := [42, 16, 9, 27, 28, 29, 3, 3, 182, 1, 74, 172]
abbrev dktX6_right_0 : List UInt8 := dkwX6_right_0 ++ []
theorem dksX6_right_0 : cX6_right.data.toList.drop 0 = dktX6_right_0 := by decide +kernel
theorem dX6_right_0 : decode cX6_right 0 = .ok (.aload_n 0, 1) := dk_42 (dk_at dksX6_right_0 0 rfl rfl)
theorem dX6_right_1 : decode cX6_right 1 = .ok (.bipush 9, 2) := dk_16 9 (dk_at dksX6_right_0 1 rfl rfl)
theorem dX6_right_3 : decode cX6_right 3 = .ok (.iload_n 1, 1) := dk_27 (dk_at dksX6_right_0 3 rfl rfl)
theorem dX6_right_4 : decode cX6_right 4 = .ok (.iload_n 2, 1) := dk_28 (dk_at dksX6_right_0 4 rfl rfl)
theorem dX6_right_5 : decode cX6_right 5 = .ok (.iload_n 3, 1) := dk_29 (dk_at dksX6_right_0 5 rfl rfl)
theorem dX6_right_6 : decode cX6_right 6 = .ok (.iconst 0, 1) := dk_3 (dk_at dksX6_right_0 6 rfl rfl)
theorem dX6_right_7 : decode cX6_right 7 = .ok (.iconst 0, 1) := dk_3 (dk_at dksX6_right_0 7 rfl rfl)
theorem dX6_right_8 : decode cX6_right 8 = .ok (.invokevirtual 330, 3) := dk_182 1 74 (dk_at dksX6_right_0 8 rfl rfl)
theorem dX6_right_11 : decode cX6_right 11 = .ok (.ireturn, 1) := dk_172 (dk_at dksX6_right_0 11 rfl rfl)
abbrev cX6_longer : ByteArray := prog_21_method_66_code
def yX6_longer : MethodName := ⟨RX6, "longer", "(II)I"⟩
def dkwX6_longer_0 : List UInt8 := [42, 16, 10, 27, 28, 3, 3, 3, 182, 1, 74, 172]
abbrev dktX6_longer_0 : List UInt8 := dkwX6_longer_0 ++ []
theorem dksX6_longer_0 : cX6_longer.data.toList.drop 0 = dktX6_longer_0 := by decide +kernel
theorem dX6_longer_0 : decode cX6_longer 0 = .ok (.aload_n 0, 1) := dk_42 (dk_at dksX6_longer_0 0 rfl rfl)
theorem dX6_longer_1 : decode cX6_longer 1 = .ok (.bipush 10, 2) := dk_16 10 (dk_at dksX6_longer_0 1 rfl rfl)
theorem dX6_longer_3 : decode cX6_longer 3 = .ok (.iload_n 1, 1) := dk_27 (dk_at dksX6_longer_0 3 rfl rfl)
theorem dX6_longer_4 : decode cX6_longer 4 = .ok (.iload_n 2, 1) := dk_28 (dk_at dksX6_longer_0 4 rfl rfl)
theorem dX6_longer_5 : decode cX6_longer 5 = .ok (.iconst 0, 1) := dk_3 (dk_at dksX6_longer_0 5 rfl rfl)
theorem dX6_longer_6 : decode cX6_longer 6 = .ok (.iconst 0, 1) := dk_3 (dk_at dksX6_longer_0 6 rfl rfl)
theorem dX6_longer_7 : decode cX6_longer 7 = .ok (.iconst 0, 1) := dk_3 (dk_at dksX6_longer_0 7 rfl rfl)
theorem dX6_longer_8 : decode cX6_longer 8 = .ok (.invokevirtual 330, 3) := dk_182 1 74 (dk_at dksX6_longer_0 8 rfl rfl)
theorem dX6_longer_11 : decode cX6_longer 11 = .ok (.ireturn, 1) := dk_172 (dk_at dksX6_longer_0 11 rfl rfl)
abbrev cX6_agree : ByteArray := prog_21_method_67_code
def yX6_agree : MethodName := ⟨RX6, "agree", "(III)I"⟩
def dkwX6_agree_0 : List UInt8 := [42, 16, 11, 27, 28, 29, 3, 3, 182, 1, 74, 172]
abbrev dktX6_agree_0 : List UInt8 := dkwX6_agree_0 ++ []
theorem dksX6_agree_0 : cX6_agree.data.toList.drop 0 = dktX6_agree_0 := by decide +kernel
theorem dX6_agree_0 : decode cX6_agree 0 = .ok (.aload_n 0, 1) := dk_42 (dk_at dksX6_agree_0 0 rfl rfl)
theorem dX6_agree_1 : decode cX6_agree 1 = .ok (.bipush 11, 2) := dk_16 11 (dk_at dksX6_agree_0 1 rfl rfl)
theorem dX6_agree_3 : decode cX6_agree 3 = .ok (.iload_n 1, 1) := dk_27 (dk_at dksX6_agree_0 3 rfl rfl)
theorem dX6_agree_4 : decode cX6_agree 4 = .ok (.iload_n 2, 1) := dk_28 (dk_at dksX6_agree_0 4 rfl rfl)
theorem dX6_agree_5 : decode cX6_agree 5 = .ok (.iload_n 3, 1) := dk_29 (dk_at dksX6_agree_0 5 rfl rfl)
theorem dX6_agree_6 : decode cX6_agree 6 = .ok (.iconst 0, 1) := dk_3 (dk_at dksX6_agree_0 6 rfl rfl)
theorem dX6_agree_7 : decode cX6_agree 7 = .ok (.iconst 0, 1) := dk_3 (dk_at dksX6_agree_0 7 rfl rfl)
theorem dX6_agree_8 : decode cX6_agree 8 = .ok (.invokevirtual 330, 3) := dk_182 1 74 (dk_at dksX6_agree_0 8 rfl rfl)
theorem dX6_agree_11 : decode cX6_agree 11 = .ok (.ireturn, 1) := dk_172 (dk_at dksX6_agree_0 11 rfl rfl)
abbrev cX6_dies : ByteArray := prog_21_method_68_code
def yX6_dies : MethodName := ⟨RX6, "dies", "(I)I"⟩
def dkwX6_dies_0 : List UInt8 := [42, 16, 12, 27, 3, 3, 3, 3, 182, 1, 74, 172]
abbrev dktX6_dies_0 : List UInt8 := dkwX6_dies_0 ++ []
theorem dksX6_dies_0 : cX6_dies.data.toList.drop 0 = dktX6_dies_0 := by decide +kernel
theorem dX6_dies_0 : decode cX6_dies 0 = .ok (.aload_n 0, 1) := dk_42 (dk_at dksX6_dies_0 0 rfl rfl)
theorem dX6_dies_1 : decode cX6_dies 1 = .ok (.bipush 12, 2) := dk_16 12 (dk_at dksX6_dies_0 1 rfl rfl)
theorem dX6_dies_3 : decode cX6_dies 3 = .ok (.iload_n 1, 1) := dk_27 (dk_at dksX6_dies_0 3 rfl rfl)
theorem dX6_dies_4 : decode cX6_dies 4 = .ok (.iconst 0, 1) := dk_3 (dk_at dksX6_dies_0 4 rfl rfl)
theorem dX6_dies_5 : decode cX6_dies 5 = .ok (.iconst 0, 1) := dk_3 (dk_at dksX6_dies_0 5 rfl rfl)
theorem dX6_dies_6 : decode cX6_dies 6 = .ok (.iconst 0, 1) := dk_3 (dk_at dksX6_dies_0 6 rfl rfl)
theorem dX6_dies_7 : decode cX6_dies 7 = .ok (.iconst 0, 1) := dk_3 (dk_at dksX6_dies_0 7 rfl rfl)
theorem dX6_dies_8 : decode cX6_dies 8 = .ok (.invokevirtual 330, 3) := dk_182 1 74 (dk_at dksX6_dies_0 8 rfl rfl)
theorem dX6_dies_11 : decode cX6_dies 11 = .ok (.ireturn, 1) := dk_172 (dk_at dksX6_dies_0 11 rfl rfl)
abbrev cX6_takes : ByteArray := prog_21_method_69_code
def yX6_takes : MethodName := ⟨RX6, "takes", "(I)I"⟩
def dkwX6_takes_0 : List UInt8 := [42, 16, 13, 27, 3, 3, 3, 3, 182, 1, 74, 172]
abbrev dktX6_takes_0 : List UInt8 := dkwX6_takes_0 ++ []
theorem dksX6_takes_0 : cX6_takes.data.toList.drop 0 = dktX6_takes_0 := by decide +kernel
theorem dX6_takes_0 : decode cX6_takes 0 = .ok (.aload_n 0, 1) := dk_42 (dk_at dksX6_takes_0 0 rfl rfl)
theorem dX6_takes_1 : decode cX6_takes 1 = .ok (.bipush 13, 2) := dk_16 13 (dk_at dksX6_takes_0 1 rfl rfl)
theorem dX6_takes_3 : decode cX6_takes 3 = .ok (.iload_n 1, 1) := dk_27 (dk_at dksX6_takes_0 3 rfl rfl)
theorem dX6_takes_4 : decode cX6_takes 4 = .ok (.iconst 0, 1) := dk_3 (dk_at dksX6_takes_0 4 rfl rfl)
theorem dX6_takes_5 : decode cX6_takes 5 = .ok (.iconst 0, 1) := dk_3 (dk_at dksX6_takes_0 5 rfl rfl)
theorem dX6_takes_6 : decode cX6_takes 6 = .ok (.iconst 0, 1) := dk_3 (dk_at dksX6_takes_0 6 rfl rfl)
theorem dX6_takes_7 : decode cX6_takes 7 = .ok (.iconst 0, 1) := dk_3 (dk_at dksX6_takes_0 7 rfl rfl)
theorem dX6_takes_8 : decode cX6_takes 8 = .ok (.invokevirtual 330, 3) := dk_182 1 74 (dk_at dksX6_takes_0 8 rfl rfl)
theorem dX6_takes_11 : decode cX6_takes 11 = .ok (.ireturn, 1) := dk_172 (dk_at dksX6_takes_0 11 rfl rfl)
abbrev cX6_refuses : ByteArray := prog_21_method_70_code
def yX6_refuses : MethodName := ⟨RX6, "refuses", "(I)I"⟩
def dkwX6_refuses_0 : List UInt8 := [42, 16, 14, 27, 3, 3, 3, 3, 182, 1, 74, 172]
abbrev dktX6_refuses_0 : List UInt8 := dkwX6_refuses_0 ++ []
theorem dksX6_refuses_0 : cX6_refuses.data.toList.drop 0 = dktX6_refuses_0 := by decide +kernel
theorem dX6_refuses_0 : decode cX6_refuses 0 = .ok (.aload_n 0, 1) := dk_42 (dk_at dksX6_refuses_0 0 rfl rfl)
theorem dX6_refuses_1 : decode cX6_refuses 1 = .ok (.bipush 14, 2) := dk_16 14 (dk_at dksX6_refuses_0 1 rfl rfl)
theorem dX6_refuses_3 : decode cX6_refuses 3 = .ok (.iload_n 1, 1) := dk_27 (dk_at dksX6_refuses_0 3 rfl rfl)
theorem dX6_refuses_4 : decode cX6_refuses 4 = .ok (.iconst 0, 1) := dk_3 (dk_at dksX6_refuses_0 4 rfl rfl)
theorem dX6_refuses_5 : decode cX6_refuses 5 = .ok (.iconst 0, 1) := dk_3 (dk_at dksX6_refuses_0 5 rfl rfl)
theorem dX6_refuses_6 : decode cX6_refuses 6 = .ok (.iconst 0, 1) := dk_3 (dk_at dksX6_refuses_0 6 rfl rfl)
theorem dX6_refuses_7 : decode cX6_refuses 7 = .ok (.iconst 0, 1) := dk_3 (dk_at dksX6_refuses_0 7 rfl rfl)
theorem dX6_refuses_8 : decode cX6_refuses 8 = .ok (.invokevirtual 330, 3) := dk_182 1 74 (dk_at dksX6_refuses_0 8 rfl rfl)
theorem dX6_refuses_11 : decode cX6_refuses 11 = .ok (.ireturn, 1) := dk_172 (dk_at dksX6_refuses_0 11 rfl rfl)
abbrev cX6_bury : ByteArray := prog_21_method_71_code
def yX6_bury : MethodName := ⟨RX6, "bury", "(IIII)I"⟩
def dkwX6_bury_0 : List UInt8 := [42, 16, 15, 27, 28, 29, 21, 4, 3, 182, 1, 74, 172]
abbrev dktX6_bury_0 : List UInt8 := dkwX6_bury_0 ++ []
theorem dksX6_bury_0 : cX6_bury.data.toList.drop 0 = dktX6_bury_0 := by decide +kernel
theorem dX6_bury_0 : decode cX6_bury 0 = .ok (.aload_n 0, 1) := dk_42 (dk_at dksX6_bury_0 0 rfl rfl)
theorem dX6_bury_1 : decode cX6_bury 1 = .ok (.bipush 15, 2) := dk_16 15 (dk_at dksX6_bury_0 1 rfl rfl)
theorem dX6_bury_3 : decode cX6_bury 3 = .ok (.iload_n 1, 1) := dk_27 (dk_at dksX6_bury_0 3 rfl rfl)
theorem dX6_bury_4 : decode cX6_bury 4 = .ok (.iload_n 2, 1) := dk_28 (dk_at dksX6_bury_0 4 rfl rfl)
theorem dX6_bury_5 : decode cX6_bury 5 = .ok (.iload_n 3, 1) := dk_29 (dk_at dksX6_bury_0 5 rfl rfl)
theorem dX6_bury_6 : decode cX6_bury 6 = .ok (.iload 4, 2) := dk_21 4 (dk_at dksX6_bury_0 6 rfl rfl)
theorem dX6_bury_8 : decode cX6_bury 8 = .ok (.iconst 0, 1) := dk_3 (dk_at dksX6_bury_0 8 rfl rfl)
theorem dX6_bury_9 : decode cX6_bury 9 = .ok (.invokevirtual 330, 3) := dk_182 1 74 (dk_at dksX6_bury_0 9 rfl rfl)
theorem dX6_bury_12 : decode cX6_bury 12 = .ok (.ireturn, 1) := dk_172 (dk_at dksX6_bury_0 12 rfl rfl)
abbrev cX6_move : ByteArray := prog_21_method_72_code
def yX6_move : MethodName := ⟨RX6, "move", "(IIII)I"⟩
def dkwX6_move_0 : List UInt8 := [42, 16, 16, 27, 28, 29, 21, 4, 3, 182, 1, 74, 172]
abbrev dktX6_move_0 : List UInt8 := dkwX6_move_0 ++ []
theorem dksX6_move_0 : cX6_move.data.toList.drop 0 = dktX6_move_0 := by decide +kernel
theorem dX6_move_0 : decode cX6_move 0 = .ok (.aload_n 0, 1) := dk_42 (dk_at dksX6_move_0 0 rfl rfl)
theorem dX6_move_1 : decode cX6_move 1 = .ok (.bipush 16, 2) := dk_16 16 (dk_at dksX6_move_0 1 rfl rfl)
theorem dX6_move_3 : decode cX6_move 3 = .ok (.iload_n 1, 1) := dk_27 (dk_at dksX6_move_0 3 rfl rfl)
theorem dX6_move_4 : decode cX6_move 4 = .ok (.iload_n 2, 1) := dk_28 (dk_at dksX6_move_0 4 rfl rfl)
theorem dX6_move_5 : decode cX6_move 5 = .ok (.iload_n 3, 1) := dk_29 (dk_at dksX6_move_0 5 rfl rfl)
theorem dX6_move_6 : decode cX6_move 6 = .ok (.iload 4, 2) := dk_21 4 (dk_at dksX6_move_0 6 rfl rfl)
theorem dX6_move_8 : decode cX6_move 8 = .ok (.iconst 0, 1) := dk_3 (dk_at dksX6_move_0 8 rfl rfl)
theorem dX6_move_9 : decode cX6_move 9 = .ok (.invokevirtual 330, 3) := dk_182 1 74 (dk_at dksX6_move_0 9 rfl rfl)
theorem dX6_move_12 : decode cX6_move 12 = .ok (.ireturn, 1) := dk_172 (dk_at dksX6_move_0 12 rfl rfl)
abbrev cX6_clear : ByteArray := prog_21_method_73_code
def yX6_clear : MethodName := ⟨RX6, "clear", "(I)I"⟩
def dkwX6_clear_0 : List UInt8 := [42, 16, 17, 27, 3, 3, 3, 3, 182, 1, 74, 172]
abbrev dktX6_clear_0 : List UInt8 := dkwX6_clear_0 ++ []
theorem dksX6_clear_0 : cX6_clear.data.toList.drop 0 = dktX6_clear_0 := by decide +kernel
theorem dX6_clear_0 : decode cX6_clear 0 = .ok (.aload_n 0, 1) := dk_42 (dk_at dksX6_clear_0 0 rfl rfl)
theorem dX6_clear_1 : decode cX6_clear 1 = .ok (.bipush 17, 2) := dk_16 17 (dk_at dksX6_clear_0 1 rfl rfl)
theorem dX6_clear_3 : decode cX6_clear 3 = .ok (.iload_n 1, 1) := dk_27 (dk_at dksX6_clear_0 3 rfl rfl)
theorem dX6_clear_4 : decode cX6_clear 4 = .ok (.iconst 0, 1) := dk_3 (dk_at dksX6_clear_0 4 rfl rfl)
theorem dX6_clear_5 : decode cX6_clear 5 = .ok (.iconst 0, 1) := dk_3 (dk_at dksX6_clear_0 5 rfl rfl)
theorem dX6_clear_6 : decode cX6_clear 6 = .ok (.iconst 0, 1) := dk_3 (dk_at dksX6_clear_0 6 rfl rfl)
theorem dX6_clear_7 : decode cX6_clear 7 = .ok (.iconst 0, 1) := dk_3 (dk_at dksX6_clear_0 7 rfl rfl)
theorem dX6_clear_8 : decode cX6_clear 8 = .ok (.invokevirtual 330, 3) := dk_182 1 74 (dk_at dksX6_clear_0 8 rfl rfl)
theorem dX6_clear_11 : decode cX6_clear 11 = .ok (.ireturn, 1) := dk_172 (dk_at dksX6_clear_0 11 rfl rfl)
abbrev cX6_turn : ByteArray := prog_21_method_74_code
def yX6_turn : MethodName := ⟨RX6, "turn", "(I)I"⟩
def dkwX6_turn_0 : List UInt8 := [42, 16, 18, 27, 3, 3, 3, 3, 182, 1, 74, 172]
abbrev dktX6_turn_0 : List UInt8 := dkwX6_turn_0 ++ []
theorem dksX6_turn_0 : cX6_turn.data.toList.drop 0 = dktX6_turn_0 := by decide +kernel
theorem dX6_turn_0 : decode cX6_turn 0 = .ok (.aload_n 0, 1) := dk_42 (dk_at dksX6_turn_0 0 rfl rfl)
theorem dX6_turn_1 : decode cX6_turn 1 = .ok (.bipush 18, 2) := dk_16 18 (dk_at dksX6_turn_0 1 rfl rfl)
theorem dX6_turn_3 : decode cX6_turn 3 = .ok (.iload_n 1, 1) := dk_27 (dk_at dksX6_turn_0 3 rfl rfl)
theorem dX6_turn_4 : decode cX6_turn 4 = .ok (.iconst 0, 1) := dk_3 (dk_at dksX6_turn_0 4 rfl rfl)
theorem dX6_turn_5 : decode cX6_turn 5 = .ok (.iconst 0, 1) := dk_3 (dk_at dksX6_turn_0 5 rfl rfl)
theorem dX6_turn_6 : decode cX6_turn 6 = .ok (.iconst 0, 1) := dk_3 (dk_at dksX6_turn_0 6 rfl rfl)
theorem dX6_turn_7 : decode cX6_turn 7 = .ok (.iconst 0, 1) := dk_3 (dk_at dksX6_turn_0 7 rfl rfl)
theorem dX6_turn_8 : decode cX6_turn 8 = .ok (.invokevirtual 330, 3) := dk_182 1 74 (dk_at dksX6_turn_0 8 rfl rfl)
theorem dX6_turn_11 : decode cX6_turn 11 = .ok (.ireturn, 1) := dk_172 (dk_at dksX6_turn_0 11 rfl rfl)
abbrev cX6_why : ByteArray := prog_21_method_75_code
def yX6_why : MethodName := ⟨RX6, "why", "(IIII)I"⟩
def dkwX6_why_0 : List UInt8 := [42, 3, 181, 0, 131, 42, 27, 28, 29, 21, 4, 3, 3, 182, 0, 243, 172]
abbrev dktX6_why_0 : List UInt8 := dkwX6_why_0 ++ []
theorem dksX6_why_0 : cX6_why.data.toList.drop 0 = dktX6_why_0 := by decide +kernel
theorem dX6_why_0 : decode cX6_why 0 = .ok (.aload_n 0, 1) := dk_42 (dk_at dksX6_why_0 0 rfl rfl)
theorem dX6_why_1 : decode cX6_why 1 = .ok (.iconst 0, 1) := dk_3 (dk_at dksX6_why_0 1 rfl rfl)
theorem dX6_why_2 : decode cX6_why 2 = .ok (.putfield 131, 3) := dk_181 0 131 (dk_at dksX6_why_0 2 rfl rfl)
theorem dX6_why_5 : decode cX6_why 5 = .ok (.aload_n 0, 1) := dk_42 (dk_at dksX6_why_0 5 rfl rfl)
theorem dX6_why_6 : decode cX6_why 6 = .ok (.iload_n 1, 1) := dk_27 (dk_at dksX6_why_0 6 rfl rfl)
theorem dX6_why_7 : decode cX6_why 7 = .ok (.iload_n 2, 1) := dk_28 (dk_at dksX6_why_0 7 rfl rfl)
theorem dX6_why_8 : decode cX6_why 8 = .ok (.iload_n 3, 1) := dk_29 (dk_at dksX6_why_0 8 rfl rfl)
theorem dX6_why_9 : decode cX6_why 9 = .ok (.iload 4, 2) := dk_21 4 (dk_at dksX6_why_0 9 rfl rfl)
theorem dX6_why_11 : decode cX6_why 11 = .ok (.iconst 0, 1) := dk_3 (dk_at dksX6_why_0 11 rfl rfl)
theorem dX6_why_12 : decode cX6_why 12 = .ok (.iconst 0, 1) := dk_3 (dk_at dksX6_why_0 12 rfl rfl)
theorem dX6_why_13 : decode cX6_why 13 = .ok (.invokevirtual 243, 3) := dk_182 0 243 (dk_at dksX6_why_0 13 rfl rfl)
theorem dX6_why_16 : decode cX6_why 16 = .ok (.ireturn, 1) := dk_172 (dk_at dksX6_why_0 16 rfl rfl)
abbrev cX6_plan : ByteArray := prog_21_method_76_code
def yX6_plan : MethodName := ⟨RX6, "plan", "(III)I"⟩
def dkwX6_plan_6 : List UInt8 := [54, 4, 132, 5, 1, 167, 255, 211, 21, 4, 172]
abbrev dktX6_plan_6 : List UInt8 := dkwX6_plan_6 ++ []
def dkwX6_plan_5 : List UInt8 := [17, 1, 109, 42, 28, 27, 182, 0, 234, 104, 42, 180, 0, 135, 17, 1, 109, 29, 104, 96, 182, 1, 77, 96]
abbrev dktX6_plan_5 : List UInt8 := dkwX6_plan_5 ++ dktX6_plan_6
def dkwX6_plan_4 : List UInt8 := [172, 3, 54, 4, 3, 54, 5, 21, 5, 42, 27, 182, 0, 222, 162, 0, 41, 21, 4, 42, 27, 21, 5]
abbrev dktX6_plan_4 : List UInt8 := dkwX6_plan_4 ++ dktX6_plan_5
def dkwX6_plan_3 : List UInt8 := [160, 0, 5, 3, 172, 42, 180, 0, 29, 27, 46, 8, 160, 0, 13, 16, 40, 42, 180, 0, 77, 27, 46, 100]
abbrev dktX6_plan_3 : List UInt8 := dkwX6_plan_3 ++ dktX6_plan_4
def dkwX6_plan_2 : List UInt8 := [182, 0, 225, 153, 0, 23, 42, 180, 0, 32, 27, 46, 6, 159, 0, 13, 42, 180, 0, 32, 27, 46, 5]
abbrev dktX6_plan_2 : List UInt8 := dkwX6_plan_2 ++ dktX6_plan_3
def dkwX6_plan_1 : List UInt8 := [155, 0, 18, 28, 5, 163, 0, 13, 29, 155, 0, 9, 29, 16, 100, 164, 0, 5, 2, 172, 42, 27, 28]
abbrev dktX6_plan_1 : List UInt8 := dkwX6_plan_1 ++ dktX6_plan_2
def dkwX6_plan_0 : List UInt8 := [42, 3, 181, 0, 131, 42, 27, 182, 0, 186, 153, 0, 32, 42, 180, 0, 32, 27, 46, 7, 159, 0, 22, 28]
abbrev dktX6_plan_0 : List UInt8 := dkwX6_plan_0 ++ dktX6_plan_1
theorem dksX6_plan_0 : cX6_plan.data.toList.drop 0 = dktX6_plan_0 := by decide +kernel
theorem dksX6_plan_1 : cX6_plan.data.toList.drop 24 = dktX6_plan_1 := dk_seg dksX6_plan_0 24 rfl rfl
theorem dksX6_plan_2 : cX6_plan.data.toList.drop 47 = dktX6_plan_2 := dk_seg dksX6_plan_1 23 rfl rfl
theorem dksX6_plan_3 : cX6_plan.data.toList.drop 70 = dktX6_plan_3 := dk_seg dksX6_plan_2 23 rfl rfl
theorem dksX6_plan_4 : cX6_plan.data.toList.drop 94 = dktX6_plan_4 := dk_seg dksX6_plan_3 24 rfl rfl
theorem dksX6_plan_5 : cX6_plan.data.toList.drop 117 = dktX6_plan_5 := dk_seg dksX6_plan_4 23 rfl rfl
theorem dksX6_plan_6 : cX6_plan.data.toList.drop 141 = dktX6_plan_6 := dk_seg dksX6_plan_5 24 rfl rfl
theorem dX6_plan_0 : decode cX6_plan 0 = .ok (.aload_n 0, 1) := dk_42 (dk_at dksX6_plan_0 0 rfl rfl)
theorem dX6_plan_1 : decode cX6_plan 1 = .ok (.iconst 0, 1) := dk_3 (dk_at dksX6_plan_0 1 rfl rfl)
theorem dX6_plan_2 : decode cX6_plan 2 = .ok (.putfield 131, 3) := dk_181 0 131 (dk_at dksX6_plan_0 2 rfl rfl)
theorem dX6_plan_5 : decode cX6_plan 5 = .ok (.aload_n 0, 1) := dk_42 (dk_at dksX6_plan_0 5 rfl rfl)
theorem dX6_plan_6 : decode cX6_plan 6 = .ok (.iload_n 1, 1) := dk_27 (dk_at dksX6_plan_0 6 rfl rfl)
theorem dX6_plan_7 : decode cX6_plan 7 = .ok (.invokevirtual 186, 3) := dk_182 0 186 (dk_at dksX6_plan_0 7 rfl rfl)
theorem dX6_plan_10 : decode cX6_plan 10 = .ok (.ifCond .eq 32, 3) := dk_153 0 32 (dk_at dksX6_plan_0 10 rfl rfl)
theorem dX6_plan_13 : decode cX6_plan 13 = .ok (.aload_n 0, 1) := dk_42 (dk_at dksX6_plan_0 13 rfl rfl)
theorem dX6_plan_14 : decode cX6_plan 14 = .ok (.getfield 32, 3) := dk_180 0 32 (dk_at dksX6_plan_0 14 rfl rfl)
theorem dX6_plan_17 : decode cX6_plan 17 = .ok (.iload_n 1, 1) := dk_27 (dk_at dksX6_plan_0 17 rfl rfl)
theorem dX6_plan_18 : decode cX6_plan 18 = .ok (.iaload, 1) := dk_46 (dk_at dksX6_plan_0 18 rfl rfl)
theorem dX6_plan_19 : decode cX6_plan 19 = .ok (.iconst 4, 1) := dk_7 (dk_at dksX6_plan_0 19 rfl rfl)
theorem dX6_plan_20 : decode cX6_plan 20 = .ok (.if_icmp .eq 22, 3) := dk_159 0 22 (dk_at dksX6_plan_0 20 rfl rfl)
theorem dX6_plan_23 : decode cX6_plan 23 = .ok (.iload_n 2, 1) := dk_28 (dk_at dksX6_plan_0 23 rfl rfl)
theorem dX6_plan_24 : decode cX6_plan 24 = .ok (.ifCond .lt 18, 3) := dk_155 0 18 (dk_at dksX6_plan_1 0 rfl rfl)
theorem dX6_plan_27 : decode cX6_plan 27 = .ok (.iload_n 2, 1) := dk_28 (dk_at dksX6_plan_1 3 rfl rfl)
theorem dX6_plan_28 : decode cX6_plan 28 = .ok (.iconst 2, 1) := dk_5 (dk_at dksX6_plan_1 4 rfl rfl)
theorem dX6_plan_29 : decode cX6_plan 29 = .ok (.if_icmp .gt 13, 3) := dk_163 0 13 (dk_at dksX6_plan_1 5 rfl rfl)
theorem dX6_plan_32 : decode cX6_plan 32 = .ok (.iload_n 3, 1) := dk_29 (dk_at dksX6_plan_1 8 rfl rfl)
theorem dX6_plan_33 : decode cX6_plan 33 = .ok (.ifCond .lt 9, 3) := dk_155 0 9 (dk_at dksX6_plan_1 9 rfl rfl)
theorem dX6_plan_36 : decode cX6_plan 36 = .ok (.iload_n 3, 1) := dk_29 (dk_at dksX6_plan_1 12 rfl rfl)
theorem dX6_plan_37 : decode cX6_plan 37 = .ok (.bipush 100, 2) := dk_16 100 (dk_at dksX6_plan_1 13 rfl rfl)
theorem dX6_plan_39 : decode cX6_plan 39 = .ok (.if_icmp .le 5, 3) := dk_164 0 5 (dk_at dksX6_plan_1 15 rfl rfl)
theorem dX6_plan_42 : decode cX6_plan 42 = .ok (.iconst (-1), 1) := dk_2 (dk_at dksX6_plan_1 18 rfl rfl)
theorem dX6_plan_43 : decode cX6_plan 43 = .ok (.ireturn, 1) := dk_172 (dk_at dksX6_plan_1 19 rfl rfl)
theorem dX6_plan_44 : decode cX6_plan 44 = .ok (.aload_n 0, 1) := dk_42 (dk_at dksX6_plan_1 20 rfl rfl)
theorem dX6_plan_45 : decode cX6_plan 45 = .ok (.iload_n 1, 1) := dk_27 (dk_at dksX6_plan_1 21 rfl rfl)
theorem dX6_plan_46 : decode cX6_plan 46 = .ok (.iload_n 2, 1) := dk_28 (dk_at dksX6_plan_1 22 rfl rfl)
theorem dX6_plan_47 : decode cX6_plan 47 = .ok (.invokevirtual 225, 3) := dk_182 0 225 (dk_at dksX6_plan_2 0 rfl rfl)
theorem dX6_plan_50 : decode cX6_plan 50 = .ok (.ifCond .eq 23, 3) := dk_153 0 23 (dk_at dksX6_plan_2 3 rfl rfl)
theorem dX6_plan_53 : decode cX6_plan 53 = .ok (.aload_n 0, 1) := dk_42 (dk_at dksX6_plan_2 6 rfl rfl)
theorem dX6_plan_54 : decode cX6_plan 54 = .ok (.getfield 32, 3) := dk_180 0 32 (dk_at dksX6_plan_2 7 rfl rfl)
theorem dX6_plan_57 : decode cX6_plan 57 = .ok (.iload_n 1, 1) := dk_27 (dk_at dksX6_plan_2 10 rfl rfl)
theorem dX6_plan_58 : decode cX6_plan 58 = .ok (.iaload, 1) := dk_46 (dk_at dksX6_plan_2 11 rfl rfl)
theorem dX6_plan_59 : decode cX6_plan 59 = .ok (.iconst 3, 1) := dk_6 (dk_at dksX6_plan_2 12 rfl rfl)
theorem dX6_plan_60 : decode cX6_plan 60 = .ok (.if_icmp .eq 13, 3) := dk_159 0 13 (dk_at dksX6_plan_2 13 rfl rfl)
theorem dX6_plan_63 : decode cX6_plan 63 = .ok (.aload_n 0, 1) := dk_42 (dk_at dksX6_plan_2 16 rfl rfl)
theorem dX6_plan_64 : decode cX6_plan 64 = .ok (.getfield 32, 3) := dk_180 0 32 (dk_at dksX6_plan_2 17 rfl rfl)
theorem dX6_plan_67 : decode cX6_plan 67 = .ok (.iload_n 1, 1) := dk_27 (dk_at dksX6_plan_2 20 rfl rfl)
theorem dX6_plan_68 : decode cX6_plan 68 = .ok (.iaload, 1) := dk_46 (dk_at dksX6_plan_2 21 rfl rfl)
theorem dX6_plan_69 : decode cX6_plan 69 = .ok (.iconst 2, 1) := dk_5 (dk_at dksX6_plan_2 22 rfl rfl)
theorem dX6_plan_70 : decode cX6_plan 70 = .ok (.if_icmp .ne 5, 3) := dk_160 0 5 (dk_at dksX6_plan_3 0 rfl rfl)
theorem dX6_plan_73 : decode cX6_plan 73 = .ok (.iconst 0, 1) := dk_3 (dk_at dksX6_plan_3 3 rfl rfl)
theorem dX6_plan_74 : decode cX6_plan 74 = .ok (.ireturn, 1) := dk_172 (dk_at dksX6_plan_3 4 rfl rfl)
theorem dX6_plan_75 : decode cX6_plan 75 = .ok (.aload_n 0, 1) := dk_42 (dk_at dksX6_plan_3 5 rfl rfl)
theorem dX6_plan_76 : decode cX6_plan 76 = .ok (.getfield 29, 3) := dk_180 0 29 (dk_at dksX6_plan_3 6 rfl rfl)
theorem dX6_plan_79 : decode cX6_plan 79 = .ok (.iload_n 1, 1) := dk_27 (dk_at dksX6_plan_3 9 rfl rfl)
theorem dX6_plan_80 : decode cX6_plan 80 = .ok (.iaload, 1) := dk_46 (dk_at dksX6_plan_3 10 rfl rfl)
theorem dX6_plan_81 : decode cX6_plan 81 = .ok (.iconst 5, 1) := dk_8 (dk_at dksX6_plan_3 11 rfl rfl)
theorem dX6_plan_82 : decode cX6_plan 82 = .ok (.if_icmp .ne 13, 3) := dk_160 0 13 (dk_at dksX6_plan_3 12 rfl rfl)
theorem dX6_plan_85 : decode cX6_plan 85 = .ok (.bipush 40, 2) := dk_16 40 (dk_at dksX6_plan_3 15 rfl rfl)
theorem dX6_plan_87 : decode cX6_plan 87 = .ok (.aload_n 0, 1) := dk_42 (dk_at dksX6_plan_3 17 rfl rfl)
theorem dX6_plan_88 : decode cX6_plan 88 = .ok (.getfield 77, 3) := dk_180 0 77 (dk_at dksX6_plan_3 18 rfl rfl)
theorem dX6_plan_91 : decode cX6_plan 91 = .ok (.iload_n 1, 1) := dk_27 (dk_at dksX6_plan_3 21 rfl rfl)
theorem dX6_plan_92 : decode cX6_plan 92 = .ok (.iaload, 1) := dk_46 (dk_at dksX6_plan_3 22 rfl rfl)
theorem dX6_plan_93 : decode cX6_plan 93 = .ok (.isub, 1) := dk_100 (dk_at dksX6_plan_3 23 rfl rfl)
theorem dX6_plan_94 : decode cX6_plan 94 = .ok (.ireturn, 1) := dk_172 (dk_at dksX6_plan_4 0 rfl rfl)
theorem dX6_plan_95 : decode cX6_plan 95 = .ok (.iconst 0, 1) := dk_3 (dk_at dksX6_plan_4 1 rfl rfl)
theorem dX6_plan_96 : decode cX6_plan 96 = .ok (.istore 4, 2) := dk_54 4 (dk_at dksX6_plan_4 2 rfl rfl)
theorem dX6_plan_98 : decode cX6_plan 98 = .ok (.iconst 0, 1) := dk_3 (dk_at dksX6_plan_4 4 rfl rfl)
theorem dX6_plan_99 : decode cX6_plan 99 = .ok (.istore 5, 2) := dk_54 5 (dk_at dksX6_plan_4 5 rfl rfl)
theorem dX6_plan_101 : decode cX6_plan 101 = .ok (.iload 5, 2) := dk_21 5 (dk_at dksX6_plan_4 7 rfl rfl)
theorem dX6_plan_103 : decode cX6_plan 103 = .ok (.aload_n 0, 1) := dk_42 (dk_at dksX6_plan_4 9 rfl rfl)
theorem dX6_plan_104 : decode cX6_plan 104 = .ok (.iload_n 1, 1) := dk_27 (dk_at dksX6_plan_4 10 rfl rfl)
theorem dX6_plan_105 : decode cX6_plan 105 = .ok (.invokevirtual 222, 3) := dk_182 0 222 (dk_at dksX6_plan_4 11 rfl rfl)
theorem dX6_plan_108 : decode cX6_plan 108 = .ok (.if_icmp .ge 41, 3) := dk_162 0 41 (dk_at dksX6_plan_4 14 rfl rfl)
theorem dX6_plan_111 : decode cX6_plan 111 = .ok (.iload 4, 2) := dk_21 4 (dk_at dksX6_plan_4 17 rfl rfl)
theorem dX6_plan_113 : decode cX6_plan 113 = .ok (.aload_n 0, 1) := dk_42 (dk_at dksX6_plan_4 19 rfl rfl)
theorem dX6_plan_114 : decode cX6_plan 114 = .ok (.iload_n 1, 1) := dk_27 (dk_at dksX6_plan_4 20 rfl rfl)
theorem dX6_plan_115 : decode cX6_plan 115 = .ok (.iload 5, 2) := dk_21 5 (dk_at dksX6_plan_4 21 rfl rfl)
theorem dX6_plan_117 : decode cX6_plan 117 = .ok (.sipush 365, 3) := dk_17 1 109 (dk_at dksX6_plan_5 0 rfl rfl)
theorem dX6_plan_120 : decode cX6_plan 120 = .ok (.aload_n 0, 1) := dk_42 (dk_at dksX6_plan_5 3 rfl rfl)
theorem dX6_plan_121 : decode cX6_plan 121 = .ok (.iload_n 2, 1) := dk_28 (dk_at dksX6_plan_5 4 rfl rfl)
theorem dX6_plan_122 : decode cX6_plan 122 = .ok (.iload_n 1, 1) := dk_27 (dk_at dksX6_plan_5 5 rfl rfl)
theorem dX6_plan_123 : decode cX6_plan 123 = .ok (.invokevirtual 234, 3) := dk_182 0 234 (dk_at dksX6_plan_5 6 rfl rfl)
theorem dX6_plan_126 : decode cX6_plan 126 = .ok (.imul, 1) := dk_104 (dk_at dksX6_plan_5 9 rfl rfl)
theorem dX6_plan_127 : decode cX6_plan 127 = .ok (.aload_n 0, 1) := dk_42 (dk_at dksX6_plan_5 10 rfl rfl)
theorem dX6_plan_128 : decode cX6_plan 128 = .ok (.getfield 135, 3) := dk_180 0 135 (dk_at dksX6_plan_5 11 rfl rfl)
theorem dX6_plan_131 : decode cX6_plan 131 = .ok (.sipush 365, 3) := dk_17 1 109 (dk_at dksX6_plan_5 14 rfl rfl)
theorem dX6_plan_134 : decode cX6_plan 134 = .ok (.iload_n 3, 1) := dk_29 (dk_at dksX6_plan_5 17 rfl rfl)
theorem dX6_plan_135 : decode cX6_plan 135 = .ok (.imul, 1) := dk_104 (dk_at dksX6_plan_5 18 rfl rfl)
theorem dX6_plan_136 : decode cX6_plan 136 = .ok (.iadd, 1) := dk_96 (dk_at dksX6_plan_5 19 rfl rfl)
theorem dX6_plan_137 : decode cX6_plan 137 = .ok (.invokevirtual 333, 3) := dk_182 1 77 (dk_at dksX6_plan_5 20 rfl rfl)
theorem dX6_plan_140 : decode cX6_plan 140 = .ok (.iadd, 1) := dk_96 (dk_at dksX6_plan_5 23 rfl rfl)
theorem dX6_plan_141 : decode cX6_plan 141 = .ok (.istore 4, 2) := dk_54 4 (dk_at dksX6_plan_6 0 rfl rfl)
theorem dX6_plan_143 : decode cX6_plan 143 = .ok (.iinc 5 1, 3) := dk_132 5 1 (dk_at dksX6_plan_6 2 rfl rfl)
theorem dX6_plan_146 : decode cX6_plan 146 = .ok (.goto (-45), 3) := dk_167 255 211 (dk_at dksX6_plan_6 5 rfl rfl)
theorem dX6_plan_149 : decode cX6_plan 149 = .ok (.iload 4, 2) := dk_21 4 (dk_at dksX6_plan_6 8 rfl rfl)
theorem dX6_plan_151 : decode cX6_plan 151 = .ok (.ireturn, 1) := dk_172 (dk_at dksX6_plan_6 10 rfl rfl)
abbrev cX6_planned : ByteArray := prog_21_method_78_code
def yX6_planned : MethodName := ⟨RX6, "planned", "(IIII)I"⟩
def dkwX6_planned_8 : List UInt8 := [132, 8, 1, 21, 9, 29, 96, 54, 9, 167, 255, 165, 21, 7, 172]
abbrev dktX6_planned_8 : List UInt8 := dkwX6_planned_8 ++ []
def dkwX6_planned_7 : List UInt8 := [21, 7, 54, 7, 21, 9, 21, 6, 162, 0, 10, 21, 9, 21, 4, 164, 0, 7, 16, 254, 54, 8]
abbrev dktX6_planned_7 : List UInt8 := dkwX6_planned_7 ++ dktX6_planned_8
def dkwX6_planned_6 : List UInt8 := [21, 10, 100, 29, 108, 4, 96, 104, 96, 54, 11, 21, 11, 21, 7, 164, 0, 8, 21, 11, 167, 0, 5]
abbrev dktX6_planned_6 : List UInt8 := dkwX6_planned_6 ++ dktX6_planned_7
def dkwX6_planned_5 : List UInt8 := [167, 0, 5, 21, 6, 54, 10, 21, 8, 21, 10, 21, 4, 164, 0, 7, 3, 167, 0, 14, 5, 21, 4]
abbrev dktX6_planned_5 : List UInt8 := dkwX6_planned_5 ++ dktX6_planned_6
def dkwX6_planned_4 : List UInt8 := [54, 7, 3, 54, 8, 21, 5, 54, 9, 21, 8, 155, 0, 92, 21, 9, 21, 6, 164, 0, 8, 21, 9]
abbrev dktX6_planned_4 : List UInt8 := dkwX6_planned_4 ++ dktX6_planned_5
def dkwX6_planned_3 : List UInt8 := [167, 0, 12, 21, 4, 21, 5, 100, 29, 108, 4, 96, 172, 42, 27, 28, 4, 182, 1, 80, 54, 6, 3]
abbrev dktX6_planned_3 : List UInt8 := dkwX6_planned_3 ++ dktX6_planned_4
def dkwX6_planned_2 : List UInt8 := [4, 159, 0, 14, 42, 180, 0, 29, 27, 46, 16, 6, 160, 0, 24, 21, 5, 21, 4, 164, 0, 7, 3]
abbrev dktX6_planned_2 : List UInt8 := dkwX6_planned_2 ++ dktX6_planned_3
def dkwX6_planned_1 : List UInt8 := [16, 8, 27, 104, 5, 28, 104, 96, 46, 156, 0, 7, 4, 167, 0, 4, 3, 172, 42, 180, 0, 29, 27, 46]
abbrev dktX6_planned_1 : List UInt8 := dkwX6_planned_1 ++ dktX6_planned_2
def dkwX6_planned_0 : List UInt8 := [42, 27, 28, 3, 182, 1, 80, 54, 5, 42, 180, 0, 29, 27, 46, 7, 160, 0, 25, 42, 180, 0, 71]
abbrev dktX6_planned_0 : List UInt8 := dkwX6_planned_0 ++ dktX6_planned_1
theorem dksX6_planned_0 : cX6_planned.data.toList.drop 0 = dktX6_planned_0 := by decide +kernel
theorem dksX6_planned_1 : cX6_planned.data.toList.drop 23 = dktX6_planned_1 := dk_seg dksX6_planned_0 23 rfl rfl
theorem dksX6_planned_2 : cX6_planned.data.toList.drop 47 = dktX6_planned_2 := dk_seg dksX6_planned_1 24 rfl rfl
theorem dksX6_planned_3 : cX6_planned.data.toList.drop 70 = dktX6_planned_3 := dk_seg dksX6_planned_2 23 rfl rfl
theorem dksX6_planned_4 : cX6_planned.data.toList.drop 93 = dktX6_planned_4 := dk_seg dksX6_planned_3 23 rfl rfl
theorem dksX6_planned_5 : cX6_planned.data.toList.drop 116 = dktX6_planned_5 := dk_seg dksX6_planned_4 23 rfl rfl
theorem dksX6_planned_6 : cX6_planned.data.toList.drop 139 = dktX6_planned_6 := dk_seg dksX6_planned_5 23 rfl rfl
theorem dksX6_planned_7 : cX6_planned.data.toList.drop 162 = dktX6_planned_7 := dk_seg dksX6_planned_6 23 rfl rfl
theorem dksX6_planned_8 : cX6_planned.data.toList.drop 184 = dktX6_planned_8 := dk_seg dksX6_planned_7 22 rfl rfl
theorem dX6_planned_0 : decode cX6_planned 0 = .ok (.aload_n 0, 1) := dk_42 (dk_at dksX6_planned_0 0 rfl rfl)
theorem dX6_planned_1 : decode cX6_planned 1 = .ok (.iload_n 1, 1) := dk_27 (dk_at dksX6_planned_0 1 rfl rfl)
theorem dX6_planned_2 : decode cX6_planned 2 = .ok (.iload_n 2, 1) := dk_28 (dk_at dksX6_planned_0 2 rfl rfl)
theorem dX6_planned_3 : decode cX6_planned 3 = .ok (.iconst 0, 1) := dk_3 (dk_at dksX6_planned_0 3 rfl rfl)
theorem dX6_planned_4 : decode cX6_planned 4 = .ok (.invokevirtual 336, 3) := dk_182 1 80 (dk_at dksX6_planned_0 4 rfl rfl)
theorem dX6_planned_7 : decode cX6_planned 7 = .ok (.istore 5, 2) := dk_54 5 (dk_at dksX6_planned_0 7 rfl rfl)
theorem dX6_planned_9 : decode cX6_planned 9 = .ok (.aload_n 0, 1) := dk_42 (dk_at dksX6_planned_0 9 rfl rfl)
theorem dX6_planned_10 : decode cX6_planned 10 = .ok (.getfield 29, 3) := dk_180 0 29 (dk_at dksX6_planned_0 10 rfl rfl)
theorem dX6_planned_13 : decode cX6_planned 13 = .ok (.iload_n 1, 1) := dk_27 (dk_at dksX6_planned_0 13 rfl rfl)
theorem dX6_planned_14 : decode cX6_planned 14 = .ok (.iaload, 1) := dk_46 (dk_at dksX6_planned_0 14 rfl rfl)
theorem dX6_planned_15 : decode cX6_planned 15 = .ok (.iconst 4, 1) := dk_7 (dk_at dksX6_planned_0 15 rfl rfl)
theorem dX6_planned_16 : decode cX6_planned 16 = .ok (.if_icmp .ne 25, 3) := dk_160 0 25 (dk_at dksX6_planned_0 16 rfl rfl)
theorem dX6_planned_19 : decode cX6_planned 19 = .ok (.aload_n 0, 1) := dk_42 (dk_at dksX6_planned_0 19 rfl rfl)
theorem dX6_planned_20 : decode cX6_planned 20 = .ok (.getfield 71, 3) := dk_180 0 71 (dk_at dksX6_planned_0 20 rfl rfl)
theorem dX6_planned_23 : decode cX6_planned 23 = .ok (.bipush 8, 2) := dk_16 8 (dk_at dksX6_planned_1 0 rfl rfl)
theorem dX6_planned_25 : decode cX6_planned 25 = .ok (.iload_n 1, 1) := dk_27 (dk_at dksX6_planned_1 2 rfl rfl)
theorem dX6_planned_26 : decode cX6_planned 26 = .ok (.imul, 1) := dk_104 (dk_at dksX6_planned_1 3 rfl rfl)
theorem dX6_planned_27 : decode cX6_planned 27 = .ok (.iconst 2, 1) := dk_5 (dk_at dksX6_planned_1 4 rfl rfl)
theorem dX6_planned_28 : decode cX6_planned 28 = .ok (.iload_n 2, 1) := dk_28 (dk_at dksX6_planned_1 5 rfl rfl)
theorem dX6_planned_29 : decode cX6_planned 29 = .ok (.imul, 1) := dk_104 (dk_at dksX6_planned_1 6 rfl rfl)
theorem dX6_planned_30 : decode cX6_planned 30 = .ok (.iadd, 1) := dk_96 (dk_at dksX6_planned_1 7 rfl rfl)
theorem dX6_planned_31 : decode cX6_planned 31 = .ok (.iaload, 1) := dk_46 (dk_at dksX6_planned_1 8 rfl rfl)
theorem dX6_planned_32 : decode cX6_planned 32 = .ok (.ifCond .ge 7, 3) := dk_156 0 7 (dk_at dksX6_planned_1 9 rfl rfl)
theorem dX6_planned_35 : decode cX6_planned 35 = .ok (.iconst 1, 1) := dk_4 (dk_at dksX6_planned_1 12 rfl rfl)
theorem dX6_planned_36 : decode cX6_planned 36 = .ok (.goto 4, 3) := dk_167 0 4 (dk_at dksX6_planned_1 13 rfl rfl)
theorem dX6_planned_39 : decode cX6_planned 39 = .ok (.iconst 0, 1) := dk_3 (dk_at dksX6_planned_1 16 rfl rfl)
theorem dX6_planned_40 : decode cX6_planned 40 = .ok (.ireturn, 1) := dk_172 (dk_at dksX6_planned_1 17 rfl rfl)
theorem dX6_planned_41 : decode cX6_planned 41 = .ok (.aload_n 0, 1) := dk_42 (dk_at dksX6_planned_1 18 rfl rfl)
theorem dX6_planned_42 : decode cX6_planned 42 = .ok (.getfield 29, 3) := dk_180 0 29 (dk_at dksX6_planned_1 19 rfl rfl)
theorem dX6_planned_45 : decode cX6_planned 45 = .ok (.iload_n 1, 1) := dk_27 (dk_at dksX6_planned_1 22 rfl rfl)
theorem dX6_planned_46 : decode cX6_planned 46 = .ok (.iaload, 1) := dk_46 (dk_at dksX6_planned_1 23 rfl rfl)
theorem dX6_planned_47 : decode cX6_planned 47 = .ok (.iconst 1, 1) := dk_4 (dk_at dksX6_planned_2 0 rfl rfl)
theorem dX6_planned_48 : decode cX6_planned 48 = .ok (.if_icmp .eq 14, 3) := dk_159 0 14 (dk_at dksX6_planned_2 1 rfl rfl)
theorem dX6_planned_51 : decode cX6_planned 51 = .ok (.aload_n 0, 1) := dk_42 (dk_at dksX6_planned_2 4 rfl rfl)
theorem dX6_planned_52 : decode cX6_planned 52 = .ok (.getfield 29, 3) := dk_180 0 29 (dk_at dksX6_planned_2 5 rfl rfl)
theorem dX6_planned_55 : decode cX6_planned 55 = .ok (.iload_n 1, 1) := dk_27 (dk_at dksX6_planned_2 8 rfl rfl)
theorem dX6_planned_56 : decode cX6_planned 56 = .ok (.iaload, 1) := dk_46 (dk_at dksX6_planned_2 9 rfl rfl)
theorem dX6_planned_57 : decode cX6_planned 57 = .ok (.bipush 6, 2) := dk_16 6 (dk_at dksX6_planned_2 10 rfl rfl)
theorem dX6_planned_59 : decode cX6_planned 59 = .ok (.if_icmp .ne 24, 3) := dk_160 0 24 (dk_at dksX6_planned_2 12 rfl rfl)
theorem dX6_planned_62 : decode cX6_planned 62 = .ok (.iload 5, 2) := dk_21 5 (dk_at dksX6_planned_2 15 rfl rfl)
theorem dX6_planned_64 : decode cX6_planned 64 = .ok (.iload 4, 2) := dk_21 4 (dk_at dksX6_planned_2 17 rfl rfl)
theorem dX6_planned_66 : decode cX6_planned 66 = .ok (.if_icmp .le 7, 3) := dk_164 0 7 (dk_at dksX6_planned_2 19 rfl rfl)
theorem dX6_planned_69 : decode cX6_planned 69 = .ok (.iconst 0, 1) := dk_3 (dk_at dksX6_planned_2 22 rfl rfl)
theorem dX6_planned_70 : decode cX6_planned 70 = .ok (.goto 12, 3) := dk_167 0 12 (dk_at dksX6_planned_3 0 rfl rfl)
theorem dX6_planned_73 : decode cX6_planned 73 = .ok (.iload 4, 2) := dk_21 4 (dk_at dksX6_planned_3 3 rfl rfl)
theorem dX6_planned_75 : decode cX6_planned 75 = .ok (.iload 5, 2) := dk_21 5 (dk_at dksX6_planned_3 5 rfl rfl)
theorem dX6_planned_77 : decode cX6_planned 77 = .ok (.isub, 1) := dk_100 (dk_at dksX6_planned_3 7 rfl rfl)
theorem dX6_planned_78 : decode cX6_planned 78 = .ok (.iload_n 3, 1) := dk_29 (dk_at dksX6_planned_3 8 rfl rfl)
theorem dX6_planned_79 : decode cX6_planned 79 = .ok (.idiv, 1) := dk_108 (dk_at dksX6_planned_3 9 rfl rfl)
theorem dX6_planned_80 : decode cX6_planned 80 = .ok (.iconst 1, 1) := dk_4 (dk_at dksX6_planned_3 10 rfl rfl)
theorem dX6_planned_81 : decode cX6_planned 81 = .ok (.iadd, 1) := dk_96 (dk_at dksX6_planned_3 11 rfl rfl)
theorem dX6_planned_82 : decode cX6_planned 82 = .ok (.ireturn, 1) := dk_172 (dk_at dksX6_planned_3 12 rfl rfl)
theorem dX6_planned_83 : decode cX6_planned 83 = .ok (.aload_n 0, 1) := dk_42 (dk_at dksX6_planned_3 13 rfl rfl)
theorem dX6_planned_84 : decode cX6_planned 84 = .ok (.iload_n 1, 1) := dk_27 (dk_at dksX6_planned_3 14 rfl rfl)
theorem dX6_planned_85 : decode cX6_planned 85 = .ok (.iload_n 2, 1) := dk_28 (dk_at dksX6_planned_3 15 rfl rfl)
theorem dX6_planned_86 : decode cX6_planned 86 = .ok (.iconst 1, 1) := dk_4 (dk_at dksX6_planned_3 16 rfl rfl)
theorem dX6_planned_87 : decode cX6_planned 87 = .ok (.invokevirtual 336, 3) := dk_182 1 80 (dk_at dksX6_planned_3 17 rfl rfl)
theorem dX6_planned_90 : decode cX6_planned 90 = .ok (.istore 6, 2) := dk_54 6 (dk_at dksX6_planned_3 20 rfl rfl)
theorem dX6_planned_92 : decode cX6_planned 92 = .ok (.iconst 0, 1) := dk_3 (dk_at dksX6_planned_3 22 rfl rfl)
theorem dX6_planned_93 : decode cX6_planned 93 = .ok (.istore 7, 2) := dk_54 7 (dk_at dksX6_planned_4 0 rfl rfl)
theorem dX6_planned_95 : decode cX6_planned 95 = .ok (.iconst 0, 1) := dk_3 (dk_at dksX6_planned_4 2 rfl rfl)
theorem dX6_planned_96 : decode cX6_planned 96 = .ok (.istore 8, 2) := dk_54 8 (dk_at dksX6_planned_4 3 rfl rfl)
theorem dX6_planned_98 : decode cX6_planned 98 = .ok (.iload 5, 2) := dk_21 5 (dk_at dksX6_planned_4 5 rfl rfl)
theorem dX6_planned_100 : decode cX6_planned 100 = .ok (.istore 9, 2) := dk_54 9 (dk_at dksX6_planned_4 7 rfl rfl)
theorem dX6_planned_102 : decode cX6_planned 102 = .ok (.iload 8, 2) := dk_21 8 (dk_at dksX6_planned_4 9 rfl rfl)
theorem dX6_planned_104 : decode cX6_planned 104 = .ok (.ifCond .lt 92, 3) := dk_155 0 92 (dk_at dksX6_planned_4 11 rfl rfl)
theorem dX6_planned_107 : decode cX6_planned 107 = .ok (.iload 9, 2) := dk_21 9 (dk_at dksX6_planned_4 14 rfl rfl)
theorem dX6_planned_109 : decode cX6_planned 109 = .ok (.iload 6, 2) := dk_21 6 (dk_at dksX6_planned_4 16 rfl rfl)
theorem dX6_planned_111 : decode cX6_planned 111 = .ok (.if_icmp .le 8, 3) := dk_164 0 8 (dk_at dksX6_planned_4 18 rfl rfl)
theorem dX6_planned_114 : decode cX6_planned 114 = .ok (.iload 9, 2) := dk_21 9 (dk_at dksX6_planned_4 21 rfl rfl)
theorem dX6_planned_116 : decode cX6_planned 116 = .ok (.goto 5, 3) := dk_167 0 5 (dk_at dksX6_planned_5 0 rfl rfl)
theorem dX6_planned_119 : decode cX6_planned 119 = .ok (.iload 6, 2) := dk_21 6 (dk_at dksX6_planned_5 3 rfl rfl)
theorem dX6_planned_121 : decode cX6_planned 121 = .ok (.istore 10, 2) := dk_54 10 (dk_at dksX6_planned_5 5 rfl rfl)
theorem dX6_planned_123 : decode cX6_planned 123 = .ok (.iload 8, 2) := dk_21 8 (dk_at dksX6_planned_5 7 rfl rfl)
theorem dX6_planned_125 : decode cX6_planned 125 = .ok (.iload 10, 2) := dk_21 10 (dk_at dksX6_planned_5 9 rfl rfl)
theorem dX6_planned_127 : decode cX6_planned 127 = .ok (.iload 4, 2) := dk_21 4 (dk_at dksX6_planned_5 11 rfl rfl)
theorem dX6_planned_129 : decode cX6_planned 129 = .ok (.if_icmp .le 7, 3) := dk_164 0 7 (dk_at dksX6_planned_5 13 rfl rfl)
theorem dX6_planned_132 : decode cX6_planned 132 = .ok (.iconst 0, 1) := dk_3 (dk_at dksX6_planned_5 16 rfl rfl)
theorem dX6_planned_133 : decode cX6_planned 133 = .ok (.goto 14, 3) := dk_167 0 14 (dk_at dksX6_planned_5 17 rfl rfl)
theorem dX6_planned_136 : decode cX6_planned 136 = .ok (.iconst 2, 1) := dk_5 (dk_at dksX6_planned_5 20 rfl rfl)
theorem dX6_planned_137 : decode cX6_planned 137 = .ok (.iload 4, 2) := dk_21 4 (dk_at dksX6_planned_5 21 rfl rfl)
theorem dX6_planned_139 : decode cX6_planned 139 = .ok (.iload 10, 2) := dk_21 10 (dk_at dksX6_planned_6 0 rfl rfl)
theorem dX6_planned_141 : decode cX6_planned 141 = .ok (.isub, 1) := dk_100 (dk_at dksX6_planned_6 2 rfl rfl)
theorem dX6_planned_142 : decode cX6_planned 142 = .ok (.iload_n 3, 1) := dk_29 (dk_at dksX6_planned_6 3 rfl rfl)
theorem dX6_planned_143 : decode cX6_planned 143 = .ok (.idiv, 1) := dk_108 (dk_at dksX6_planned_6 4 rfl rfl)
theorem dX6_planned_144 : decode cX6_planned 144 = .ok (.iconst 1, 1) := dk_4 (dk_at dksX6_planned_6 5 rfl rfl)
theorem dX6_planned_145 : decode cX6_planned 145 = .ok (.iadd, 1) := dk_96 (dk_at dksX6_planned_6 6 rfl rfl)
theorem dX6_planned_146 : decode cX6_planned 146 = .ok (.imul, 1) := dk_104 (dk_at dksX6_planned_6 7 rfl rfl)
theorem dX6_planned_147 : decode cX6_planned 147 = .ok (.iadd, 1) := dk_96 (dk_at dksX6_planned_6 8 rfl rfl)
theorem dX6_planned_148 : decode cX6_planned 148 = .ok (.istore 11, 2) := dk_54 11 (dk_at dksX6_planned_6 9 rfl rfl)
theorem dX6_planned_150 : decode cX6_planned 150 = .ok (.iload 11, 2) := dk_21 11 (dk_at dksX6_planned_6 11 rfl rfl)
theorem dX6_planned_152 : decode cX6_planned 152 = .ok (.iload 7, 2) := dk_21 7 (dk_at dksX6_planned_6 13 rfl rfl)
theorem dX6_planned_154 : decode cX6_planned 154 = .ok (.if_icmp .le 8, 3) := dk_164 0 8 (dk_at dksX6_planned_6 15 rfl rfl)
theorem dX6_planned_157 : decode cX6_planned 157 = .ok (.iload 11, 2) := dk_21 11 (dk_at dksX6_planned_6 18 rfl rfl)
theorem dX6_planned_159 : decode cX6_planned 159 = .ok (.goto 5, 3) := dk_167 0 5 (dk_at dksX6_planned_6 20 rfl rfl)
theorem dX6_planned_162 : decode cX6_planned 162 = .ok (.iload 7, 2) := dk_21 7 (dk_at dksX6_planned_7 0 rfl rfl)
theorem dX6_planned_164 : decode cX6_planned 164 = .ok (.istore 7, 2) := dk_54 7 (dk_at dksX6_planned_7 2 rfl rfl)
theorem dX6_planned_166 : decode cX6_planned 166 = .ok (.iload 9, 2) := dk_21 9 (dk_at dksX6_planned_7 4 rfl rfl)
theorem dX6_planned_168 : decode cX6_planned 168 = .ok (.iload 6, 2) := dk_21 6 (dk_at dksX6_planned_7 6 rfl rfl)
theorem dX6_planned_170 : decode cX6_planned 170 = .ok (.if_icmp .ge 10, 3) := dk_162 0 10 (dk_at dksX6_planned_7 8 rfl rfl)
theorem dX6_planned_173 : decode cX6_planned 173 = .ok (.iload 9, 2) := dk_21 9 (dk_at dksX6_planned_7 11 rfl rfl)
theorem dX6_planned_175 : decode cX6_planned 175 = .ok (.iload 4, 2) := dk_21 4 (dk_at dksX6_planned_7 13 rfl rfl)
theorem dX6_planned_177 : decode cX6_planned 177 = .ok (.if_icmp .le 7, 3) := dk_164 0 7 (dk_at dksX6_planned_7 15 rfl rfl)
theorem dX6_planned_180 : decode cX6_planned 180 = .ok (.bipush (-2), 2) := dk_16 254 (dk_at dksX6_planned_7 18 rfl rfl)
theorem dX6_planned_182 : decode cX6_planned 182 = .ok (.istore 8, 2) := dk_54 8 (dk_at dksX6_planned_7 20 rfl rfl)
theorem dX6_planned_184 : decode cX6_planned 184 = .ok (.iinc 8 1, 3) := dk_132 8 1 (dk_at dksX6_planned_8 0 rfl rfl)
theorem dX6_planned_187 : decode cX6_planned 187 = .ok (.iload 9, 2) := dk_21 9 (dk_at dksX6_planned_8 3 rfl rfl)
theorem dX6_planned_189 : decode cX6_planned 189 = .ok (.iload_n 3, 1) := dk_29 (dk_at dksX6_planned_8 5 rfl rfl)
theorem dX6_planned_190 : decode cX6_planned 190 = .ok (.iadd, 1) := dk_96 (dk_at dksX6_planned_8 6 rfl rfl)
theorem dX6_planned_191 : decode cX6_planned 191 = .ok (.istore 9, 2) := dk_54 9 (dk_at dksX6_planned_8 7 rfl rfl)
theorem dX6_planned_193 : decode cX6_planned 193 = .ok (.goto (-91), 3) := dk_167 255 165 (dk_at dksX6_planned_8 9 rfl rfl)
theorem dX6_planned_196 : decode cX6_planned 196 = .ok (.iload 7, 2) := dk_21 7 (dk_at dksX6_planned_8 12 rfl rfl)
theorem dX6_planned_198 : decode cX6_planned 198 = .ok (.ireturn, 1) := dk_172 (dk_at dksX6_planned_8 14 rfl rfl)
abbrev cX6_openFrom : ByteArray := prog_21_method_77_code
def yX6_openFrom : MethodName := ⟨RX6, "openFrom", "(III)I"⟩
def dkwX6_openFrom_1 : List UInt8 := [153, 0, 13, 42, 180, 0, 98, 21, 4, 46, 167, 0, 7, 42, 180, 0, 135, 172]
abbrev dktX6_openFrom_1 : List UInt8 := dkwX6_openFrom_1 ++ []
def dkwX6_openFrom_0 : List UInt8 := [42, 180, 0, 71, 16, 8, 27, 104, 5, 28, 104, 96, 29, 96, 46, 54, 4, 42, 21, 4, 182, 0, 219]
abbrev dktX6_openFrom_0 : List UInt8 := dkwX6_openFrom_0 ++ dktX6_openFrom_1
theorem dksX6_openFrom_0 : cX6_openFrom.data.toList.drop 0 = dktX6_openFrom_0 := by decide +kernel
theorem dksX6_openFrom_1 : cX6_openFrom.data.toList.drop 23 = dktX6_openFrom_1 := dk_seg dksX6_openFrom_0 23 rfl rfl
theorem dX6_openFrom_0 : decode cX6_openFrom 0 = .ok (.aload_n 0, 1) := dk_42 (dk_at dksX6_openFrom_0 0 rfl rfl)
theorem dX6_openFrom_1 : decode cX6_openFrom 1 = .ok (.getfield 71, 3) := dk_180 0 71 (dk_at dksX6_openFrom_0 1 rfl rfl)
theorem dX6_openFrom_4 : decode cX6_openFrom 4 = .ok (.bipush 8, 2) := dk_16 8 (dk_at dksX6_openFrom_0 4 rfl rfl)
theorem dX6_openFrom_6 : decode cX6_openFrom 6 = .ok (.iload_n 1, 1) := dk_27 (dk_at dksX6_openFrom_0 6 rfl rfl)
theorem dX6_openFrom_7 : decode cX6_openFrom 7 = .ok (.imul, 1) := dk_104 (dk_at dksX6_openFrom_0 7 rfl rfl)
theorem dX6_openFrom_8 : decode cX6_openFrom 8 = .ok (.iconst 2, 1) := dk_5 (dk_at dksX6_openFrom_0 8 rfl rfl)
theorem dX6_openFrom_9 : decode cX6_openFrom 9 = .ok (.iload_n 2, 1) := dk_28 (dk_at dksX6_openFrom_0 9 rfl rfl)
theorem dX6_openFrom_10 : decode cX6_openFrom 10 = .ok (.imul, 1) := dk_104 (dk_at dksX6_openFrom_0 10 rfl rfl)
theorem dX6_openFrom_11 : decode cX6_openFrom 11 = .ok (.iadd, 1) := dk_96 (dk_at dksX6_openFrom_0 11 rfl rfl)
theorem dX6_openFrom_12 : decode cX6_openFrom 12 = .ok (.iload_n 3, 1) := dk_29 (dk_at dksX6_openFrom_0 12 rfl rfl)
theorem dX6_openFrom_13 : decode cX6_openFrom 13 = .ok (.iadd, 1) := dk_96 (dk_at dksX6_openFrom_0 13 rfl rfl)
theorem dX6_openFrom_14 : decode cX6_openFrom 14 = .ok (.iaload, 1) := dk_46 (dk_at dksX6_openFrom_0 14 rfl rfl)
theorem dX6_openFrom_15 : decode cX6_openFrom 15 = .ok (.istore 4, 2) := dk_54 4 (dk_at dksX6_openFrom_0 15 rfl rfl)
theorem dX6_openFrom_17 : decode cX6_openFrom 17 = .ok (.aload_n 0, 1) := dk_42 (dk_at dksX6_openFrom_0 17 rfl rfl)
theorem dX6_openFrom_18 : decode cX6_openFrom 18 = .ok (.iload 4, 2) := dk_21 4 (dk_at dksX6_openFrom_0 18 rfl rfl)
theorem dX6_openFrom_20 : decode cX6_openFrom 20 = .ok (.invokevirtual 219, 3) := dk_182 0 219 (dk_at dksX6_openFrom_0 20 rfl rfl)
theorem dX6_openFrom_23 : decode cX6_openFrom 23 = .ok (.ifCond .eq 13, 3) := dk_153 0 13 (dk_at dksX6_openFrom_1 0 rfl rfl)
theorem dX6_openFrom_26 : decode cX6_openFrom 26 = .ok (.aload_n 0, 1) := dk_42 (dk_at dksX6_openFrom_1 3 rfl rfl)
theorem dX6_openFrom_27 : decode cX6_openFrom 27 = .ok (.getfield 98, 3) := dk_180 0 98 (dk_at dksX6_openFrom_1 4 rfl rfl)
theorem dX6_openFrom_30 : decode cX6_openFrom 30 = .ok (.iload 4, 2) := dk_21 4 (dk_at dksX6_openFrom_1 7 rfl rfl)
theorem dX6_openFrom_32 : decode cX6_openFrom 32 = .ok (.iaload, 1) := dk_46 (dk_at dksX6_openFrom_1 9 rfl rfl)
theorem dX6_openFrom_33 : decode cX6_openFrom 33 = .ok (.goto 7, 3) := dk_167 0 7 (dk_at dksX6_openFrom_1 10 rfl rfl)
theorem dX6_openFrom_36 : decode cX6_openFrom 36 = .ok (.aload_n 0, 1) := dk_42 (dk_at dksX6_openFrom_1 13 rfl rfl)
theorem dX6_openFrom_37 : decode cX6_openFrom 37 = .ok (.getfield 135, 3) := dk_180 0 135 (dk_at dksX6_openFrom_1 14 rfl rfl)
theorem dX6_openFrom_40 : decode cX6_openFrom 40 = .ok (.ireturn, 1) := dk_172 (dk_at dksX6_openFrom_1 17 rfl rfl)
abbrev cX6_free : ByteArray := prog_21_method_79_code
def yX6_free : MethodName := ⟨RX6, "free", "(III)I"⟩
def dkwX6_free_6 : List UInt8 := [167, 255, 153, 2, 172]
abbrev dktX6_free_6 : List UInt8 := dkwX6_free_6 ++ []
def dkwX6_free_5 : List UInt8 := [21, 7, 96, 172, 132, 4, 1, 132, 7, 1, 167, 255, 192, 132, 6, 1, 167, 255, 171, 132, 5, 1]
abbrev dktX6_free_5 : List UInt8 := dkwX6_free_5 ++ dktX6_free_6
def dkwX6_free_4 : List UInt8 := [153, 0, 6, 167, 0, 28, 21, 4, 29, 160, 0, 19, 17, 3, 232, 21, 5, 104, 16, 50, 21, 6, 104, 96]
abbrev dktX6_free_4 : List UInt8 := dkwX6_free_4 ++ dktX6_free_5
def dkwX6_free_3 : List UInt8 := [16, 12, 21, 5, 104, 21, 6, 96, 46, 162, 0, 52, 42, 21, 5, 21, 6, 21, 7, 27, 28, 182, 0, 178]
abbrev dktX6_free_3 : List UInt8 := dkwX6_free_3 ++ dktX6_free_4
def dkwX6_free_2 : List UInt8 := [3, 54, 6, 21, 6, 42, 180, 0, 13, 21, 5, 46, 162, 0, 79, 3, 54, 7, 21, 7, 42, 180, 0, 19]
abbrev dktX6_free_2 : List UInt8 := dkwX6_free_2 ++ dktX6_free_3
def dkwX6_free_1 : List UInt8 := [153, 0, 7, 29, 156, 0, 5, 2, 172, 3, 54, 4, 3, 54, 5, 21, 5, 42, 180, 0, 138, 162, 0, 100]
abbrev dktX6_free_1 : List UInt8 := dkwX6_free_1 ++ dktX6_free_2
def dkwX6_free_0 : List UInt8 := [42, 3, 181, 0, 131, 27, 4, 161, 0, 22, 27, 16, 6, 163, 0, 16, 42, 27, 28, 182, 0, 175]
abbrev dktX6_free_0 : List UInt8 := dkwX6_free_0 ++ dktX6_free_1
theorem dksX6_free_0 : cX6_free.data.toList.drop 0 = dktX6_free_0 := by decide +kernel
theorem dksX6_free_1 : cX6_free.data.toList.drop 22 = dktX6_free_1 := dk_seg dksX6_free_0 22 rfl rfl
theorem dksX6_free_2 : cX6_free.data.toList.drop 46 = dktX6_free_2 := dk_seg dksX6_free_1 24 rfl rfl
theorem dksX6_free_3 : cX6_free.data.toList.drop 70 = dktX6_free_3 := dk_seg dksX6_free_2 24 rfl rfl
theorem dksX6_free_4 : cX6_free.data.toList.drop 94 = dktX6_free_4 := dk_seg dksX6_free_3 24 rfl rfl
theorem dksX6_free_5 : cX6_free.data.toList.drop 118 = dktX6_free_5 := dk_seg dksX6_free_4 24 rfl rfl
theorem dksX6_free_6 : cX6_free.data.toList.drop 140 = dktX6_free_6 := dk_seg dksX6_free_5 22 rfl rfl
theorem dX6_free_0 : decode cX6_free 0 = .ok (.aload_n 0, 1) := dk_42 (dk_at dksX6_free_0 0 rfl rfl)
theorem dX6_free_1 : decode cX6_free 1 = .ok (.iconst 0, 1) := dk_3 (dk_at dksX6_free_0 1 rfl rfl)
theorem dX6_free_2 : decode cX6_free 2 = .ok (.putfield 131, 3) := dk_181 0 131 (dk_at dksX6_free_0 2 rfl rfl)
theorem dX6_free_5 : decode cX6_free 5 = .ok (.iload_n 1, 1) := dk_27 (dk_at dksX6_free_0 5 rfl rfl)
theorem dX6_free_6 : decode cX6_free 6 = .ok (.iconst 1, 1) := dk_4 (dk_at dksX6_free_0 6 rfl rfl)
theorem dX6_free_7 : decode cX6_free 7 = .ok (.if_icmp .lt 22, 3) := dk_161 0 22 (dk_at dksX6_free_0 7 rfl rfl)
theorem dX6_free_10 : decode cX6_free 10 = .ok (.iload_n 1, 1) := dk_27 (dk_at dksX6_free_0 10 rfl rfl)
theorem dX6_free_11 : decode cX6_free 11 = .ok (.bipush 6, 2) := dk_16 6 (dk_at dksX6_free_0 11 rfl rfl)
theorem dX6_free_13 : decode cX6_free 13 = .ok (.if_icmp .gt 16, 3) := dk_163 0 16 (dk_at dksX6_free_0 13 rfl rfl)
theorem dX6_free_16 : decode cX6_free 16 = .ok (.aload_n 0, 1) := dk_42 (dk_at dksX6_free_0 16 rfl rfl)
theorem dX6_free_17 : decode cX6_free 17 = .ok (.iload_n 1, 1) := dk_27 (dk_at dksX6_free_0 17 rfl rfl)
theorem dX6_free_18 : decode cX6_free 18 = .ok (.iload_n 2, 1) := dk_28 (dk_at dksX6_free_0 18 rfl rfl)
theorem dX6_free_19 : decode cX6_free 19 = .ok (.invokevirtual 175, 3) := dk_182 0 175 (dk_at dksX6_free_0 19 rfl rfl)
theorem dX6_free_22 : decode cX6_free 22 = .ok (.ifCond .eq 7, 3) := dk_153 0 7 (dk_at dksX6_free_1 0 rfl rfl)
theorem dX6_free_25 : decode cX6_free 25 = .ok (.iload_n 3, 1) := dk_29 (dk_at dksX6_free_1 3 rfl rfl)
theorem dX6_free_26 : decode cX6_free 26 = .ok (.ifCond .ge 5, 3) := dk_156 0 5 (dk_at dksX6_free_1 4 rfl rfl)
theorem dX6_free_29 : decode cX6_free 29 = .ok (.iconst (-1), 1) := dk_2 (dk_at dksX6_free_1 7 rfl rfl)
theorem dX6_free_30 : decode cX6_free 30 = .ok (.ireturn, 1) := dk_172 (dk_at dksX6_free_1 8 rfl rfl)
theorem dX6_free_31 : decode cX6_free 31 = .ok (.iconst 0, 1) := dk_3 (dk_at dksX6_free_1 9 rfl rfl)
theorem dX6_free_32 : decode cX6_free 32 = .ok (.istore 4, 2) := dk_54 4 (dk_at dksX6_free_1 10 rfl rfl)
theorem dX6_free_34 : decode cX6_free 34 = .ok (.iconst 0, 1) := dk_3 (dk_at dksX6_free_1 12 rfl rfl)
theorem dX6_free_35 : decode cX6_free 35 = .ok (.istore 5, 2) := dk_54 5 (dk_at dksX6_free_1 13 rfl rfl)
theorem dX6_free_37 : decode cX6_free 37 = .ok (.iload 5, 2) := dk_21 5 (dk_at dksX6_free_1 15 rfl rfl)
theorem dX6_free_39 : decode cX6_free 39 = .ok (.aload_n 0, 1) := dk_42 (dk_at dksX6_free_1 17 rfl rfl)
theorem dX6_free_40 : decode cX6_free 40 = .ok (.getfield 138, 3) := dk_180 0 138 (dk_at dksX6_free_1 18 rfl rfl)
theorem dX6_free_43 : decode cX6_free 43 = .ok (.if_icmp .ge 100, 3) := dk_162 0 100 (dk_at dksX6_free_1 21 rfl rfl)
theorem dX6_free_46 : decode cX6_free 46 = .ok (.iconst 0, 1) := dk_3 (dk_at dksX6_free_2 0 rfl rfl)
theorem dX6_free_47 : decode cX6_free 47 = .ok (.istore 6, 2) := dk_54 6 (dk_at dksX6_free_2 1 rfl rfl)
theorem dX6_free_49 : decode cX6_free 49 = .ok (.iload 6, 2) := dk_21 6 (dk_at dksX6_free_2 3 rfl rfl)
theorem dX6_free_51 : decode cX6_free 51 = .ok (.aload_n 0, 1) := dk_42 (dk_at dksX6_free_2 5 rfl rfl)
theorem dX6_free_52 : decode cX6_free 52 = .ok (.getfield 13, 3) := dk_180 0 13 (dk_at dksX6_free_2 6 rfl rfl)
theorem dX6_free_55 : decode cX6_free 55 = .ok (.iload 5, 2) := dk_21 5 (dk_at dksX6_free_2 9 rfl rfl)
theorem dX6_free_57 : decode cX6_free 57 = .ok (.iaload, 1) := dk_46 (dk_at dksX6_free_2 11 rfl rfl)
theorem dX6_free_58 : decode cX6_free 58 = .ok (.if_icmp .ge 79, 3) := dk_162 0 79 (dk_at dksX6_free_2 12 rfl rfl)
theorem dX6_free_61 : decode cX6_free 61 = .ok (.iconst 0, 1) := dk_3 (dk_at dksX6_free_2 15 rfl rfl)
theorem dX6_free_62 : decode cX6_free 62 = .ok (.istore 7, 2) := dk_54 7 (dk_at dksX6_free_2 16 rfl rfl)
theorem dX6_free_64 : decode cX6_free 64 = .ok (.iload 7, 2) := dk_21 7 (dk_at dksX6_free_2 18 rfl rfl)
theorem dX6_free_66 : decode cX6_free 66 = .ok (.aload_n 0, 1) := dk_42 (dk_at dksX6_free_2 20 rfl rfl)
theorem dX6_free_67 : decode cX6_free 67 = .ok (.getfield 19, 3) := dk_180 0 19 (dk_at dksX6_free_2 21 rfl rfl)
theorem dX6_free_70 : decode cX6_free 70 = .ok (.bipush 12, 2) := dk_16 12 (dk_at dksX6_free_3 0 rfl rfl)
theorem dX6_free_72 : decode cX6_free 72 = .ok (.iload 5, 2) := dk_21 5 (dk_at dksX6_free_3 2 rfl rfl)
theorem dX6_free_74 : decode cX6_free 74 = .ok (.imul, 1) := dk_104 (dk_at dksX6_free_3 4 rfl rfl)
theorem dX6_free_75 : decode cX6_free 75 = .ok (.iload 6, 2) := dk_21 6 (dk_at dksX6_free_3 5 rfl rfl)
theorem dX6_free_77 : decode cX6_free 77 = .ok (.iadd, 1) := dk_96 (dk_at dksX6_free_3 7 rfl rfl)
theorem dX6_free_78 : decode cX6_free 78 = .ok (.iaload, 1) := dk_46 (dk_at dksX6_free_3 8 rfl rfl)
theorem dX6_free_79 : decode cX6_free 79 = .ok (.if_icmp .ge 52, 3) := dk_162 0 52 (dk_at dksX6_free_3 9 rfl rfl)
theorem dX6_free_82 : decode cX6_free 82 = .ok (.aload_n 0, 1) := dk_42 (dk_at dksX6_free_3 12 rfl rfl)
theorem dX6_free_83 : decode cX6_free 83 = .ok (.iload 5, 2) := dk_21 5 (dk_at dksX6_free_3 13 rfl rfl)
theorem dX6_free_85 : decode cX6_free 85 = .ok (.iload 6, 2) := dk_21 6 (dk_at dksX6_free_3 15 rfl rfl)
theorem dX6_free_87 : decode cX6_free 87 = .ok (.iload 7, 2) := dk_21 7 (dk_at dksX6_free_3 17 rfl rfl)
theorem dX6_free_89 : decode cX6_free 89 = .ok (.iload_n 1, 1) := dk_27 (dk_at dksX6_free_3 19 rfl rfl)
theorem dX6_free_90 : decode cX6_free 90 = .ok (.iload_n 2, 1) := dk_28 (dk_at dksX6_free_3 20 rfl rfl)
theorem dX6_free_91 : decode cX6_free 91 = .ok (.invokevirtual 178, 3) := dk_182 0 178 (dk_at dksX6_free_3 21 rfl rfl)
theorem dX6_free_94 : decode cX6_free 94 = .ok (.ifCond .eq 6, 3) := dk_153 0 6 (dk_at dksX6_free_4 0 rfl rfl)
theorem dX6_free_97 : decode cX6_free 97 = .ok (.goto 28, 3) := dk_167 0 28 (dk_at dksX6_free_4 3 rfl rfl)
theorem dX6_free_100 : decode cX6_free 100 = .ok (.iload 4, 2) := dk_21 4 (dk_at dksX6_free_4 6 rfl rfl)
theorem dX6_free_102 : decode cX6_free 102 = .ok (.iload_n 3, 1) := dk_29 (dk_at dksX6_free_4 8 rfl rfl)
theorem dX6_free_103 : decode cX6_free 103 = .ok (.if_icmp .ne 19, 3) := dk_160 0 19 (dk_at dksX6_free_4 9 rfl rfl)
theorem dX6_free_106 : decode cX6_free 106 = .ok (.sipush 1000, 3) := dk_17 3 232 (dk_at dksX6_free_4 12 rfl rfl)
theorem dX6_free_109 : decode cX6_free 109 = .ok (.iload 5, 2) := dk_21 5 (dk_at dksX6_free_4 15 rfl rfl)
theorem dX6_free_111 : decode cX6_free 111 = .ok (.imul, 1) := dk_104 (dk_at dksX6_free_4 17 rfl rfl)
theorem dX6_free_112 : decode cX6_free 112 = .ok (.bipush 50, 2) := dk_16 50 (dk_at dksX6_free_4 18 rfl rfl)
theorem dX6_free_114 : decode cX6_free 114 = .ok (.iload 6, 2) := dk_21 6 (dk_at dksX6_free_4 20 rfl rfl)
theorem dX6_free_116 : decode cX6_free 116 = .ok (.imul, 1) := dk_104 (dk_at dksX6_free_4 22 rfl rfl)
theorem dX6_free_117 : decode cX6_free 117 = .ok (.iadd, 1) := dk_96 (dk_at dksX6_free_4 23 rfl rfl)
theorem dX6_free_118 : decode cX6_free 118 = .ok (.iload 7, 2) := dk_21 7 (dk_at dksX6_free_5 0 rfl rfl)
theorem dX6_free_120 : decode cX6_free 120 = .ok (.iadd, 1) := dk_96 (dk_at dksX6_free_5 2 rfl rfl)
theorem dX6_free_121 : decode cX6_free 121 = .ok (.ireturn, 1) := dk_172 (dk_at dksX6_free_5 3 rfl rfl)
theorem dX6_free_122 : decode cX6_free 122 = .ok (.iinc 4 1, 3) := dk_132 4 1 (dk_at dksX6_free_5 4 rfl rfl)
theorem dX6_free_125 : decode cX6_free 125 = .ok (.iinc 7 1, 3) := dk_132 7 1 (dk_at dksX6_free_5 7 rfl rfl)
theorem dX6_free_128 : decode cX6_free 128 = .ok (.goto (-64), 3) := dk_167 255 192 (dk_at dksX6_free_5 10 rfl rfl)
theorem dX6_free_131 : decode cX6_free 131 = .ok (.iinc 6 1, 3) := dk_132 6 1 (dk_at dksX6_free_5 13 rfl rfl)
theorem dX6_free_134 : decode cX6_free 134 = .ok (.goto (-85), 3) := dk_167 255 171 (dk_at dksX6_free_5 16 rfl rfl)
theorem dX6_free_137 : decode cX6_free 137 = .ok (.iinc 5 1, 3) := dk_132 5 1 (dk_at dksX6_free_5 19 rfl rfl)
theorem dX6_free_140 : decode cX6_free 140 = .ok (.goto (-103), 3) := dk_167 255 153 (dk_at dksX6_free_6 0 rfl rfl)
theorem dX6_free_143 : decode cX6_free 143 = .ok (.iconst (-1), 1) := dk_2 (dk_at dksX6_free_6 3 rfl rfl)
theorem dX6_free_144 : decode cX6_free 144 = .ok (.ireturn, 1) := dk_172 (dk_at dksX6_free_6 4 rfl rfl)
abbrev cX6_spot : ByteArray := prog_21_method_80_code
def yX6_spot : MethodName := ⟨RX6, "spot", "(III)I"⟩
def dkwX6_spot_1 : List UInt8 := [42, 180, 0, 26, 16, 30, 16, 12, 27, 104, 28, 96, 104, 29, 96, 46, 172]
abbrev dktX6_spot_1 : List UInt8 := dkwX6_spot_1 ++ []
def dkwX6_spot_0 : List UInt8 := [42, 3, 181, 0, 131, 42, 27, 28, 29, 182, 0, 161, 54, 4, 21, 4, 153, 0, 8, 21, 4, 167, 0, 19]
abbrev dktX6_spot_0 : List UInt8 := dkwX6_spot_0 ++ dktX6_spot_1
theorem dksX6_spot_0 : cX6_spot.data.toList.drop 0 = dktX6_spot_0 := by decide +kernel
theorem dksX6_spot_1 : cX6_spot.data.toList.drop 24 = dktX6_spot_1 := dk_seg dksX6_spot_0 24 rfl rfl
theorem dX6_spot_0 : decode cX6_spot 0 = .ok (.aload_n 0, 1) := dk_42 (dk_at dksX6_spot_0 0 rfl rfl)
theorem dX6_spot_1 : decode cX6_spot 1 = .ok (.iconst 0, 1) := dk_3 (dk_at dksX6_spot_0 1 rfl rfl)
theorem dX6_spot_2 : decode cX6_spot 2 = .ok (.putfield 131, 3) := dk_181 0 131 (dk_at dksX6_spot_0 2 rfl rfl)
theorem dX6_spot_5 : decode cX6_spot 5 = .ok (.aload_n 0, 1) := dk_42 (dk_at dksX6_spot_0 5 rfl rfl)
theorem dX6_spot_6 : decode cX6_spot 6 = .ok (.iload_n 1, 1) := dk_27 (dk_at dksX6_spot_0 6 rfl rfl)
theorem dX6_spot_7 : decode cX6_spot 7 = .ok (.iload_n 2, 1) := dk_28 (dk_at dksX6_spot_0 7 rfl rfl)
theorem dX6_spot_8 : decode cX6_spot 8 = .ok (.iload_n 3, 1) := dk_29 (dk_at dksX6_spot_0 8 rfl rfl)
theorem dX6_spot_9 : decode cX6_spot 9 = .ok (.invokevirtual 161, 3) := dk_182 0 161 (dk_at dksX6_spot_0 9 rfl rfl)
theorem dX6_spot_12 : decode cX6_spot 12 = .ok (.istore 4, 2) := dk_54 4 (dk_at dksX6_spot_0 12 rfl rfl)
theorem dX6_spot_14 : decode cX6_spot 14 = .ok (.iload 4, 2) := dk_21 4 (dk_at dksX6_spot_0 14 rfl rfl)
theorem dX6_spot_16 : decode cX6_spot 16 = .ok (.ifCond .eq 8, 3) := dk_153 0 8 (dk_at dksX6_spot_0 16 rfl rfl)
theorem dX6_spot_19 : decode cX6_spot 19 = .ok (.iload 4, 2) := dk_21 4 (dk_at dksX6_spot_0 19 rfl rfl)
theorem dX6_spot_21 : decode cX6_spot 21 = .ok (.goto 19, 3) := dk_167 0 19 (dk_at dksX6_spot_0 21 rfl rfl)
theorem dX6_spot_24 : decode cX6_spot 24 = .ok (.aload_n 0, 1) := dk_42 (dk_at dksX6_spot_1 0 rfl rfl)
theorem dX6_spot_25 : decode cX6_spot 25 = .ok (.getfield 26, 3) := dk_180 0 26 (dk_at dksX6_spot_1 1 rfl rfl)
theorem dX6_spot_28 : decode cX6_spot 28 = .ok (.bipush 30, 2) := dk_16 30 (dk_at dksX6_spot_1 4 rfl rfl)
theorem dX6_spot_30 : decode cX6_spot 30 = .ok (.bipush 12, 2) := dk_16 12 (dk_at dksX6_spot_1 6 rfl rfl)
theorem dX6_spot_32 : decode cX6_spot 32 = .ok (.iload_n 1, 1) := dk_27 (dk_at dksX6_spot_1 8 rfl rfl)
theorem dX6_spot_33 : decode cX6_spot 33 = .ok (.imul, 1) := dk_104 (dk_at dksX6_spot_1 9 rfl rfl)
theorem dX6_spot_34 : decode cX6_spot 34 = .ok (.iload_n 2, 1) := dk_28 (dk_at dksX6_spot_1 10 rfl rfl)
theorem dX6_spot_35 : decode cX6_spot 35 = .ok (.iadd, 1) := dk_96 (dk_at dksX6_spot_1 11 rfl rfl)
theorem dX6_spot_36 : decode cX6_spot 36 = .ok (.imul, 1) := dk_104 (dk_at dksX6_spot_1 12 rfl rfl)
theorem dX6_spot_37 : decode cX6_spot 37 = .ok (.iload_n 3, 1) := dk_29 (dk_at dksX6_spot_1 13 rfl rfl)
theorem dX6_spot_38 : decode cX6_spot 38 = .ok (.iadd, 1) := dk_96 (dk_at dksX6_spot_1 14 rfl rfl)
theorem dX6_spot_39 : decode cX6_spot 39 = .ok (.iaload, 1) := dk_46 (dk_at dksX6_spot_1 15 rfl rfl)
theorem dX6_spot_40 : decode cX6_spot 40 = .ok (.ireturn, 1) := dk_172 (dk_at dksX6_spot_1 16 rfl rfl)
abbrev cX6_look : ByteArray := prog_21_method_81_code
def yX6_look : MethodName := ⟨RX6, "look", "(II)I"⟩
def dkwX6_look_12 : List UInt8 := [160, 0, 8, 21, 5, 167, 0, 5, 21, 6, 172]
abbrev dktX6_look_12 : List UInt8 := dkwX6_look_12 ++ []
def dkwX6_look_11 : List UInt8 := [180, 0, 98, 21, 7, 46, 167, 0, 5, 21, 6, 54, 6, 132, 7, 1, 167, 255, 190, 28, 16, 9]
abbrev dktX6_look_11 : List UInt8 := dkwX6_look_11 ++ dktX6_look_12
def dkwX6_look_10 : List UInt8 := [46, 27, 159, 0, 6, 167, 0, 32, 132, 5, 1, 42, 180, 0, 98, 21, 7, 46, 21, 6, 164, 0, 13, 42]
abbrev dktX6_look_10 : List UInt8 := dkwX6_look_10 ++ dktX6_look_11
def dkwX6_look_9 : List UInt8 := [42, 180, 0, 144, 162, 0, 63, 42, 180, 0, 86, 21, 7, 46, 5, 160, 0, 46, 42, 180, 0, 89, 21, 7]
abbrev dktX6_look_9 : List UInt8 := dkwX6_look_9 ++ dktX6_look_10
def dkwX6_look_8 : List UInt8 := [27, 46, 16, 12, 112, 172, 42, 180, 0, 50, 27, 46, 172, 3, 54, 5, 3, 54, 6, 3, 54, 7, 21, 7]
abbrev dktX6_look_8 : List UInt8 := dkwX6_look_8 ++ dktX6_look_9
def dkwX6_look_7 : List UInt8 := [180, 0, 44, 27, 46, 167, 0, 4, 3, 172, 42, 180, 0, 47, 27, 46, 16, 12, 108, 172, 42, 180, 0, 47]
abbrev dktX6_look_7 : List UInt8 := dkwX6_look_7 ++ dktX6_look_8
def dkwX6_look_6 : List UInt8 := [172, 21, 4, 153, 0, 12, 42, 180, 0, 41, 27, 46, 167, 0, 4, 2, 172, 21, 4, 153, 0, 12, 42]
abbrev dktX6_look_6 : List UInt8 := dkwX6_look_6 ++ dktX6_look_7
def dkwX6_look_5 : List UInt8 := [167, 0, 4, 2, 172, 29, 154, 0, 8, 21, 4, 153, 0, 12, 42, 180, 0, 38, 27, 46, 167, 0, 4, 3]
abbrev dktX6_look_5 : List UInt8 := dkwX6_look_5 ++ dktX6_look_6
def dkwX6_look_4 : List UInt8 := [42, 180, 0, 29, 27, 46, 172, 42, 180, 0, 32, 27, 46, 172, 29, 153, 0, 12, 42, 180, 0, 35, 27, 46]
abbrev dktX6_look_4 : List UInt8 := dkwX6_look_4 ++ dktX6_look_5
def dkwX6_look_3 : List UInt8 := [170, 0, 0, 0, 0, 0, 0, 160, 0, 0, 0, 0, 0, 0, 0, 8, 0, 0, 0, 52, 0, 0, 0, 59, 0, 0, 0, 66, 0, 0, 0, 81, 0, 0, 0, 101, 0, 0, 0, 117, 0, 0, 0, 133, 0, 0, 0, 143, 0, 0, 0, 153]
abbrev dktX6_look_3 : List UInt8 := dkwX6_look_3 ++ dktX6_look_4
def dkwX6_look_2 : List UInt8 := [180, 0, 32, 27, 46, 5, 160, 0, 7, 4, 167, 0, 4, 3, 54, 4, 28]
abbrev dktX6_look_2 : List UInt8 := dkwX6_look_2 ++ dktX6_look_3
def dkwX6_look_1 : List UInt8 := [4, 181, 0, 131, 3, 172, 42, 180, 0, 32, 27, 46, 4, 160, 0, 7, 4, 167, 0, 4, 3, 62, 42]
abbrev dktX6_look_1 : List UInt8 := dkwX6_look_1 ++ dktX6_look_2
def dkwX6_look_0 : List UInt8 := [42, 3, 181, 0, 131, 42, 27, 182, 0, 186, 153, 0, 13, 28, 155, 0, 9, 28, 16, 10, 164, 0, 10, 42]
abbrev dktX6_look_0 : List UInt8 := dkwX6_look_0 ++ dktX6_look_1
theorem dksX6_look_0 : cX6_look.data.toList.drop 0 = dktX6_look_0 := by decide +kernel
theorem dksX6_look_1 : cX6_look.data.toList.drop 24 = dktX6_look_1 := dk_seg dksX6_look_0 24 rfl rfl
theorem dksX6_look_2 : cX6_look.data.toList.drop 47 = dktX6_look_2 := dk_seg dksX6_look_1 23 rfl rfl
theorem dksX6_look_3 : cX6_look.data.toList.drop 64 = dktX6_look_3 := dk_seg dksX6_look_2 17 rfl rfl
theorem dksX6_look_4 : cX6_look.data.toList.drop 116 = dktX6_look_4 := dk_seg dksX6_look_3 52 rfl rfl
theorem dksX6_look_5 : cX6_look.data.toList.drop 140 = dktX6_look_5 := dk_seg dksX6_look_4 24 rfl rfl
theorem dksX6_look_6 : cX6_look.data.toList.drop 164 = dktX6_look_6 := dk_seg dksX6_look_5 24 rfl rfl
theorem dksX6_look_7 : cX6_look.data.toList.drop 187 = dktX6_look_7 := dk_seg dksX6_look_6 23 rfl rfl
theorem dksX6_look_8 : cX6_look.data.toList.drop 211 = dktX6_look_8 := dk_seg dksX6_look_7 24 rfl rfl
theorem dksX6_look_9 : cX6_look.data.toList.drop 235 = dktX6_look_9 := dk_seg dksX6_look_8 24 rfl rfl
theorem dksX6_look_10 : cX6_look.data.toList.drop 259 = dktX6_look_10 := dk_seg dksX6_look_9 24 rfl rfl
theorem dksX6_look_11 : cX6_look.data.toList.drop 283 = dktX6_look_11 := dk_seg dksX6_look_10 24 rfl rfl
theorem dksX6_look_12 : cX6_look.data.toList.drop 305 = dktX6_look_12 := dk_seg dksX6_look_11 22 rfl rfl
theorem dX6_look_0 : decode cX6_look 0 = .ok (.aload_n 0, 1) := dk_42 (dk_at dksX6_look_0 0 rfl rfl)
theorem dX6_look_1 : decode cX6_look 1 = .ok (.iconst 0, 1) := dk_3 (dk_at dksX6_look_0 1 rfl rfl)
theorem dX6_look_2 : decode cX6_look 2 = .ok (.putfield 131, 3) := dk_181 0 131 (dk_at dksX6_look_0 2 rfl rfl)
theorem dX6_look_5 : decode cX6_look 5 = .ok (.aload_n 0, 1) := dk_42 (dk_at dksX6_look_0 5 rfl rfl)
theorem dX6_look_6 : decode cX6_look 6 = .ok (.iload_n 1, 1) := dk_27 (dk_at dksX6_look_0 6 rfl rfl)
theorem dX6_look_7 : decode cX6_look 7 = .ok (.invokevirtual 186, 3) := dk_182 0 186 (dk_at dksX6_look_0 7 rfl rfl)
theorem dX6_look_10 : decode cX6_look 10 = .ok (.ifCond .eq 13, 3) := dk_153 0 13 (dk_at dksX6_look_0 10 rfl rfl)
theorem dX6_look_13 : decode cX6_look 13 = .ok (.iload_n 2, 1) := dk_28 (dk_at dksX6_look_0 13 rfl rfl)
theorem dX6_look_14 : decode cX6_look 14 = .ok (.ifCond .lt 9, 3) := dk_155 0 9 (dk_at dksX6_look_0 14 rfl rfl)
theorem dX6_look_17 : decode cX6_look 17 = .ok (.iload_n 2, 1) := dk_28 (dk_at dksX6_look_0 17 rfl rfl)
theorem dX6_look_18 : decode cX6_look 18 = .ok (.bipush 10, 2) := dk_16 10 (dk_at dksX6_look_0 18 rfl rfl)
theorem dX6_look_20 : decode cX6_look 20 = .ok (.if_icmp .le 10, 3) := dk_164 0 10 (dk_at dksX6_look_0 20 rfl rfl)
theorem dX6_look_23 : decode cX6_look 23 = .ok (.aload_n 0, 1) := dk_42 (dk_at dksX6_look_0 23 rfl rfl)
theorem dX6_look_24 : decode cX6_look 24 = .ok (.iconst 1, 1) := dk_4 (dk_at dksX6_look_1 0 rfl rfl)
theorem dX6_look_25 : decode cX6_look 25 = .ok (.putfield 131, 3) := dk_181 0 131 (dk_at dksX6_look_1 1 rfl rfl)
theorem dX6_look_28 : decode cX6_look 28 = .ok (.iconst 0, 1) := dk_3 (dk_at dksX6_look_1 4 rfl rfl)
theorem dX6_look_29 : decode cX6_look 29 = .ok (.ireturn, 1) := dk_172 (dk_at dksX6_look_1 5 rfl rfl)
theorem dX6_look_30 : decode cX6_look 30 = .ok (.aload_n 0, 1) := dk_42 (dk_at dksX6_look_1 6 rfl rfl)
theorem dX6_look_31 : decode cX6_look 31 = .ok (.getfield 32, 3) := dk_180 0 32 (dk_at dksX6_look_1 7 rfl rfl)
theorem dX6_look_34 : decode cX6_look 34 = .ok (.iload_n 1, 1) := dk_27 (dk_at dksX6_look_1 10 rfl rfl)
theorem dX6_look_35 : decode cX6_look 35 = .ok (.iaload, 1) := dk_46 (dk_at dksX6_look_1 11 rfl rfl)
theorem dX6_look_36 : decode cX6_look 36 = .ok (.iconst 1, 1) := dk_4 (dk_at dksX6_look_1 12 rfl rfl)
theorem dX6_look_37 : decode cX6_look 37 = .ok (.if_icmp .ne 7, 3) := dk_160 0 7 (dk_at dksX6_look_1 13 rfl rfl)
theorem dX6_look_40 : decode cX6_look 40 = .ok (.iconst 1, 1) := dk_4 (dk_at dksX6_look_1 16 rfl rfl)
theorem dX6_look_41 : decode cX6_look 41 = .ok (.goto 4, 3) := dk_167 0 4 (dk_at dksX6_look_1 17 rfl rfl)
theorem dX6_look_44 : decode cX6_look 44 = .ok (.iconst 0, 1) := dk_3 (dk_at dksX6_look_1 20 rfl rfl)
theorem dX6_look_45 : decode cX6_look 45 = .ok (.istore_n 3, 1) := dk_62 (dk_at dksX6_look_1 21 rfl rfl)
theorem dX6_look_46 : decode cX6_look 46 = .ok (.aload_n 0, 1) := dk_42 (dk_at dksX6_look_1 22 rfl rfl)
theorem dX6_look_47 : decode cX6_look 47 = .ok (.getfield 32, 3) := dk_180 0 32 (dk_at dksX6_look_2 0 rfl rfl)
theorem dX6_look_50 : decode cX6_look 50 = .ok (.iload_n 1, 1) := dk_27 (dk_at dksX6_look_2 3 rfl rfl)
theorem dX6_look_51 : decode cX6_look 51 = .ok (.iaload, 1) := dk_46 (dk_at dksX6_look_2 4 rfl rfl)
theorem dX6_look_52 : decode cX6_look 52 = .ok (.iconst 2, 1) := dk_5 (dk_at dksX6_look_2 5 rfl rfl)
theorem dX6_look_53 : decode cX6_look 53 = .ok (.if_icmp .ne 7, 3) := dk_160 0 7 (dk_at dksX6_look_2 6 rfl rfl)
theorem dX6_look_56 : decode cX6_look 56 = .ok (.iconst 1, 1) := dk_4 (dk_at dksX6_look_2 9 rfl rfl)
theorem dX6_look_57 : decode cX6_look 57 = .ok (.goto 4, 3) := dk_167 0 4 (dk_at dksX6_look_2 10 rfl rfl)
theorem dX6_look_60 : decode cX6_look 60 = .ok (.iconst 0, 1) := dk_3 (dk_at dksX6_look_2 13 rfl rfl)
theorem dX6_look_61 : decode cX6_look 61 = .ok (.istore 4, 2) := dk_54 4 (dk_at dksX6_look_2 14 rfl rfl)
theorem dX6_look_63 : decode cX6_look 63 = .ok (.iload_n 2, 1) := dk_28 (dk_at dksX6_look_2 16 rfl rfl)
theorem dX6_look_64 : decode cX6_look 64 = .ok (.tableswitch 160 0 8 #[52, 59, 66, 81, 101, 117, 133, 143, 153], 52) := by decide +kernel
theorem dX6_look_116 : decode cX6_look 116 = .ok (.aload_n 0, 1) := dk_42 (dk_at dksX6_look_4 0 rfl rfl)
theorem dX6_look_117 : decode cX6_look 117 = .ok (.getfield 29, 3) := dk_180 0 29 (dk_at dksX6_look_4 1 rfl rfl)
theorem dX6_look_120 : decode cX6_look 120 = .ok (.iload_n 1, 1) := dk_27 (dk_at dksX6_look_4 4 rfl rfl)
theorem dX6_look_121 : decode cX6_look 121 = .ok (.iaload, 1) := dk_46 (dk_at dksX6_look_4 5 rfl rfl)
theorem dX6_look_122 : decode cX6_look 122 = .ok (.ireturn, 1) := dk_172 (dk_at dksX6_look_4 6 rfl rfl)
theorem dX6_look_123 : decode cX6_look 123 = .ok (.aload_n 0, 1) := dk_42 (dk_at dksX6_look_4 7 rfl rfl)
theorem dX6_look_124 : decode cX6_look 124 = .ok (.getfield 32, 3) := dk_180 0 32 (dk_at dksX6_look_4 8 rfl rfl)
theorem dX6_look_127 : decode cX6_look 127 = .ok (.iload_n 1, 1) := dk_27 (dk_at dksX6_look_4 11 rfl rfl)
theorem dX6_look_128 : decode cX6_look 128 = .ok (.iaload, 1) := dk_46 (dk_at dksX6_look_4 12 rfl rfl)
theorem dX6_look_129 : decode cX6_look 129 = .ok (.ireturn, 1) := dk_172 (dk_at dksX6_look_4 13 rfl rfl)
theorem dX6_look_130 : decode cX6_look 130 = .ok (.iload_n 3, 1) := dk_29 (dk_at dksX6_look_4 14 rfl rfl)
theorem dX6_look_131 : decode cX6_look 131 = .ok (.ifCond .eq 12, 3) := dk_153 0 12 (dk_at dksX6_look_4 15 rfl rfl)
theorem dX6_look_134 : decode cX6_look 134 = .ok (.aload_n 0, 1) := dk_42 (dk_at dksX6_look_4 18 rfl rfl)
theorem dX6_look_135 : decode cX6_look 135 = .ok (.getfield 35, 3) := dk_180 0 35 (dk_at dksX6_look_4 19 rfl rfl)
theorem dX6_look_138 : decode cX6_look 138 = .ok (.iload_n 1, 1) := dk_27 (dk_at dksX6_look_4 22 rfl rfl)
theorem dX6_look_139 : decode cX6_look 139 = .ok (.iaload, 1) := dk_46 (dk_at dksX6_look_4 23 rfl rfl)
theorem dX6_look_140 : decode cX6_look 140 = .ok (.goto 4, 3) := dk_167 0 4 (dk_at dksX6_look_5 0 rfl rfl)
theorem dX6_look_143 : decode cX6_look 143 = .ok (.iconst (-1), 1) := dk_2 (dk_at dksX6_look_5 3 rfl rfl)
theorem dX6_look_144 : decode cX6_look 144 = .ok (.ireturn, 1) := dk_172 (dk_at dksX6_look_5 4 rfl rfl)
theorem dX6_look_145 : decode cX6_look 145 = .ok (.iload_n 3, 1) := dk_29 (dk_at dksX6_look_5 5 rfl rfl)
theorem dX6_look_146 : decode cX6_look 146 = .ok (.ifCond .ne 8, 3) := dk_154 0 8 (dk_at dksX6_look_5 6 rfl rfl)
theorem dX6_look_149 : decode cX6_look 149 = .ok (.iload 4, 2) := dk_21 4 (dk_at dksX6_look_5 9 rfl rfl)
theorem dX6_look_151 : decode cX6_look 151 = .ok (.ifCond .eq 12, 3) := dk_153 0 12 (dk_at dksX6_look_5 11 rfl rfl)
theorem dX6_look_154 : decode cX6_look 154 = .ok (.aload_n 0, 1) := dk_42 (dk_at dksX6_look_5 14 rfl rfl)
theorem dX6_look_155 : decode cX6_look 155 = .ok (.getfield 38, 3) := dk_180 0 38 (dk_at dksX6_look_5 15 rfl rfl)
theorem dX6_look_158 : decode cX6_look 158 = .ok (.iload_n 1, 1) := dk_27 (dk_at dksX6_look_5 18 rfl rfl)
theorem dX6_look_159 : decode cX6_look 159 = .ok (.iaload, 1) := dk_46 (dk_at dksX6_look_5 19 rfl rfl)
theorem dX6_look_160 : decode cX6_look 160 = .ok (.goto 4, 3) := dk_167 0 4 (dk_at dksX6_look_5 20 rfl rfl)
theorem dX6_look_163 : decode cX6_look 163 = .ok (.iconst 0, 1) := dk_3 (dk_at dksX6_look_5 23 rfl rfl)
theorem dX6_look_164 : decode cX6_look 164 = .ok (.ireturn, 1) := dk_172 (dk_at dksX6_look_6 0 rfl rfl)
theorem dX6_look_165 : decode cX6_look 165 = .ok (.iload 4, 2) := dk_21 4 (dk_at dksX6_look_6 1 rfl rfl)
theorem dX6_look_167 : decode cX6_look 167 = .ok (.ifCond .eq 12, 3) := dk_153 0 12 (dk_at dksX6_look_6 3 rfl rfl)
theorem dX6_look_170 : decode cX6_look 170 = .ok (.aload_n 0, 1) := dk_42 (dk_at dksX6_look_6 6 rfl rfl)
theorem dX6_look_171 : decode cX6_look 171 = .ok (.getfield 41, 3) := dk_180 0 41 (dk_at dksX6_look_6 7 rfl rfl)
theorem dX6_look_174 : decode cX6_look 174 = .ok (.iload_n 1, 1) := dk_27 (dk_at dksX6_look_6 10 rfl rfl)
theorem dX6_look_175 : decode cX6_look 175 = .ok (.iaload, 1) := dk_46 (dk_at dksX6_look_6 11 rfl rfl)
theorem dX6_look_176 : decode cX6_look 176 = .ok (.goto 4, 3) := dk_167 0 4 (dk_at dksX6_look_6 12 rfl rfl)
theorem dX6_look_179 : decode cX6_look 179 = .ok (.iconst (-1), 1) := dk_2 (dk_at dksX6_look_6 15 rfl rfl)
theorem dX6_look_180 : decode cX6_look 180 = .ok (.ireturn, 1) := dk_172 (dk_at dksX6_look_6 16 rfl rfl)
theorem dX6_look_181 : decode cX6_look 181 = .ok (.iload 4, 2) := dk_21 4 (dk_at dksX6_look_6 17 rfl rfl)
theorem dX6_look_183 : decode cX6_look 183 = .ok (.ifCond .eq 12, 3) := dk_153 0 12 (dk_at dksX6_look_6 19 rfl rfl)
theorem dX6_look_186 : decode cX6_look 186 = .ok (.aload_n 0, 1) := dk_42 (dk_at dksX6_look_6 22 rfl rfl)
theorem dX6_look_187 : decode cX6_look 187 = .ok (.getfield 44, 3) := dk_180 0 44 (dk_at dksX6_look_7 0 rfl rfl)
theorem dX6_look_190 : decode cX6_look 190 = .ok (.iload_n 1, 1) := dk_27 (dk_at dksX6_look_7 3 rfl rfl)
theorem dX6_look_191 : decode cX6_look 191 = .ok (.iaload, 1) := dk_46 (dk_at dksX6_look_7 4 rfl rfl)
theorem dX6_look_192 : decode cX6_look 192 = .ok (.goto 4, 3) := dk_167 0 4 (dk_at dksX6_look_7 5 rfl rfl)
theorem dX6_look_195 : decode cX6_look 195 = .ok (.iconst 0, 1) := dk_3 (dk_at dksX6_look_7 8 rfl rfl)
theorem dX6_look_196 : decode cX6_look 196 = .ok (.ireturn, 1) := dk_172 (dk_at dksX6_look_7 9 rfl rfl)
theorem dX6_look_197 : decode cX6_look 197 = .ok (.aload_n 0, 1) := dk_42 (dk_at dksX6_look_7 10 rfl rfl)
theorem dX6_look_198 : decode cX6_look 198 = .ok (.getfield 47, 3) := dk_180 0 47 (dk_at dksX6_look_7 11 rfl rfl)
theorem dX6_look_201 : decode cX6_look 201 = .ok (.iload_n 1, 1) := dk_27 (dk_at dksX6_look_7 14 rfl rfl)
theorem dX6_look_202 : decode cX6_look 202 = .ok (.iaload, 1) := dk_46 (dk_at dksX6_look_7 15 rfl rfl)
theorem dX6_look_203 : decode cX6_look 203 = .ok (.bipush 12, 2) := dk_16 12 (dk_at dksX6_look_7 16 rfl rfl)
theorem dX6_look_205 : decode cX6_look 205 = .ok (.idiv, 1) := dk_108 (dk_at dksX6_look_7 18 rfl rfl)
theorem dX6_look_206 : decode cX6_look 206 = .ok (.ireturn, 1) := dk_172 (dk_at dksX6_look_7 19 rfl rfl)
theorem dX6_look_207 : decode cX6_look 207 = .ok (.aload_n 0, 1) := dk_42 (dk_at dksX6_look_7 20 rfl rfl)
theorem dX6_look_208 : decode cX6_look 208 = .ok (.getfield 47, 3) := dk_180 0 47 (dk_at dksX6_look_7 21 rfl rfl)
theorem dX6_look_211 : decode cX6_look 211 = .ok (.iload_n 1, 1) := dk_27 (dk_at dksX6_look_8 0 rfl rfl)
theorem dX6_look_212 : decode cX6_look 212 = .ok (.iaload, 1) := dk_46 (dk_at dksX6_look_8 1 rfl rfl)
theorem dX6_look_213 : decode cX6_look 213 = .ok (.bipush 12, 2) := dk_16 12 (dk_at dksX6_look_8 2 rfl rfl)
theorem dX6_look_215 : decode cX6_look 215 = .ok (.irem, 1) := dk_112 (dk_at dksX6_look_8 4 rfl rfl)
theorem dX6_look_216 : decode cX6_look 216 = .ok (.ireturn, 1) := dk_172 (dk_at dksX6_look_8 5 rfl rfl)
theorem dX6_look_217 : decode cX6_look 217 = .ok (.aload_n 0, 1) := dk_42 (dk_at dksX6_look_8 6 rfl rfl)
theorem dX6_look_218 : decode cX6_look 218 = .ok (.getfield 50, 3) := dk_180 0 50 (dk_at dksX6_look_8 7 rfl rfl)
theorem dX6_look_221 : decode cX6_look 221 = .ok (.iload_n 1, 1) := dk_27 (dk_at dksX6_look_8 10 rfl rfl)
theorem dX6_look_222 : decode cX6_look 222 = .ok (.iaload, 1) := dk_46 (dk_at dksX6_look_8 11 rfl rfl)
theorem dX6_look_223 : decode cX6_look 223 = .ok (.ireturn, 1) := dk_172 (dk_at dksX6_look_8 12 rfl rfl)
theorem dX6_look_224 : decode cX6_look 224 = .ok (.iconst 0, 1) := dk_3 (dk_at dksX6_look_8 13 rfl rfl)
theorem dX6_look_225 : decode cX6_look 225 = .ok (.istore 5, 2) := dk_54 5 (dk_at dksX6_look_8 14 rfl rfl)
theorem dX6_look_227 : decode cX6_look 227 = .ok (.iconst 0, 1) := dk_3 (dk_at dksX6_look_8 16 rfl rfl)
theorem dX6_look_228 : decode cX6_look 228 = .ok (.istore 6, 2) := dk_54 6 (dk_at dksX6_look_8 17 rfl rfl)
theorem dX6_look_230 : decode cX6_look 230 = .ok (.iconst 0, 1) := dk_3 (dk_at dksX6_look_8 19 rfl rfl)
theorem dX6_look_231 : decode cX6_look 231 = .ok (.istore 7, 2) := dk_54 7 (dk_at dksX6_look_8 20 rfl rfl)
theorem dX6_look_233 : decode cX6_look 233 = .ok (.iload 7, 2) := dk_21 7 (dk_at dksX6_look_8 22 rfl rfl)
theorem dX6_look_235 : decode cX6_look 235 = .ok (.aload_n 0, 1) := dk_42 (dk_at dksX6_look_9 0 rfl rfl)
theorem dX6_look_236 : decode cX6_look 236 = .ok (.getfield 144, 3) := dk_180 0 144 (dk_at dksX6_look_9 1 rfl rfl)
theorem dX6_look_239 : decode cX6_look 239 = .ok (.if_icmp .ge 63, 3) := dk_162 0 63 (dk_at dksX6_look_9 4 rfl rfl)
theorem dX6_look_242 : decode cX6_look 242 = .ok (.aload_n 0, 1) := dk_42 (dk_at dksX6_look_9 7 rfl rfl)
theorem dX6_look_243 : decode cX6_look 243 = .ok (.getfield 86, 3) := dk_180 0 86 (dk_at dksX6_look_9 8 rfl rfl)
theorem dX6_look_246 : decode cX6_look 246 = .ok (.iload 7, 2) := dk_21 7 (dk_at dksX6_look_9 11 rfl rfl)
theorem dX6_look_248 : decode cX6_look 248 = .ok (.iaload, 1) := dk_46 (dk_at dksX6_look_9 13 rfl rfl)
theorem dX6_look_249 : decode cX6_look 249 = .ok (.iconst 2, 1) := dk_5 (dk_at dksX6_look_9 14 rfl rfl)
theorem dX6_look_250 : decode cX6_look 250 = .ok (.if_icmp .ne 46, 3) := dk_160 0 46 (dk_at dksX6_look_9 15 rfl rfl)
theorem dX6_look_253 : decode cX6_look 253 = .ok (.aload_n 0, 1) := dk_42 (dk_at dksX6_look_9 18 rfl rfl)
theorem dX6_look_254 : decode cX6_look 254 = .ok (.getfield 89, 3) := dk_180 0 89 (dk_at dksX6_look_9 19 rfl rfl)
theorem dX6_look_257 : decode cX6_look 257 = .ok (.iload 7, 2) := dk_21 7 (dk_at dksX6_look_9 22 rfl rfl)
theorem dX6_look_259 : decode cX6_look 259 = .ok (.iaload, 1) := dk_46 (dk_at dksX6_look_10 0 rfl rfl)
theorem dX6_look_260 : decode cX6_look 260 = .ok (.iload_n 1, 1) := dk_27 (dk_at dksX6_look_10 1 rfl rfl)
theorem dX6_look_261 : decode cX6_look 261 = .ok (.if_icmp .eq 6, 3) := dk_159 0 6 (dk_at dksX6_look_10 2 rfl rfl)
theorem dX6_look_264 : decode cX6_look 264 = .ok (.goto 32, 3) := dk_167 0 32 (dk_at dksX6_look_10 5 rfl rfl)
theorem dX6_look_267 : decode cX6_look 267 = .ok (.iinc 5 1, 3) := dk_132 5 1 (dk_at dksX6_look_10 8 rfl rfl)
theorem dX6_look_270 : decode cX6_look 270 = .ok (.aload_n 0, 1) := dk_42 (dk_at dksX6_look_10 11 rfl rfl)
theorem dX6_look_271 : decode cX6_look 271 = .ok (.getfield 98, 3) := dk_180 0 98 (dk_at dksX6_look_10 12 rfl rfl)
theorem dX6_look_274 : decode cX6_look 274 = .ok (.iload 7, 2) := dk_21 7 (dk_at dksX6_look_10 15 rfl rfl)
theorem dX6_look_276 : decode cX6_look 276 = .ok (.iaload, 1) := dk_46 (dk_at dksX6_look_10 17 rfl rfl)
theorem dX6_look_277 : decode cX6_look 277 = .ok (.iload 6, 2) := dk_21 6 (dk_at dksX6_look_10 18 rfl rfl)
theorem dX6_look_279 : decode cX6_look 279 = .ok (.if_icmp .le 13, 3) := dk_164 0 13 (dk_at dksX6_look_10 20 rfl rfl)
theorem dX6_look_282 : decode cX6_look 282 = .ok (.aload_n 0, 1) := dk_42 (dk_at dksX6_look_10 23 rfl rfl)
theorem dX6_look_283 : decode cX6_look 283 = .ok (.getfield 98, 3) := dk_180 0 98 (dk_at dksX6_look_11 0 rfl rfl)
theorem dX6_look_286 : decode cX6_look 286 = .ok (.iload 7, 2) := dk_21 7 (dk_at dksX6_look_11 3 rfl rfl)
theorem dX6_look_288 : decode cX6_look 288 = .ok (.iaload, 1) := dk_46 (dk_at dksX6_look_11 5 rfl rfl)
theorem dX6_look_289 : decode cX6_look 289 = .ok (.goto 5, 3) := dk_167 0 5 (dk_at dksX6_look_11 6 rfl rfl)
theorem dX6_look_292 : decode cX6_look 292 = .ok (.iload 6, 2) := dk_21 6 (dk_at dksX6_look_11 9 rfl rfl)
theorem dX6_look_294 : decode cX6_look 294 = .ok (.istore 6, 2) := dk_54 6 (dk_at dksX6_look_11 11 rfl rfl)
theorem dX6_look_296 : decode cX6_look 296 = .ok (.iinc 7 1, 3) := dk_132 7 1 (dk_at dksX6_look_11 13 rfl rfl)
theorem dX6_look_299 : decode cX6_look 299 = .ok (.goto (-66), 3) := dk_167 255 190 (dk_at dksX6_look_11 16 rfl rfl)
theorem dX6_look_302 : decode cX6_look 302 = .ok (.iload_n 2, 1) := dk_28 (dk_at dksX6_look_11 19 rfl rfl)
theorem dX6_look_303 : decode cX6_look 303 = .ok (.bipush 9, 2) := dk_16 9 (dk_at dksX6_look_11 20 rfl rfl)
theorem dX6_look_305 : decode cX6_look 305 = .ok (.if_icmp .ne 8, 3) := dk_160 0 8 (dk_at dksX6_look_12 0 rfl rfl)
theorem dX6_look_308 : decode cX6_look 308 = .ok (.iload 5, 2) := dk_21 5 (dk_at dksX6_look_12 3 rfl rfl)
theorem dX6_look_310 : decode cX6_look 310 = .ok (.goto 5, 3) := dk_167 0 5 (dk_at dksX6_look_12 5 rfl rfl)
theorem dX6_look_313 : decode cX6_look 313 = .ok (.iload 6, 2) := dk_21 6 (dk_at dksX6_look_12 8 rfl rfl)
theorem dX6_look_315 : decode cX6_look 315 = .ok (.ireturn, 1) := dk_172 (dk_at dksX6_look_12 10 rfl rfl)
abbrev cX6_who : ByteArray := prog_21_method_82_code
def yX6_who : MethodName := ⟨RX6, "who", "(III)I"⟩
def dkwX6_who_4 : List UInt8 := [27, 104, 5, 28, 104, 96, 29, 96, 46, 172]
abbrev dktX6_who_4 : List UInt8 := dkwX6_who_4 ++ []
def dkwX6_who_3 : List UInt8 := [27, 182, 0, 222, 162, 0, 12, 29, 155, 0, 8, 29, 4, 164, 0, 5, 2, 172, 42, 180, 0, 71, 16, 8]
abbrev dktX6_who_3 : List UInt8 := dkwX6_who_3 ++ dktX6_who_4
def dkwX6_who_2 : List UInt8 := [16, 40, 27, 104, 28, 96, 46, 167, 0, 4, 2, 172, 42, 180, 0, 32, 27, 46, 7, 159, 0, 21, 28, 42]
abbrev dktX6_who_2 : List UInt8 := dkwX6_who_2 ++ dktX6_who_3
def dkwX6_who_1 : List UInt8 := [46, 8, 160, 0, 33, 29, 154, 0, 27, 28, 42, 180, 0, 77, 27, 46, 162, 0, 17, 42, 180, 0, 74]
abbrev dktX6_who_1 : List UInt8 := dkwX6_who_1 ++ dktX6_who_2
def dkwX6_who_0 : List UInt8 := [42, 3, 181, 0, 131, 42, 27, 182, 0, 186, 153, 0, 7, 28, 156, 0, 5, 2, 172, 42, 180, 0, 29, 27]
abbrev dktX6_who_0 : List UInt8 := dkwX6_who_0 ++ dktX6_who_1
theorem dksX6_who_0 : cX6_who.data.toList.drop 0 = dktX6_who_0 := by decide +kernel
theorem dksX6_who_1 : cX6_who.data.toList.drop 24 = dktX6_who_1 := dk_seg dksX6_who_0 24 rfl rfl
theorem dksX6_who_2 : cX6_who.data.toList.drop 47 = dktX6_who_2 := dk_seg dksX6_who_1 23 rfl rfl
theorem dksX6_who_3 : cX6_who.data.toList.drop 71 = dktX6_who_3 := dk_seg dksX6_who_2 24 rfl rfl
theorem dksX6_who_4 : cX6_who.data.toList.drop 95 = dktX6_who_4 := dk_seg dksX6_who_3 24 rfl rfl
theorem dX6_who_0 : decode cX6_who 0 = .ok (.aload_n 0, 1) := dk_42 (dk_at dksX6_who_0 0 rfl rfl)
theorem dX6_who_1 : decode cX6_who 1 = .ok (.iconst 0, 1) := dk_3 (dk_at dksX6_who_0 1 rfl rfl)
theorem dX6_who_2 : decode cX6_who 2 = .ok (.putfield 131, 3) := dk_181 0 131 (dk_at dksX6_who_0 2 rfl rfl)
theorem dX6_who_5 : decode cX6_who 5 = .ok (.aload_n 0, 1) := dk_42 (dk_at dksX6_who_0 5 rfl rfl)
theorem dX6_who_6 : decode cX6_who 6 = .ok (.iload_n 1, 1) := dk_27 (dk_at dksX6_who_0 6 rfl rfl)
theorem dX6_who_7 : decode cX6_who 7 = .ok (.invokevirtual 186, 3) := dk_182 0 186 (dk_at dksX6_who_0 7 rfl rfl)
theorem dX6_who_10 : decode cX6_who 10 = .ok (.ifCond .eq 7, 3) := dk_153 0 7 (dk_at dksX6_who_0 10 rfl rfl)
theorem dX6_who_13 : decode cX6_who 13 = .ok (.iload_n 2, 1) := dk_28 (dk_at dksX6_who_0 13 rfl rfl)
theorem dX6_who_14 : decode cX6_who 14 = .ok (.ifCond .ge 5, 3) := dk_156 0 5 (dk_at dksX6_who_0 14 rfl rfl)
theorem dX6_who_17 : decode cX6_who 17 = .ok (.iconst (-1), 1) := dk_2 (dk_at dksX6_who_0 17 rfl rfl)
theorem dX6_who_18 : decode cX6_who 18 = .ok (.ireturn, 1) := dk_172 (dk_at dksX6_who_0 18 rfl rfl)
theorem dX6_who_19 : decode cX6_who 19 = .ok (.aload_n 0, 1) := dk_42 (dk_at dksX6_who_0 19 rfl rfl)
theorem dX6_who_20 : decode cX6_who 20 = .ok (.getfield 29, 3) := dk_180 0 29 (dk_at dksX6_who_0 20 rfl rfl)
theorem dX6_who_23 : decode cX6_who 23 = .ok (.iload_n 1, 1) := dk_27 (dk_at dksX6_who_0 23 rfl rfl)
theorem dX6_who_24 : decode cX6_who 24 = .ok (.iaload, 1) := dk_46 (dk_at dksX6_who_1 0 rfl rfl)
theorem dX6_who_25 : decode cX6_who 25 = .ok (.iconst 5, 1) := dk_8 (dk_at dksX6_who_1 1 rfl rfl)
theorem dX6_who_26 : decode cX6_who 26 = .ok (.if_icmp .ne 33, 3) := dk_160 0 33 (dk_at dksX6_who_1 2 rfl rfl)
theorem dX6_who_29 : decode cX6_who 29 = .ok (.iload_n 3, 1) := dk_29 (dk_at dksX6_who_1 5 rfl rfl)
theorem dX6_who_30 : decode cX6_who 30 = .ok (.ifCond .ne 27, 3) := dk_154 0 27 (dk_at dksX6_who_1 6 rfl rfl)
theorem dX6_who_33 : decode cX6_who 33 = .ok (.iload_n 2, 1) := dk_28 (dk_at dksX6_who_1 9 rfl rfl)
theorem dX6_who_34 : decode cX6_who 34 = .ok (.aload_n 0, 1) := dk_42 (dk_at dksX6_who_1 10 rfl rfl)
theorem dX6_who_35 : decode cX6_who 35 = .ok (.getfield 77, 3) := dk_180 0 77 (dk_at dksX6_who_1 11 rfl rfl)
theorem dX6_who_38 : decode cX6_who 38 = .ok (.iload_n 1, 1) := dk_27 (dk_at dksX6_who_1 14 rfl rfl)
theorem dX6_who_39 : decode cX6_who 39 = .ok (.iaload, 1) := dk_46 (dk_at dksX6_who_1 15 rfl rfl)
theorem dX6_who_40 : decode cX6_who 40 = .ok (.if_icmp .ge 17, 3) := dk_162 0 17 (dk_at dksX6_who_1 16 rfl rfl)
theorem dX6_who_43 : decode cX6_who 43 = .ok (.aload_n 0, 1) := dk_42 (dk_at dksX6_who_1 19 rfl rfl)
theorem dX6_who_44 : decode cX6_who 44 = .ok (.getfield 74, 3) := dk_180 0 74 (dk_at dksX6_who_1 20 rfl rfl)
theorem dX6_who_47 : decode cX6_who 47 = .ok (.bipush 40, 2) := dk_16 40 (dk_at dksX6_who_2 0 rfl rfl)
theorem dX6_who_49 : decode cX6_who 49 = .ok (.iload_n 1, 1) := dk_27 (dk_at dksX6_who_2 2 rfl rfl)
theorem dX6_who_50 : decode cX6_who 50 = .ok (.imul, 1) := dk_104 (dk_at dksX6_who_2 3 rfl rfl)
theorem dX6_who_51 : decode cX6_who 51 = .ok (.iload_n 2, 1) := dk_28 (dk_at dksX6_who_2 4 rfl rfl)
theorem dX6_who_52 : decode cX6_who 52 = .ok (.iadd, 1) := dk_96 (dk_at dksX6_who_2 5 rfl rfl)
theorem dX6_who_53 : decode cX6_who 53 = .ok (.iaload, 1) := dk_46 (dk_at dksX6_who_2 6 rfl rfl)
theorem dX6_who_54 : decode cX6_who 54 = .ok (.goto 4, 3) := dk_167 0 4 (dk_at dksX6_who_2 7 rfl rfl)
theorem dX6_who_57 : decode cX6_who 57 = .ok (.iconst (-1), 1) := dk_2 (dk_at dksX6_who_2 10 rfl rfl)
theorem dX6_who_58 : decode cX6_who 58 = .ok (.ireturn, 1) := dk_172 (dk_at dksX6_who_2 11 rfl rfl)
theorem dX6_who_59 : decode cX6_who 59 = .ok (.aload_n 0, 1) := dk_42 (dk_at dksX6_who_2 12 rfl rfl)
theorem dX6_who_60 : decode cX6_who 60 = .ok (.getfield 32, 3) := dk_180 0 32 (dk_at dksX6_who_2 13 rfl rfl)
theorem dX6_who_63 : decode cX6_who 63 = .ok (.iload_n 1, 1) := dk_27 (dk_at dksX6_who_2 16 rfl rfl)
theorem dX6_who_64 : decode cX6_who 64 = .ok (.iaload, 1) := dk_46 (dk_at dksX6_who_2 17 rfl rfl)
theorem dX6_who_65 : decode cX6_who 65 = .ok (.iconst 4, 1) := dk_7 (dk_at dksX6_who_2 18 rfl rfl)
theorem dX6_who_66 : decode cX6_who 66 = .ok (.if_icmp .eq 21, 3) := dk_159 0 21 (dk_at dksX6_who_2 19 rfl rfl)
theorem dX6_who_69 : decode cX6_who 69 = .ok (.iload_n 2, 1) := dk_28 (dk_at dksX6_who_2 22 rfl rfl)
theorem dX6_who_70 : decode cX6_who 70 = .ok (.aload_n 0, 1) := dk_42 (dk_at dksX6_who_2 23 rfl rfl)
theorem dX6_who_71 : decode cX6_who 71 = .ok (.iload_n 1, 1) := dk_27 (dk_at dksX6_who_3 0 rfl rfl)
theorem dX6_who_72 : decode cX6_who 72 = .ok (.invokevirtual 222, 3) := dk_182 0 222 (dk_at dksX6_who_3 1 rfl rfl)
theorem dX6_who_75 : decode cX6_who 75 = .ok (.if_icmp .ge 12, 3) := dk_162 0 12 (dk_at dksX6_who_3 4 rfl rfl)
theorem dX6_who_78 : decode cX6_who 78 = .ok (.iload_n 3, 1) := dk_29 (dk_at dksX6_who_3 7 rfl rfl)
theorem dX6_who_79 : decode cX6_who 79 = .ok (.ifCond .lt 8, 3) := dk_155 0 8 (dk_at dksX6_who_3 8 rfl rfl)
theorem dX6_who_82 : decode cX6_who 82 = .ok (.iload_n 3, 1) := dk_29 (dk_at dksX6_who_3 11 rfl rfl)
theorem dX6_who_83 : decode cX6_who 83 = .ok (.iconst 1, 1) := dk_4 (dk_at dksX6_who_3 12 rfl rfl)
theorem dX6_who_84 : decode cX6_who 84 = .ok (.if_icmp .le 5, 3) := dk_164 0 5 (dk_at dksX6_who_3 13 rfl rfl)
theorem dX6_who_87 : decode cX6_who 87 = .ok (.iconst (-1), 1) := dk_2 (dk_at dksX6_who_3 16 rfl rfl)
theorem dX6_who_88 : decode cX6_who 88 = .ok (.ireturn, 1) := dk_172 (dk_at dksX6_who_3 17 rfl rfl)
theorem dX6_who_89 : decode cX6_who 89 = .ok (.aload_n 0, 1) := dk_42 (dk_at dksX6_who_3 18 rfl rfl)
theorem dX6_who_90 : decode cX6_who 90 = .ok (.getfield 71, 3) := dk_180 0 71 (dk_at dksX6_who_3 19 rfl rfl)
theorem dX6_who_93 : decode cX6_who 93 = .ok (.bipush 8, 2) := dk_16 8 (dk_at dksX6_who_3 22 rfl rfl)
theorem dX6_who_95 : decode cX6_who 95 = .ok (.iload_n 1, 1) := dk_27 (dk_at dksX6_who_4 0 rfl rfl)
theorem dX6_who_96 : decode cX6_who 96 = .ok (.imul, 1) := dk_104 (dk_at dksX6_who_4 1 rfl rfl)
theorem dX6_who_97 : decode cX6_who 97 = .ok (.iconst 2, 1) := dk_5 (dk_at dksX6_who_4 2 rfl rfl)
theorem dX6_who_98 : decode cX6_who 98 = .ok (.iload_n 2, 1) := dk_28 (dk_at dksX6_who_4 3 rfl rfl)
theorem dX6_who_99 : decode cX6_who 99 = .ok (.imul, 1) := dk_104 (dk_at dksX6_who_4 4 rfl rfl)
theorem dX6_who_100 : decode cX6_who 100 = .ok (.iadd, 1) := dk_96 (dk_at dksX6_who_4 5 rfl rfl)
theorem dX6_who_101 : decode cX6_who 101 = .ok (.iload_n 3, 1) := dk_29 (dk_at dksX6_who_4 6 rfl rfl)
theorem dX6_who_102 : decode cX6_who 102 = .ok (.iadd, 1) := dk_96 (dk_at dksX6_who_4 7 rfl rfl)
theorem dX6_who_103 : decode cX6_who 103 = .ok (.iaload, 1) := dk_46 (dk_at dksX6_who_4 8 rfl rfl)
theorem dX6_who_104 : decode cX6_who 104 = .ok (.ireturn, 1) := dk_172 (dk_at dksX6_who_4 9 rfl rfl)
abbrev cX6_of : ByteArray := prog_21_method_83_code
def yX6_of : MethodName := ⟨RX6, "of", "(II)I"⟩
def dkwX6_of_6 : List UInt8 := [180, 0, 107, 27, 46, 172, 42, 180, 0, 110, 27, 46, 172]
abbrev dktX6_of_6 : List UInt8 := dkwX6_of_6 ++ []
def dkwX6_of_5 : List UInt8 := [46, 172, 42, 180, 0, 101, 27, 46, 172, 42, 180, 0, 80, 27, 46, 172, 42, 180, 0, 104, 27, 46, 172, 42]
abbrev dktX6_of_5 : List UInt8 := dkwX6_of_5 ++ dktX6_of_6
def dkwX6_of_4 : List UInt8 := [167, 0, 4, 2, 172, 42, 180, 0, 92, 27, 46, 172, 42, 180, 0, 95, 27, 46, 172, 42, 180, 0, 98, 27]
abbrev dktX6_of_4 : List UInt8 := dkwX6_of_4 ++ dktX6_of_5
def dkwX6_of_3 : List UInt8 := [42, 180, 0, 86, 27, 46, 172, 42, 180, 0, 86, 27, 46, 5, 160, 0, 12, 42, 180, 0, 89, 27, 46]
abbrev dktX6_of_3 : List UInt8 := dkwX6_of_3 ++ dktX6_of_4
def dkwX6_of_2 : List UInt8 := [170, 0, 0, 0, 126, 0, 0, 0, 0, 0, 0, 0, 8, 0, 0, 0, 49, 0, 0, 0, 56, 0, 0, 0, 77, 0, 0, 0, 84, 0, 0, 0, 91, 0, 0, 0, 98, 0, 0, 0, 105, 0, 0, 0, 112, 0, 0, 0, 119]
abbrev dktX6_of_2 : List UInt8 := dkwX6_of_2 ++ dktX6_of_3
def dkwX6_of_1 : List UInt8 := [4, 181, 0, 131, 3, 172, 28]
abbrev dktX6_of_1 : List UInt8 := dkwX6_of_1 ++ dktX6_of_2
def dkwX6_of_0 : List UInt8 := [42, 3, 181, 0, 131, 42, 27, 182, 0, 183, 153, 0, 13, 28, 155, 0, 9, 28, 16, 9, 164, 0, 10, 42]
abbrev dktX6_of_0 : List UInt8 := dkwX6_of_0 ++ dktX6_of_1
theorem dksX6_of_0 : cX6_of.data.toList.drop 0 = dktX6_of_0 := by decide +kernel
theorem dksX6_of_1 : cX6_of.data.toList.drop 24 = dktX6_of_1 := dk_seg dksX6_of_0 24 rfl rfl
theorem dksX6_of_2 : cX6_of.data.toList.drop 31 = dktX6_of_2 := dk_seg dksX6_of_1 7 rfl rfl
theorem dksX6_of_3 : cX6_of.data.toList.drop 80 = dktX6_of_3 := dk_seg dksX6_of_2 49 rfl rfl
theorem dksX6_of_4 : cX6_of.data.toList.drop 103 = dktX6_of_4 := dk_seg dksX6_of_3 23 rfl rfl
theorem dksX6_of_5 : cX6_of.data.toList.drop 127 = dktX6_of_5 := dk_seg dksX6_of_4 24 rfl rfl
theorem dksX6_of_6 : cX6_of.data.toList.drop 151 = dktX6_of_6 := dk_seg dksX6_of_5 24 rfl rfl
theorem dX6_of_0 : decode cX6_of 0 = .ok (.aload_n 0, 1) := dk_42 (dk_at dksX6_of_0 0 rfl rfl)
theorem dX6_of_1 : decode cX6_of 1 = .ok (.iconst 0, 1) := dk_3 (dk_at dksX6_of_0 1 rfl rfl)
theorem dX6_of_2 : decode cX6_of 2 = .ok (.putfield 131, 3) := dk_181 0 131 (dk_at dksX6_of_0 2 rfl rfl)
theorem dX6_of_5 : decode cX6_of 5 = .ok (.aload_n 0, 1) := dk_42 (dk_at dksX6_of_0 5 rfl rfl)
theorem dX6_of_6 : decode cX6_of 6 = .ok (.iload_n 1, 1) := dk_27 (dk_at dksX6_of_0 6 rfl rfl)
theorem dX6_of_7 : decode cX6_of 7 = .ok (.invokevirtual 183, 3) := dk_182 0 183 (dk_at dksX6_of_0 7 rfl rfl)
theorem dX6_of_10 : decode cX6_of 10 = .ok (.ifCond .eq 13, 3) := dk_153 0 13 (dk_at dksX6_of_0 10 rfl rfl)
theorem dX6_of_13 : decode cX6_of 13 = .ok (.iload_n 2, 1) := dk_28 (dk_at dksX6_of_0 13 rfl rfl)
theorem dX6_of_14 : decode cX6_of 14 = .ok (.ifCond .lt 9, 3) := dk_155 0 9 (dk_at dksX6_of_0 14 rfl rfl)
theorem dX6_of_17 : decode cX6_of 17 = .ok (.iload_n 2, 1) := dk_28 (dk_at dksX6_of_0 17 rfl rfl)
theorem dX6_of_18 : decode cX6_of 18 = .ok (.bipush 9, 2) := dk_16 9 (dk_at dksX6_of_0 18 rfl rfl)
theorem dX6_of_20 : decode cX6_of 20 = .ok (.if_icmp .le 10, 3) := dk_164 0 10 (dk_at dksX6_of_0 20 rfl rfl)
theorem dX6_of_23 : decode cX6_of 23 = .ok (.aload_n 0, 1) := dk_42 (dk_at dksX6_of_0 23 rfl rfl)
theorem dX6_of_24 : decode cX6_of 24 = .ok (.iconst 1, 1) := dk_4 (dk_at dksX6_of_1 0 rfl rfl)
theorem dX6_of_25 : decode cX6_of 25 = .ok (.putfield 131, 3) := dk_181 0 131 (dk_at dksX6_of_1 1 rfl rfl)
theorem dX6_of_28 : decode cX6_of 28 = .ok (.iconst 0, 1) := dk_3 (dk_at dksX6_of_1 4 rfl rfl)
theorem dX6_of_29 : decode cX6_of 29 = .ok (.ireturn, 1) := dk_172 (dk_at dksX6_of_1 5 rfl rfl)
theorem dX6_of_30 : decode cX6_of 30 = .ok (.iload_n 2, 1) := dk_28 (dk_at dksX6_of_1 6 rfl rfl)
theorem dX6_of_31 : decode cX6_of 31 = .ok (.tableswitch 126 0 8 #[49, 56, 77, 84, 91, 98, 105, 112, 119], 49) := by decide +kernel
theorem dX6_of_80 : decode cX6_of 80 = .ok (.aload_n 0, 1) := dk_42 (dk_at dksX6_of_3 0 rfl rfl)
theorem dX6_of_81 : decode cX6_of 81 = .ok (.getfield 86, 3) := dk_180 0 86 (dk_at dksX6_of_3 1 rfl rfl)
theorem dX6_of_84 : decode cX6_of 84 = .ok (.iload_n 1, 1) := dk_27 (dk_at dksX6_of_3 4 rfl rfl)
theorem dX6_of_85 : decode cX6_of 85 = .ok (.iaload, 1) := dk_46 (dk_at dksX6_of_3 5 rfl rfl)
theorem dX6_of_86 : decode cX6_of 86 = .ok (.ireturn, 1) := dk_172 (dk_at dksX6_of_3 6 rfl rfl)
theorem dX6_of_87 : decode cX6_of 87 = .ok (.aload_n 0, 1) := dk_42 (dk_at dksX6_of_3 7 rfl rfl)
theorem dX6_of_88 : decode cX6_of 88 = .ok (.getfield 86, 3) := dk_180 0 86 (dk_at dksX6_of_3 8 rfl rfl)
theorem dX6_of_91 : decode cX6_of 91 = .ok (.iload_n 1, 1) := dk_27 (dk_at dksX6_of_3 11 rfl rfl)
theorem dX6_of_92 : decode cX6_of 92 = .ok (.iaload, 1) := dk_46 (dk_at dksX6_of_3 12 rfl rfl)
theorem dX6_of_93 : decode cX6_of 93 = .ok (.iconst 2, 1) := dk_5 (dk_at dksX6_of_3 13 rfl rfl)
theorem dX6_of_94 : decode cX6_of 94 = .ok (.if_icmp .ne 12, 3) := dk_160 0 12 (dk_at dksX6_of_3 14 rfl rfl)
theorem dX6_of_97 : decode cX6_of 97 = .ok (.aload_n 0, 1) := dk_42 (dk_at dksX6_of_3 17 rfl rfl)
theorem dX6_of_98 : decode cX6_of 98 = .ok (.getfield 89, 3) := dk_180 0 89 (dk_at dksX6_of_3 18 rfl rfl)
theorem dX6_of_101 : decode cX6_of 101 = .ok (.iload_n 1, 1) := dk_27 (dk_at dksX6_of_3 21 rfl rfl)
theorem dX6_of_102 : decode cX6_of 102 = .ok (.iaload, 1) := dk_46 (dk_at dksX6_of_3 22 rfl rfl)
theorem dX6_of_103 : decode cX6_of 103 = .ok (.goto 4, 3) := dk_167 0 4 (dk_at dksX6_of_4 0 rfl rfl)
theorem dX6_of_106 : decode cX6_of 106 = .ok (.iconst (-1), 1) := dk_2 (dk_at dksX6_of_4 3 rfl rfl)
theorem dX6_of_107 : decode cX6_of 107 = .ok (.ireturn, 1) := dk_172 (dk_at dksX6_of_4 4 rfl rfl)
theorem dX6_of_108 : decode cX6_of 108 = .ok (.aload_n 0, 1) := dk_42 (dk_at dksX6_of_4 5 rfl rfl)
theorem dX6_of_109 : decode cX6_of 109 = .ok (.getfield 92, 3) := dk_180 0 92 (dk_at dksX6_of_4 6 rfl rfl)
theorem dX6_of_112 : decode cX6_of 112 = .ok (.iload_n 1, 1) := dk_27 (dk_at dksX6_of_4 9 rfl rfl)
theorem dX6_of_113 : decode cX6_of 113 = .ok (.iaload, 1) := dk_46 (dk_at dksX6_of_4 10 rfl rfl)
theorem dX6_of_114 : decode cX6_of 114 = .ok (.ireturn, 1) := dk_172 (dk_at dksX6_of_4 11 rfl rfl)
theorem dX6_of_115 : decode cX6_of 115 = .ok (.aload_n 0, 1) := dk_42 (dk_at dksX6_of_4 12 rfl rfl)
theorem dX6_of_116 : decode cX6_of 116 = .ok (.getfield 95, 3) := dk_180 0 95 (dk_at dksX6_of_4 13 rfl rfl)
theorem dX6_of_119 : decode cX6_of 119 = .ok (.iload_n 1, 1) := dk_27 (dk_at dksX6_of_4 16 rfl rfl)
theorem dX6_of_120 : decode cX6_of 120 = .ok (.iaload, 1) := dk_46 (dk_at dksX6_of_4 17 rfl rfl)
theorem dX6_of_121 : decode cX6_of 121 = .ok (.ireturn, 1) := dk_172 (dk_at dksX6_of_4 18 rfl rfl)
theorem dX6_of_122 : decode cX6_of 122 = .ok (.aload_n 0, 1) := dk_42 (dk_at dksX6_of_4 19 rfl rfl)
theorem dX6_of_123 : decode cX6_of 123 = .ok (.getfield 98, 3) := dk_180 0 98 (dk_at dksX6_of_4 20 rfl rfl)
theorem dX6_of_126 : decode cX6_of 126 = .ok (.iload_n 1, 1) := dk_27 (dk_at dksX6_of_4 23 rfl rfl)
theorem dX6_of_127 : decode cX6_of 127 = .ok (.iaload, 1) := dk_46 (dk_at dksX6_of_5 0 rfl rfl)
theorem dX6_of_128 : decode cX6_of 128 = .ok (.ireturn, 1) := dk_172 (dk_at dksX6_of_5 1 rfl rfl)
theorem dX6_of_129 : decode cX6_of 129 = .ok (.aload_n 0, 1) := dk_42 (dk_at dksX6_of_5 2 rfl rfl)
theorem dX6_of_130 : decode cX6_of 130 = .ok (.getfield 101, 3) := dk_180 0 101 (dk_at dksX6_of_5 3 rfl rfl)
theorem dX6_of_133 : decode cX6_of 133 = .ok (.iload_n 1, 1) := dk_27 (dk_at dksX6_of_5 6 rfl rfl)
theorem dX6_of_134 : decode cX6_of 134 = .ok (.iaload, 1) := dk_46 (dk_at dksX6_of_5 7 rfl rfl)
theorem dX6_of_135 : decode cX6_of 135 = .ok (.ireturn, 1) := dk_172 (dk_at dksX6_of_5 8 rfl rfl)
theorem dX6_of_136 : decode cX6_of 136 = .ok (.aload_n 0, 1) := dk_42 (dk_at dksX6_of_5 9 rfl rfl)
theorem dX6_of_137 : decode cX6_of 137 = .ok (.getfield 80, 3) := dk_180 0 80 (dk_at dksX6_of_5 10 rfl rfl)
theorem dX6_of_140 : decode cX6_of 140 = .ok (.iload_n 1, 1) := dk_27 (dk_at dksX6_of_5 13 rfl rfl)
theorem dX6_of_141 : decode cX6_of 141 = .ok (.iaload, 1) := dk_46 (dk_at dksX6_of_5 14 rfl rfl)
theorem dX6_of_142 : decode cX6_of 142 = .ok (.ireturn, 1) := dk_172 (dk_at dksX6_of_5 15 rfl rfl)
theorem dX6_of_143 : decode cX6_of 143 = .ok (.aload_n 0, 1) := dk_42 (dk_at dksX6_of_5 16 rfl rfl)
theorem dX6_of_144 : decode cX6_of 144 = .ok (.getfield 104, 3) := dk_180 0 104 (dk_at dksX6_of_5 17 rfl rfl)
theorem dX6_of_147 : decode cX6_of 147 = .ok (.iload_n 1, 1) := dk_27 (dk_at dksX6_of_5 20 rfl rfl)
theorem dX6_of_148 : decode cX6_of 148 = .ok (.iaload, 1) := dk_46 (dk_at dksX6_of_5 21 rfl rfl)
theorem dX6_of_149 : decode cX6_of 149 = .ok (.ireturn, 1) := dk_172 (dk_at dksX6_of_5 22 rfl rfl)
theorem dX6_of_150 : decode cX6_of 150 = .ok (.aload_n 0, 1) := dk_42 (dk_at dksX6_of_5 23 rfl rfl)
theorem dX6_of_151 : decode cX6_of 151 = .ok (.getfield 107, 3) := dk_180 0 107 (dk_at dksX6_of_6 0 rfl rfl)
theorem dX6_of_154 : decode cX6_of 154 = .ok (.iload_n 1, 1) := dk_27 (dk_at dksX6_of_6 3 rfl rfl)
theorem dX6_of_155 : decode cX6_of 155 = .ok (.iaload, 1) := dk_46 (dk_at dksX6_of_6 4 rfl rfl)
theorem dX6_of_156 : decode cX6_of 156 = .ok (.ireturn, 1) := dk_172 (dk_at dksX6_of_6 5 rfl rfl)
theorem dX6_of_157 : decode cX6_of 157 = .ok (.aload_n 0, 1) := dk_42 (dk_at dksX6_of_6 6 rfl rfl)
theorem dX6_of_158 : decode cX6_of 158 = .ok (.getfield 110, 3) := dk_180 0 110 (dk_at dksX6_of_6 7 rfl rfl)
theorem dX6_of_161 : decode cX6_of 161 = .ok (.iload_n 1, 1) := dk_27 (dk_at dksX6_of_6 10 rfl rfl)
theorem dX6_of_162 : decode cX6_of 162 = .ok (.iaload, 1) := dk_46 (dk_at dksX6_of_6 11 rfl rfl)
theorem dX6_of_163 : decode cX6_of 163 = .ok (.ireturn, 1) := dk_172 (dk_at dksX6_of_6 12 rfl rfl)
abbrev cX6_where : ByteArray := prog_21_method_84_code
def yX6_where : MethodName := ⟨RX6, "where", "(II)I"⟩
def dkwX6_where_3 : List UInt8 := [167, 255, 214, 29, 172]
abbrev dktX6_where_3 : List UInt8 := dkwX6_where_3 ++ []
def dkwX6_where_2 : List UInt8 := [42, 180, 0, 119, 21, 4, 46, 28, 163, 0, 11, 42, 180, 0, 122, 21, 4, 46, 62, 132, 4, 1]
abbrev dktX6_where_2 : List UInt8 := dkwX6_where_2 ++ dktX6_where_3
def dkwX6_where_1 : List UInt8 := [62, 3, 54, 4, 21, 4, 42, 180, 0, 147, 162, 0, 39, 42, 180, 0, 116, 21, 4, 46, 27, 160, 0, 22]
abbrev dktX6_where_1 : List UInt8 := dkwX6_where_1 ++ dktX6_where_2
def dkwX6_where_0 : List UInt8 := [42, 3, 181, 0, 131, 42, 27, 182, 0, 183, 153, 0, 11, 28, 42, 180, 0, 135, 164, 0, 5, 2, 172, 2]
abbrev dktX6_where_0 : List UInt8 := dkwX6_where_0 ++ dktX6_where_1
theorem dksX6_where_0 : cX6_where.data.toList.drop 0 = dktX6_where_0 := by decide +kernel
theorem dksX6_where_1 : cX6_where.data.toList.drop 24 = dktX6_where_1 := dk_seg dksX6_where_0 24 rfl rfl
theorem dksX6_where_2 : cX6_where.data.toList.drop 48 = dktX6_where_2 := dk_seg dksX6_where_1 24 rfl rfl
theorem dksX6_where_3 : cX6_where.data.toList.drop 70 = dktX6_where_3 := dk_seg dksX6_where_2 22 rfl rfl
theorem dX6_where_0 : decode cX6_where 0 = .ok (.aload_n 0, 1) := dk_42 (dk_at dksX6_where_0 0 rfl rfl)
theorem dX6_where_1 : decode cX6_where 1 = .ok (.iconst 0, 1) := dk_3 (dk_at dksX6_where_0 1 rfl rfl)
theorem dX6_where_2 : decode cX6_where 2 = .ok (.putfield 131, 3) := dk_181 0 131 (dk_at dksX6_where_0 2 rfl rfl)
theorem dX6_where_5 : decode cX6_where 5 = .ok (.aload_n 0, 1) := dk_42 (dk_at dksX6_where_0 5 rfl rfl)
theorem dX6_where_6 : decode cX6_where 6 = .ok (.iload_n 1, 1) := dk_27 (dk_at dksX6_where_0 6 rfl rfl)
theorem dX6_where_7 : decode cX6_where 7 = .ok (.invokevirtual 183, 3) := dk_182 0 183 (dk_at dksX6_where_0 7 rfl rfl)
theorem dX6_where_10 : decode cX6_where 10 = .ok (.ifCond .eq 11, 3) := dk_153 0 11 (dk_at dksX6_where_0 10 rfl rfl)
theorem dX6_where_13 : decode cX6_where 13 = .ok (.iload_n 2, 1) := dk_28 (dk_at dksX6_where_0 13 rfl rfl)
theorem dX6_where_14 : decode cX6_where 14 = .ok (.aload_n 0, 1) := dk_42 (dk_at dksX6_where_0 14 rfl rfl)
theorem dX6_where_15 : decode cX6_where 15 = .ok (.getfield 135, 3) := dk_180 0 135 (dk_at dksX6_where_0 15 rfl rfl)
theorem dX6_where_18 : decode cX6_where 18 = .ok (.if_icmp .le 5, 3) := dk_164 0 5 (dk_at dksX6_where_0 18 rfl rfl)
theorem dX6_where_21 : decode cX6_where 21 = .ok (.iconst (-1), 1) := dk_2 (dk_at dksX6_where_0 21 rfl rfl)
theorem dX6_where_22 : decode cX6_where 22 = .ok (.ireturn, 1) := dk_172 (dk_at dksX6_where_0 22 rfl rfl)
theorem dX6_where_23 : decode cX6_where 23 = .ok (.iconst (-1), 1) := dk_2 (dk_at dksX6_where_0 23 rfl rfl)
theorem dX6_where_24 : decode cX6_where 24 = .ok (.istore_n 3, 1) := dk_62 (dk_at dksX6_where_1 0 rfl rfl)
theorem dX6_where_25 : decode cX6_where 25 = .ok (.iconst 0, 1) := dk_3 (dk_at dksX6_where_1 1 rfl rfl)
theorem dX6_where_26 : decode cX6_where 26 = .ok (.istore 4, 2) := dk_54 4 (dk_at dksX6_where_1 2 rfl rfl)
theorem dX6_where_28 : decode cX6_where 28 = .ok (.iload 4, 2) := dk_21 4 (dk_at dksX6_where_1 4 rfl rfl)
theorem dX6_where_30 : decode cX6_where 30 = .ok (.aload_n 0, 1) := dk_42 (dk_at dksX6_where_1 6 rfl rfl)
theorem dX6_where_31 : decode cX6_where 31 = .ok (.getfield 147, 3) := dk_180 0 147 (dk_at dksX6_where_1 7 rfl rfl)
theorem dX6_where_34 : decode cX6_where 34 = .ok (.if_icmp .ge 39, 3) := dk_162 0 39 (dk_at dksX6_where_1 10 rfl rfl)
theorem dX6_where_37 : decode cX6_where 37 = .ok (.aload_n 0, 1) := dk_42 (dk_at dksX6_where_1 13 rfl rfl)
theorem dX6_where_38 : decode cX6_where 38 = .ok (.getfield 116, 3) := dk_180 0 116 (dk_at dksX6_where_1 14 rfl rfl)
theorem dX6_where_41 : decode cX6_where 41 = .ok (.iload 4, 2) := dk_21 4 (dk_at dksX6_where_1 17 rfl rfl)
theorem dX6_where_43 : decode cX6_where 43 = .ok (.iaload, 1) := dk_46 (dk_at dksX6_where_1 19 rfl rfl)
theorem dX6_where_44 : decode cX6_where 44 = .ok (.iload_n 1, 1) := dk_27 (dk_at dksX6_where_1 20 rfl rfl)
theorem dX6_where_45 : decode cX6_where 45 = .ok (.if_icmp .ne 22, 3) := dk_160 0 22 (dk_at dksX6_where_1 21 rfl rfl)
theorem dX6_where_48 : decode cX6_where 48 = .ok (.aload_n 0, 1) := dk_42 (dk_at dksX6_where_2 0 rfl rfl)
theorem dX6_where_49 : decode cX6_where 49 = .ok (.getfield 119, 3) := dk_180 0 119 (dk_at dksX6_where_2 1 rfl rfl)
theorem dX6_where_52 : decode cX6_where 52 = .ok (.iload 4, 2) := dk_21 4 (dk_at dksX6_where_2 4 rfl rfl)
theorem dX6_where_54 : decode cX6_where 54 = .ok (.iaload, 1) := dk_46 (dk_at dksX6_where_2 6 rfl rfl)
theorem dX6_where_55 : decode cX6_where 55 = .ok (.iload_n 2, 1) := dk_28 (dk_at dksX6_where_2 7 rfl rfl)
theorem dX6_where_56 : decode cX6_where 56 = .ok (.if_icmp .gt 11, 3) := dk_163 0 11 (dk_at dksX6_where_2 8 rfl rfl)
theorem dX6_where_59 : decode cX6_where 59 = .ok (.aload_n 0, 1) := dk_42 (dk_at dksX6_where_2 11 rfl rfl)
theorem dX6_where_60 : decode cX6_where 60 = .ok (.getfield 122, 3) := dk_180 0 122 (dk_at dksX6_where_2 12 rfl rfl)
theorem dX6_where_63 : decode cX6_where 63 = .ok (.iload 4, 2) := dk_21 4 (dk_at dksX6_where_2 15 rfl rfl)
theorem dX6_where_65 : decode cX6_where 65 = .ok (.iaload, 1) := dk_46 (dk_at dksX6_where_2 17 rfl rfl)
theorem dX6_where_66 : decode cX6_where 66 = .ok (.istore_n 3, 1) := dk_62 (dk_at dksX6_where_2 18 rfl rfl)
theorem dX6_where_67 : decode cX6_where 67 = .ok (.iinc 4 1, 3) := dk_132 4 1 (dk_at dksX6_where_2 19 rfl rfl)
theorem dX6_where_70 : decode cX6_where 70 = .ok (.goto (-42), 3) := dk_167 255 214 (dk_at dksX6_where_3 0 rfl rfl)
theorem dX6_where_73 : decode cX6_where 73 = .ok (.iload_n 3, 1) := dk_29 (dk_at dksX6_where_3 3 rfl rfl)
theorem dX6_where_74 : decode cX6_where 74 = .ok (.ireturn, 1) := dk_172 (dk_at dksX6_where_3 4 rfl rfl)
abbrev cX6_order : ByteArray := prog_21_method_85_code
def yX6_order : MethodName := ⟨RX6, "order", "(II)I"⟩
def dkwX6_order_2 : List UInt8 := [180, 0, 62, 17, 0, 150, 27, 104, 42, 180, 0, 68, 27, 46, 96, 28, 96, 46, 172]
abbrev dktX6_order_2 : List UInt8 := dkwX6_order_2 ++ []
def dkwX6_order_1 : List UInt8 := [155, 0, 20, 28, 42, 180, 0, 65, 27, 46, 42, 180, 0, 68, 27, 46, 100, 161, 0, 5, 2, 172, 42]
abbrev dktX6_order_1 : List UInt8 := dkwX6_order_1 ++ dktX6_order_2
def dkwX6_order_0 : List UInt8 := [42, 3, 181, 0, 131, 42, 27, 182, 0, 186, 153, 0, 34, 42, 180, 0, 32, 27, 46, 5, 160, 0, 24, 28]
abbrev dktX6_order_0 : List UInt8 := dkwX6_order_0 ++ dktX6_order_1
theorem dksX6_order_0 : cX6_order.data.toList.drop 0 = dktX6_order_0 := by decide +kernel
theorem dksX6_order_1 : cX6_order.data.toList.drop 24 = dktX6_order_1 := dk_seg dksX6_order_0 24 rfl rfl
theorem dksX6_order_2 : cX6_order.data.toList.drop 47 = dktX6_order_2 := dk_seg dksX6_order_1 23 rfl rfl
theorem dX6_order_0 : decode cX6_order 0 = .ok (.aload_n 0, 1) := dk_42 (dk_at dksX6_order_0 0 rfl rfl)
theorem dX6_order_1 : decode cX6_order 1 = .ok (.iconst 0, 1) := dk_3 (dk_at dksX6_order_0 1 rfl rfl)
theorem dX6_order_2 : decode cX6_order 2 = .ok (.putfield 131, 3) := dk_181 0 131 (dk_at dksX6_order_0 2 rfl rfl)
theorem dX6_order_5 : decode cX6_order 5 = .ok (.aload_n 0, 1) := dk_42 (dk_at dksX6_order_0 5 rfl rfl)
theorem dX6_order_6 : decode cX6_order 6 = .ok (.iload_n 1, 1) := dk_27 (dk_at dksX6_order_0 6 rfl rfl)
theorem dX6_order_7 : decode cX6_order 7 = .ok (.invokevirtual 186, 3) := dk_182 0 186 (dk_at dksX6_order_0 7 rfl rfl)
theorem dX6_order_10 : decode cX6_order 10 = .ok (.ifCond .eq 34, 3) := dk_153 0 34 (dk_at dksX6_order_0 10 rfl rfl)
theorem dX6_order_13 : decode cX6_order 13 = .ok (.aload_n 0, 1) := dk_42 (dk_at dksX6_order_0 13 rfl rfl)
theorem dX6_order_14 : decode cX6_order 14 = .ok (.getfield 32, 3) := dk_180 0 32 (dk_at dksX6_order_0 14 rfl rfl)
theorem dX6_order_17 : decode cX6_order 17 = .ok (.iload_n 1, 1) := dk_27 (dk_at dksX6_order_0 17 rfl rfl)
theorem dX6_order_18 : decode cX6_order 18 = .ok (.iaload, 1) := dk_46 (dk_at dksX6_order_0 18 rfl rfl)
theorem dX6_order_19 : decode cX6_order 19 = .ok (.iconst 2, 1) := dk_5 (dk_at dksX6_order_0 19 rfl rfl)
theorem dX6_order_20 : decode cX6_order 20 = .ok (.if_icmp .ne 24, 3) := dk_160 0 24 (dk_at dksX6_order_0 20 rfl rfl)
theorem dX6_order_23 : decode cX6_order 23 = .ok (.iload_n 2, 1) := dk_28 (dk_at dksX6_order_0 23 rfl rfl)
theorem dX6_order_24 : decode cX6_order 24 = .ok (.ifCond .lt 20, 3) := dk_155 0 20 (dk_at dksX6_order_1 0 rfl rfl)
theorem dX6_order_27 : decode cX6_order 27 = .ok (.iload_n 2, 1) := dk_28 (dk_at dksX6_order_1 3 rfl rfl)
theorem dX6_order_28 : decode cX6_order 28 = .ok (.aload_n 0, 1) := dk_42 (dk_at dksX6_order_1 4 rfl rfl)
theorem dX6_order_29 : decode cX6_order 29 = .ok (.getfield 65, 3) := dk_180 0 65 (dk_at dksX6_order_1 5 rfl rfl)
theorem dX6_order_32 : decode cX6_order 32 = .ok (.iload_n 1, 1) := dk_27 (dk_at dksX6_order_1 8 rfl rfl)
theorem dX6_order_33 : decode cX6_order 33 = .ok (.iaload, 1) := dk_46 (dk_at dksX6_order_1 9 rfl rfl)
theorem dX6_order_34 : decode cX6_order 34 = .ok (.aload_n 0, 1) := dk_42 (dk_at dksX6_order_1 10 rfl rfl)
theorem dX6_order_35 : decode cX6_order 35 = .ok (.getfield 68, 3) := dk_180 0 68 (dk_at dksX6_order_1 11 rfl rfl)
theorem dX6_order_38 : decode cX6_order 38 = .ok (.iload_n 1, 1) := dk_27 (dk_at dksX6_order_1 14 rfl rfl)
theorem dX6_order_39 : decode cX6_order 39 = .ok (.iaload, 1) := dk_46 (dk_at dksX6_order_1 15 rfl rfl)
theorem dX6_order_40 : decode cX6_order 40 = .ok (.isub, 1) := dk_100 (dk_at dksX6_order_1 16 rfl rfl)
theorem dX6_order_41 : decode cX6_order 41 = .ok (.if_icmp .lt 5, 3) := dk_161 0 5 (dk_at dksX6_order_1 17 rfl rfl)
theorem dX6_order_44 : decode cX6_order 44 = .ok (.iconst (-1), 1) := dk_2 (dk_at dksX6_order_1 20 rfl rfl)
theorem dX6_order_45 : decode cX6_order 45 = .ok (.ireturn, 1) := dk_172 (dk_at dksX6_order_1 21 rfl rfl)
theorem dX6_order_46 : decode cX6_order 46 = .ok (.aload_n 0, 1) := dk_42 (dk_at dksX6_order_1 22 rfl rfl)
theorem dX6_order_47 : decode cX6_order 47 = .ok (.getfield 62, 3) := dk_180 0 62 (dk_at dksX6_order_2 0 rfl rfl)
theorem dX6_order_50 : decode cX6_order 50 = .ok (.sipush 150, 3) := dk_17 0 150 (dk_at dksX6_order_2 3 rfl rfl)
theorem dX6_order_53 : decode cX6_order 53 = .ok (.iload_n 1, 1) := dk_27 (dk_at dksX6_order_2 6 rfl rfl)
theorem dX6_order_54 : decode cX6_order 54 = .ok (.imul, 1) := dk_104 (dk_at dksX6_order_2 7 rfl rfl)
theorem dX6_order_55 : decode cX6_order 55 = .ok (.aload_n 0, 1) := dk_42 (dk_at dksX6_order_2 8 rfl rfl)
theorem dX6_order_56 : decode cX6_order 56 = .ok (.getfield 68, 3) := dk_180 0 68 (dk_at dksX6_order_2 9 rfl rfl)
theorem dX6_order_59 : decode cX6_order 59 = .ok (.iload_n 1, 1) := dk_27 (dk_at dksX6_order_2 12 rfl rfl)
theorem dX6_order_60 : decode cX6_order 60 = .ok (.iaload, 1) := dk_46 (dk_at dksX6_order_2 13 rfl rfl)
theorem dX6_order_61 : decode cX6_order 61 = .ok (.iadd, 1) := dk_96 (dk_at dksX6_order_2 14 rfl rfl)
theorem dX6_order_62 : decode cX6_order 62 = .ok (.iload_n 2, 1) := dk_28 (dk_at dksX6_order_2 15 rfl rfl)
theorem dX6_order_63 : decode cX6_order 63 = .ok (.iadd, 1) := dk_96 (dk_at dksX6_order_2 16 rfl rfl)
theorem dX6_order_64 : decode cX6_order 64 = .ok (.iaload, 1) := dk_46 (dk_at dksX6_order_2 17 rfl rfl)
theorem dX6_order_65 : decode cX6_order 65 = .ok (.ireturn, 1) := dk_172 (dk_at dksX6_order_2 18 rfl rfl)
abbrev cX6_act : ByteArray := prog_21_method_86_code
def yX6_act : MethodName := ⟨RX6, "act", "(II)I"⟩
def dkwX6_act_1 : List UInt8 := [164, 0, 7, 3, 167, 0, 14, 42, 180, 0, 125, 16, 6, 27, 104, 28, 96, 46, 172]
abbrev dktX6_act_1 : List UInt8 := dkwX6_act_1 ++ []
def dkwX6_act_0 : List UInt8 := [42, 3, 181, 0, 131, 27, 155, 0, 20, 27, 42, 180, 1, 58, 162, 0, 12, 28, 155, 0, 8, 28, 8]
abbrev dktX6_act_0 : List UInt8 := dkwX6_act_0 ++ dktX6_act_1
theorem dksX6_act_0 : cX6_act.data.toList.drop 0 = dktX6_act_0 := by decide +kernel
theorem dksX6_act_1 : cX6_act.data.toList.drop 23 = dktX6_act_1 := dk_seg dksX6_act_0 23 rfl rfl
theorem dX6_act_0 : decode cX6_act 0 = .ok (.aload_n 0, 1) := dk_42 (dk_at dksX6_act_0 0 rfl rfl)
theorem dX6_act_1 : decode cX6_act 1 = .ok (.iconst 0, 1) := dk_3 (dk_at dksX6_act_0 1 rfl rfl)
theorem dX6_act_2 : decode cX6_act 2 = .ok (.putfield 131, 3) := dk_181 0 131 (dk_at dksX6_act_0 2 rfl rfl)
theorem dX6_act_5 : decode cX6_act 5 = .ok (.iload_n 1, 1) := dk_27 (dk_at dksX6_act_0 5 rfl rfl)
theorem dX6_act_6 : decode cX6_act 6 = .ok (.ifCond .lt 20, 3) := dk_155 0 20 (dk_at dksX6_act_0 6 rfl rfl)
theorem dX6_act_9 : decode cX6_act 9 = .ok (.iload_n 1, 1) := dk_27 (dk_at dksX6_act_0 9 rfl rfl)
theorem dX6_act_10 : decode cX6_act 10 = .ok (.aload_n 0, 1) := dk_42 (dk_at dksX6_act_0 10 rfl rfl)
theorem dX6_act_11 : decode cX6_act 11 = .ok (.getfield 314, 3) := dk_180 1 58 (dk_at dksX6_act_0 11 rfl rfl)
theorem dX6_act_14 : decode cX6_act 14 = .ok (.if_icmp .ge 12, 3) := dk_162 0 12 (dk_at dksX6_act_0 14 rfl rfl)
theorem dX6_act_17 : decode cX6_act 17 = .ok (.iload_n 2, 1) := dk_28 (dk_at dksX6_act_0 17 rfl rfl)
theorem dX6_act_18 : decode cX6_act 18 = .ok (.ifCond .lt 8, 3) := dk_155 0 8 (dk_at dksX6_act_0 18 rfl rfl)
theorem dX6_act_21 : decode cX6_act 21 = .ok (.iload_n 2, 1) := dk_28 (dk_at dksX6_act_0 21 rfl rfl)
theorem dX6_act_22 : decode cX6_act 22 = .ok (.iconst 5, 1) := dk_8 (dk_at dksX6_act_0 22 rfl rfl)
theorem dX6_act_23 : decode cX6_act 23 = .ok (.if_icmp .le 7, 3) := dk_164 0 7 (dk_at dksX6_act_1 0 rfl rfl)
theorem dX6_act_26 : decode cX6_act 26 = .ok (.iconst 0, 1) := dk_3 (dk_at dksX6_act_1 3 rfl rfl)
theorem dX6_act_27 : decode cX6_act 27 = .ok (.goto 14, 3) := dk_167 0 14 (dk_at dksX6_act_1 4 rfl rfl)
theorem dX6_act_30 : decode cX6_act 30 = .ok (.aload_n 0, 1) := dk_42 (dk_at dksX6_act_1 7 rfl rfl)
theorem dX6_act_31 : decode cX6_act 31 = .ok (.getfield 125, 3) := dk_180 0 125 (dk_at dksX6_act_1 8 rfl rfl)
theorem dX6_act_34 : decode cX6_act 34 = .ok (.bipush 6, 2) := dk_16 6 (dk_at dksX6_act_1 11 rfl rfl)
theorem dX6_act_36 : decode cX6_act 36 = .ok (.iload_n 1, 1) := dk_27 (dk_at dksX6_act_1 13 rfl rfl)
theorem dX6_act_37 : decode cX6_act 37 = .ok (.imul, 1) := dk_104 (dk_at dksX6_act_1 14 rfl rfl)
theorem dX6_act_38 : decode cX6_act 38 = .ok (.iload_n 2, 1) := dk_28 (dk_at dksX6_act_1 15 rfl rfl)
theorem dX6_act_39 : decode cX6_act 39 = .ok (.iadd, 1) := dk_96 (dk_at dksX6_act_1 16 rfl rfl)
theorem dX6_act_40 : decode cX6_act 40 = .ok (.iaload, 1) := dk_46 (dk_at dksX6_act_1 17 rfl rfl)
theorem dX6_act_41 : decode cX6_act 41 = .ok (.ireturn, 1) := dk_172 (dk_at dksX6_act_1 18 rfl rfl)
abbrev cX6_feed : ByteArray := prog_21_method_87_code
def yX6_feed : MethodName := ⟨RX6, "feed", "(IIIIII)I"⟩
def dkwX6_feed_4 : List UInt8 := [181, 1, 68, 42, 180, 1, 68, 172]
abbrev dktX6_feed_4 : List UInt8 := dkwX6_feed_4 ++ []
def dkwX6_feed_3 : List UInt8 := [96, 21, 5, 79, 42, 180, 0, 128, 21, 7, 8, 96, 21, 6, 79, 42, 89, 180, 1, 68, 4, 96]
abbrev dktX6_feed_3 : List UInt8 := dkwX6_feed_3 ++ dktX6_feed_4
def dkwX6_feed_2 : List UInt8 := [21, 7, 5, 96, 29, 79, 42, 180, 0, 128, 21, 7, 6, 96, 21, 4, 79, 42, 180, 0, 128, 21, 7, 7]
abbrev dktX6_feed_2 : List UInt8 := dkwX6_feed_2 ++ dktX6_feed_3
def dkwX6_feed_1 : List UInt8 := [54, 7, 42, 180, 0, 128, 21, 7, 27, 79, 42, 180, 0, 128, 21, 7, 4, 96, 28, 79, 42, 180, 0, 128]
abbrev dktX6_feed_1 : List UInt8 := dkwX6_feed_1 ++ dktX6_feed_2
def dkwX6_feed_0 : List UInt8 := [42, 3, 181, 0, 131, 42, 180, 1, 68, 17, 1, 144, 160, 0, 5, 2, 172, 16, 6, 42, 180, 1, 68, 104]
abbrev dktX6_feed_0 : List UInt8 := dkwX6_feed_0 ++ dktX6_feed_1
theorem dksX6_feed_0 : cX6_feed.data.toList.drop 0 = dktX6_feed_0 := by decide +kernel
theorem dksX6_feed_1 : cX6_feed.data.toList.drop 24 = dktX6_feed_1 := dk_seg dksX6_feed_0 24 rfl rfl
theorem dksX6_feed_2 : cX6_feed.data.toList.drop 48 = dktX6_feed_2 := dk_seg dksX6_feed_1 24 rfl rfl
theorem dksX6_feed_3 : cX6_feed.data.toList.drop 72 = dktX6_feed_3 := dk_seg dksX6_feed_2 24 rfl rfl
theorem dksX6_feed_4 : cX6_feed.data.toList.drop 94 = dktX6_feed_4 := dk_seg dksX6_feed_3 22 rfl rfl
theorem dX6_feed_0 : decode cX6_feed 0 = .ok (.aload_n 0, 1) := dk_42 (dk_at dksX6_feed_0 0 rfl rfl)
theorem dX6_feed_1 : decode cX6_feed 1 = .ok (.iconst 0, 1) := dk_3 (dk_at dksX6_feed_0 1 rfl rfl)
theorem dX6_feed_2 : decode cX6_feed 2 = .ok (.putfield 131, 3) := dk_181 0 131 (dk_at dksX6_feed_0 2 rfl rfl)
theorem dX6_feed_5 : decode cX6_feed 5 = .ok (.aload_n 0, 1) := dk_42 (dk_at dksX6_feed_0 5 rfl rfl)
theorem dX6_feed_6 : decode cX6_feed 6 = .ok (.getfield 324, 3) := dk_180 1 68 (dk_at dksX6_feed_0 6 rfl rfl)
theorem dX6_feed_9 : decode cX6_feed 9 = .ok (.sipush 400, 3) := dk_17 1 144 (dk_at dksX6_feed_0 9 rfl rfl)
theorem dX6_feed_12 : decode cX6_feed 12 = .ok (.if_icmp .ne 5, 3) := dk_160 0 5 (dk_at dksX6_feed_0 12 rfl rfl)
theorem dX6_feed_15 : decode cX6_feed 15 = .ok (.iconst (-1), 1) := dk_2 (dk_at dksX6_feed_0 15 rfl rfl)
theorem dX6_feed_16 : decode cX6_feed 16 = .ok (.ireturn, 1) := dk_172 (dk_at dksX6_feed_0 16 rfl rfl)
theorem dX6_feed_17 : decode cX6_feed 17 = .ok (.bipush 6, 2) := dk_16 6 (dk_at dksX6_feed_0 17 rfl rfl)
theorem dX6_feed_19 : decode cX6_feed 19 = .ok (.aload_n 0, 1) := dk_42 (dk_at dksX6_feed_0 19 rfl rfl)
theorem dX6_feed_20 : decode cX6_feed 20 = .ok (.getfield 324, 3) := dk_180 1 68 (dk_at dksX6_feed_0 20 rfl rfl)
theorem dX6_feed_23 : decode cX6_feed 23 = .ok (.imul, 1) := dk_104 (dk_at dksX6_feed_0 23 rfl rfl)
theorem dX6_feed_24 : decode cX6_feed 24 = .ok (.istore 7, 2) := dk_54 7 (dk_at dksX6_feed_1 0 rfl rfl)
theorem dX6_feed_26 : decode cX6_feed 26 = .ok (.aload_n 0, 1) := dk_42 (dk_at dksX6_feed_1 2 rfl rfl)
theorem dX6_feed_27 : decode cX6_feed 27 = .ok (.getfield 128, 3) := dk_180 0 128 (dk_at dksX6_feed_1 3 rfl rfl)
theorem dX6_feed_30 : decode cX6_feed 30 = .ok (.iload 7, 2) := dk_21 7 (dk_at dksX6_feed_1 6 rfl rfl)
theorem dX6_feed_32 : decode cX6_feed 32 = .ok (.iload_n 1, 1) := dk_27 (dk_at dksX6_feed_1 8 rfl rfl)
theorem dX6_feed_33 : decode cX6_feed 33 = .ok (.iastore, 1) := dk_79 (dk_at dksX6_feed_1 9 rfl rfl)
theorem dX6_feed_34 : decode cX6_feed 34 = .ok (.aload_n 0, 1) := dk_42 (dk_at dksX6_feed_1 10 rfl rfl)
theorem dX6_feed_35 : decode cX6_feed 35 = .ok (.getfield 128, 3) := dk_180 0 128 (dk_at dksX6_feed_1 11 rfl rfl)
theorem dX6_feed_38 : decode cX6_feed 38 = .ok (.iload 7, 2) := dk_21 7 (dk_at dksX6_feed_1 14 rfl rfl)
theorem dX6_feed_40 : decode cX6_feed 40 = .ok (.iconst 1, 1) := dk_4 (dk_at dksX6_feed_1 16 rfl rfl)
theorem dX6_feed_41 : decode cX6_feed 41 = .ok (.iadd, 1) := dk_96 (dk_at dksX6_feed_1 17 rfl rfl)
theorem dX6_feed_42 : decode cX6_feed 42 = .ok (.iload_n 2, 1) := dk_28 (dk_at dksX6_feed_1 18 rfl rfl)
theorem dX6_feed_43 : decode cX6_feed 43 = .ok (.iastore, 1) := dk_79 (dk_at dksX6_feed_1 19 rfl rfl)
theorem dX6_feed_44 : decode cX6_feed 44 = .ok (.aload_n 0, 1) := dk_42 (dk_at dksX6_feed_1 20 rfl rfl)
theorem dX6_feed_45 : decode cX6_feed 45 = .ok (.getfield 128, 3) := dk_180 0 128 (dk_at dksX6_feed_1 21 rfl rfl)
theorem dX6_feed_48 : decode cX6_feed 48 = .ok (.iload 7, 2) := dk_21 7 (dk_at dksX6_feed_2 0 rfl rfl)
theorem dX6_feed_50 : decode cX6_feed 50 = .ok (.iconst 2, 1) := dk_5 (dk_at dksX6_feed_2 2 rfl rfl)
theorem dX6_feed_51 : decode cX6_feed 51 = .ok (.iadd, 1) := dk_96 (dk_at dksX6_feed_2 3 rfl rfl)
theorem dX6_feed_52 : decode cX6_feed 52 = .ok (.iload_n 3, 1) := dk_29 (dk_at dksX6_feed_2 4 rfl rfl)
theorem dX6_feed_53 : decode cX6_feed 53 = .ok (.iastore, 1) := dk_79 (dk_at dksX6_feed_2 5 rfl rfl)
theorem dX6_feed_54 : decode cX6_feed 54 = .ok (.aload_n 0, 1) := dk_42 (dk_at dksX6_feed_2 6 rfl rfl)
theorem dX6_feed_55 : decode cX6_feed 55 = .ok (.getfield 128, 3) := dk_180 0 128 (dk_at dksX6_feed_2 7 rfl rfl)
theorem dX6_feed_58 : decode cX6_feed 58 = .ok (.iload 7, 2) := dk_21 7 (dk_at dksX6_feed_2 10 rfl rfl)
theorem dX6_feed_60 : decode cX6_feed 60 = .ok (.iconst 3, 1) := dk_6 (dk_at dksX6_feed_2 12 rfl rfl)
theorem dX6_feed_61 : decode cX6_feed 61 = .ok (.iadd, 1) := dk_96 (dk_at dksX6_feed_2 13 rfl rfl)
theorem dX6_feed_62 : decode cX6_feed 62 = .ok (.iload 4, 2) := dk_21 4 (dk_at dksX6_feed_2 14 rfl rfl)
theorem dX6_feed_64 : decode cX6_feed 64 = .ok (.iastore, 1) := dk_79 (dk_at dksX6_feed_2 16 rfl rfl)
theorem dX6_feed_65 : decode cX6_feed 65 = .ok (.aload_n 0, 1) := dk_42 (dk_at dksX6_feed_2 17 rfl rfl)
theorem dX6_feed_66 : decode cX6_feed 66 = .ok (.getfield 128, 3) := dk_180 0 128 (dk_at dksX6_feed_2 18 rfl rfl)
theorem dX6_feed_69 : decode cX6_feed 69 = .ok (.iload 7, 2) := dk_21 7 (dk_at dksX6_feed_2 21 rfl rfl)
theorem dX6_feed_71 : decode cX6_feed 71 = .ok (.iconst 4, 1) := dk_7 (dk_at dksX6_feed_2 23 rfl rfl)
theorem dX6_feed_72 : decode cX6_feed 72 = .ok (.iadd, 1) := dk_96 (dk_at dksX6_feed_3 0 rfl rfl)
theorem dX6_feed_73 : decode cX6_feed 73 = .ok (.iload 5, 2) := dk_21 5 (dk_at dksX6_feed_3 1 rfl rfl)
theorem dX6_feed_75 : decode cX6_feed 75 = .ok (.iastore, 1) := dk_79 (dk_at dksX6_feed_3 3 rfl rfl)
theorem dX6_feed_76 : decode cX6_feed 76 = .ok (.aload_n 0, 1) := dk_42 (dk_at dksX6_feed_3 4 rfl rfl)
theorem dX6_feed_77 : decode cX6_feed 77 = .ok (.getfield 128, 3) := dk_180 0 128 (dk_at dksX6_feed_3 5 rfl rfl)
theorem dX6_feed_80 : decode cX6_feed 80 = .ok (.iload 7, 2) := dk_21 7 (dk_at dksX6_feed_3 8 rfl rfl)
theorem dX6_feed_82 : decode cX6_feed 82 = .ok (.iconst 5, 1) := dk_8 (dk_at dksX6_feed_3 10 rfl rfl)
theorem dX6_feed_83 : decode cX6_feed 83 = .ok (.iadd, 1) := dk_96 (dk_at dksX6_feed_3 11 rfl rfl)
theorem dX6_feed_84 : decode cX6_feed 84 = .ok (.iload 6, 2) := dk_21 6 (dk_at dksX6_feed_3 12 rfl rfl)
theorem dX6_feed_86 : decode cX6_feed 86 = .ok (.iastore, 1) := dk_79 (dk_at dksX6_feed_3 14 rfl rfl)
theorem dX6_feed_87 : decode cX6_feed 87 = .ok (.aload_n 0, 1) := dk_42 (dk_at dksX6_feed_3 15 rfl rfl)
theorem dX6_feed_88 : decode cX6_feed 88 = .ok (.dup, 1) := dk_89 (dk_at dksX6_feed_3 16 rfl rfl)
theorem dX6_feed_89 : decode cX6_feed 89 = .ok (.getfield 324, 3) := dk_180 1 68 (dk_at dksX6_feed_3 17 rfl rfl)
theorem dX6_feed_92 : decode cX6_feed 92 = .ok (.iconst 1, 1) := dk_4 (dk_at dksX6_feed_3 20 rfl rfl)
theorem dX6_feed_93 : decode cX6_feed 93 = .ok (.iadd, 1) := dk_96 (dk_at dksX6_feed_3 21 rfl rfl)
theorem dX6_feed_94 : decode cX6_feed 94 = .ok (.putfield 324, 3) := dk_181 1 68 (dk_at dksX6_feed_4 0 rfl rfl)
theorem dX6_feed_97 : decode cX6_feed 97 = .ok (.aload_n 0, 1) := dk_42 (dk_at dksX6_feed_4 3 rfl rfl)
theorem dX6_feed_98 : decode cX6_feed 98 = .ok (.getfield 324, 3) := dk_180 1 68 (dk_at dksX6_feed_4 4 rfl rfl)
theorem dX6_feed_101 : decode cX6_feed 101 = .ok (.ireturn, 1) := dk_172 (dk_at dksX6_feed_4 7 rfl rfl)
abbrev cX6_check : ByteArray := prog_21_method_88_code
def yX6_check : MethodName := ⟨RX6, "check", "()I"⟩
def dkwX6_check_1 : List UInt8 := [181, 1, 83, 42, 182, 1, 86, 60, 42, 3, 181, 1, 68, 42, 182, 1, 90, 27, 172]
abbrev dktX6_check_1 : List UInt8 := dkwX6_check_1 ++ []
def dkwX6_check_0 : List UInt8 := [42, 3, 181, 0, 131, 42, 180, 1, 83, 16, 60, 160, 0, 6, 16, 254, 172, 42, 89, 180, 1, 83, 4, 96]
abbrev dktX6_check_0 : List UInt8 := dkwX6_check_0 ++ dktX6_check_1
theorem dksX6_check_0 : cX6_check.data.toList.drop 0 = dktX6_check_0 := by decide +kernel
theorem dksX6_check_1 : cX6_check.data.toList.drop 24 = dktX6_check_1 := dk_seg dksX6_check_0 24 rfl rfl
theorem dX6_check_0 : decode cX6_check 0 = .ok (.aload_n 0, 1) := dk_42 (dk_at dksX6_check_0 0 rfl rfl)
theorem dX6_check_1 : decode cX6_check 1 = .ok (.iconst 0, 1) := dk_3 (dk_at dksX6_check_0 1 rfl rfl)
theorem dX6_check_2 : decode cX6_check 2 = .ok (.putfield 131, 3) := dk_181 0 131 (dk_at dksX6_check_0 2 rfl rfl)
theorem dX6_check_5 : decode cX6_check 5 = .ok (.aload_n 0, 1) := dk_42 (dk_at dksX6_check_0 5 rfl rfl)
theorem dX6_check_6 : decode cX6_check 6 = .ok (.getfield 339, 3) := dk_180 1 83 (dk_at dksX6_check_0 6 rfl rfl)
theorem dX6_check_9 : decode cX6_check 9 = .ok (.bipush 60, 2) := dk_16 60 (dk_at dksX6_check_0 9 rfl rfl)
theorem dX6_check_11 : decode cX6_check 11 = .ok (.if_icmp .ne 6, 3) := dk_160 0 6 (dk_at dksX6_check_0 11 rfl rfl)
theorem dX6_check_14 : decode cX6_check 14 = .ok (.bipush (-2), 2) := dk_16 254 (dk_at dksX6_check_0 14 rfl rfl)
theorem dX6_check_16 : decode cX6_check 16 = .ok (.ireturn, 1) := dk_172 (dk_at dksX6_check_0 16 rfl rfl)
theorem dX6_check_17 : decode cX6_check 17 = .ok (.aload_n 0, 1) := dk_42 (dk_at dksX6_check_0 17 rfl rfl)
theorem dX6_check_18 : decode cX6_check 18 = .ok (.dup, 1) := dk_89 (dk_at dksX6_check_0 18 rfl rfl)
theorem dX6_check_19 : decode cX6_check 19 = .ok (.getfield 339, 3) := dk_180 1 83 (dk_at dksX6_check_0 19 rfl rfl)
theorem dX6_check_22 : decode cX6_check 22 = .ok (.iconst 1, 1) := dk_4 (dk_at dksX6_check_0 22 rfl rfl)
theorem dX6_check_23 : decode cX6_check 23 = .ok (.iadd, 1) := dk_96 (dk_at dksX6_check_0 23 rfl rfl)
theorem dX6_check_24 : decode cX6_check 24 = .ok (.putfield 339, 3) := dk_181 1 83 (dk_at dksX6_check_1 0 rfl rfl)
theorem dX6_check_27 : decode cX6_check 27 = .ok (.aload_n 0, 1) := dk_42 (dk_at dksX6_check_1 3 rfl rfl)
theorem dX6_check_28 : decode cX6_check 28 = .ok (.invokevirtual 342, 3) := dk_182 1 86 (dk_at dksX6_check_1 4 rfl rfl)
theorem dX6_check_31 : decode cX6_check 31 = .ok (.istore_n 1, 1) := dk_60 (dk_at dksX6_check_1 7 rfl rfl)
theorem dX6_check_32 : decode cX6_check 32 = .ok (.aload_n 0, 1) := dk_42 (dk_at dksX6_check_1 8 rfl rfl)
theorem dX6_check_33 : decode cX6_check 33 = .ok (.iconst 0, 1) := dk_3 (dk_at dksX6_check_1 9 rfl rfl)
theorem dX6_check_34 : decode cX6_check 34 = .ok (.putfield 324, 3) := dk_181 1 68 (dk_at dksX6_check_1 10 rfl rfl)
theorem dX6_check_37 : decode cX6_check 37 = .ok (.aload_n 0, 1) := dk_42 (dk_at dksX6_check_1 13 rfl rfl)
theorem dX6_check_38 : decode cX6_check 38 = .ok (.invokevirtual 346, 3) := dk_182 1 90 (dk_at dksX6_check_1 14 rfl rfl)
theorem dX6_check_41 : decode cX6_check 41 = .ok (.iload_n 1, 1) := dk_27 (dk_at dksX6_check_1 17 rfl rfl)
theorem dX6_check_42 : decode cX6_check 42 = .ok (.ireturn, 1) := dk_172 (dk_at dksX6_check_1 18 rfl rfl)
abbrev cX6_tries : ByteArray := prog_21_method_55_code
def yX6_tries : MethodName := ⟨RX6, "tries", "()I"⟩
def dkwX6_tries_5 : List UInt8 := [182, 1, 61, 156, 0, 5, 27, 172, 132, 1, 1, 167, 255, 134, 2, 172]
abbrev dktX6_tries_5 : List UInt8 := dkwX6_tries_5 ++ []
def dkwX6_tries_4 : List UInt8 := [180, 0, 128, 28, 6, 96, 46, 42, 180, 0, 128, 28, 7, 96, 46, 42, 180, 0, 128, 28, 8, 96, 46]
abbrev dktX6_tries_4 : List UInt8 := dkwX6_tries_4 ++ dktX6_tries_5
def dkwX6_tries_3 : List UInt8 := [167, 255, 232, 42, 29, 42, 180, 0, 128, 28, 4, 96, 46, 42, 180, 0, 128, 28, 5, 96, 46, 42]
abbrev dktX6_tries_3 : List UInt8 := dkwX6_tries_3 ++ dktX6_tries_4
def dkwX6_tries_2 : List UInt8 := [21, 4, 16, 6, 162, 0, 23, 42, 180, 0, 128, 28, 21, 4, 96, 46, 153, 0, 5, 27, 172, 132, 4, 1]
abbrev dktX6_tries_2 : List UInt8 := dkwX6_tries_2 ++ dktX6_tries_3
def dkwX6_tries_1 : List UInt8 := [46, 62, 29, 4, 161, 0, 9, 29, 16, 18, 164, 0, 5, 27, 172, 42, 29, 182, 1, 71, 4, 96, 54, 4]
abbrev dktX6_tries_1 : List UInt8 := dkwX6_tries_1 ++ dktX6_tries_2
def dkwX6_tries_0 : List UInt8 := [42, 182, 1, 65, 3, 60, 27, 42, 180, 1, 68, 162, 0, 120, 16, 6, 27, 104, 61, 42, 180, 0, 128, 28]
abbrev dktX6_tries_0 : List UInt8 := dkwX6_tries_0 ++ dktX6_tries_1
theorem dksX6_tries_0 : cX6_tries.data.toList.drop 0 = dktX6_tries_0 := by decide +kernel
theorem dksX6_tries_1 : cX6_tries.data.toList.drop 24 = dktX6_tries_1 := dk_seg dksX6_tries_0 24 rfl rfl
theorem dksX6_tries_2 : cX6_tries.data.toList.drop 48 = dktX6_tries_2 := dk_seg dksX6_tries_1 24 rfl rfl
theorem dksX6_tries_3 : cX6_tries.data.toList.drop 72 = dktX6_tries_3 := dk_seg dksX6_tries_2 24 rfl rfl
theorem dksX6_tries_4 : cX6_tries.data.toList.drop 94 = dktX6_tries_4 := dk_seg dksX6_tries_3 22 rfl rfl
theorem dksX6_tries_5 : cX6_tries.data.toList.drop 117 = dktX6_tries_5 := dk_seg dksX6_tries_4 23 rfl rfl
theorem dX6_tries_0 : decode cX6_tries 0 = .ok (.aload_n 0, 1) := dk_42 (dk_at dksX6_tries_0 0 rfl rfl)
theorem dX6_tries_1 : decode cX6_tries 1 = .ok (.invokevirtual 321, 3) := dk_182 1 65 (dk_at dksX6_tries_0 1 rfl rfl)
theorem dX6_tries_4 : decode cX6_tries 4 = .ok (.iconst 0, 1) := dk_3 (dk_at dksX6_tries_0 4 rfl rfl)
theorem dX6_tries_5 : decode cX6_tries 5 = .ok (.istore_n 1, 1) := dk_60 (dk_at dksX6_tries_0 5 rfl rfl)
theorem dX6_tries_6 : decode cX6_tries 6 = .ok (.iload_n 1, 1) := dk_27 (dk_at dksX6_tries_0 6 rfl rfl)
theorem dX6_tries_7 : decode cX6_tries 7 = .ok (.aload_n 0, 1) := dk_42 (dk_at dksX6_tries_0 7 rfl rfl)
theorem dX6_tries_8 : decode cX6_tries 8 = .ok (.getfield 324, 3) := dk_180 1 68 (dk_at dksX6_tries_0 8 rfl rfl)
theorem dX6_tries_11 : decode cX6_tries 11 = .ok (.if_icmp .ge 120, 3) := dk_162 0 120 (dk_at dksX6_tries_0 11 rfl rfl)
theorem dX6_tries_14 : decode cX6_tries 14 = .ok (.bipush 6, 2) := dk_16 6 (dk_at dksX6_tries_0 14 rfl rfl)
theorem dX6_tries_16 : decode cX6_tries 16 = .ok (.iload_n 1, 1) := dk_27 (dk_at dksX6_tries_0 16 rfl rfl)
theorem dX6_tries_17 : decode cX6_tries 17 = .ok (.imul, 1) := dk_104 (dk_at dksX6_tries_0 17 rfl rfl)
theorem dX6_tries_18 : decode cX6_tries 18 = .ok (.istore_n 2, 1) := dk_61 (dk_at dksX6_tries_0 18 rfl rfl)
theorem dX6_tries_19 : decode cX6_tries 19 = .ok (.aload_n 0, 1) := dk_42 (dk_at dksX6_tries_0 19 rfl rfl)
theorem dX6_tries_20 : decode cX6_tries 20 = .ok (.getfield 128, 3) := dk_180 0 128 (dk_at dksX6_tries_0 20 rfl rfl)
theorem dX6_tries_23 : decode cX6_tries 23 = .ok (.iload_n 2, 1) := dk_28 (dk_at dksX6_tries_0 23 rfl rfl)
theorem dX6_tries_24 : decode cX6_tries 24 = .ok (.iaload, 1) := dk_46 (dk_at dksX6_tries_1 0 rfl rfl)
theorem dX6_tries_25 : decode cX6_tries 25 = .ok (.istore_n 3, 1) := dk_62 (dk_at dksX6_tries_1 1 rfl rfl)
theorem dX6_tries_26 : decode cX6_tries 26 = .ok (.iload_n 3, 1) := dk_29 (dk_at dksX6_tries_1 2 rfl rfl)
theorem dX6_tries_27 : decode cX6_tries 27 = .ok (.iconst 1, 1) := dk_4 (dk_at dksX6_tries_1 3 rfl rfl)
theorem dX6_tries_28 : decode cX6_tries 28 = .ok (.if_icmp .lt 9, 3) := dk_161 0 9 (dk_at dksX6_tries_1 4 rfl rfl)
theorem dX6_tries_31 : decode cX6_tries 31 = .ok (.iload_n 3, 1) := dk_29 (dk_at dksX6_tries_1 7 rfl rfl)
theorem dX6_tries_32 : decode cX6_tries 32 = .ok (.bipush 18, 2) := dk_16 18 (dk_at dksX6_tries_1 8 rfl rfl)
theorem dX6_tries_34 : decode cX6_tries 34 = .ok (.if_icmp .le 5, 3) := dk_164 0 5 (dk_at dksX6_tries_1 10 rfl rfl)
theorem dX6_tries_37 : decode cX6_tries 37 = .ok (.iload_n 1, 1) := dk_27 (dk_at dksX6_tries_1 13 rfl rfl)
theorem dX6_tries_38 : decode cX6_tries 38 = .ok (.ireturn, 1) := dk_172 (dk_at dksX6_tries_1 14 rfl rfl)
theorem dX6_tries_39 : decode cX6_tries 39 = .ok (.aload_n 0, 1) := dk_42 (dk_at dksX6_tries_1 15 rfl rfl)
theorem dX6_tries_40 : decode cX6_tries 40 = .ok (.iload_n 3, 1) := dk_29 (dk_at dksX6_tries_1 16 rfl rfl)
theorem dX6_tries_41 : decode cX6_tries 41 = .ok (.invokevirtual 327, 3) := dk_182 1 71 (dk_at dksX6_tries_1 17 rfl rfl)
theorem dX6_tries_44 : decode cX6_tries 44 = .ok (.iconst 1, 1) := dk_4 (dk_at dksX6_tries_1 20 rfl rfl)
theorem dX6_tries_45 : decode cX6_tries 45 = .ok (.iadd, 1) := dk_96 (dk_at dksX6_tries_1 21 rfl rfl)
theorem dX6_tries_46 : decode cX6_tries 46 = .ok (.istore 4, 2) := dk_54 4 (dk_at dksX6_tries_1 22 rfl rfl)
theorem dX6_tries_48 : decode cX6_tries 48 = .ok (.iload 4, 2) := dk_21 4 (dk_at dksX6_tries_2 0 rfl rfl)
theorem dX6_tries_50 : decode cX6_tries 50 = .ok (.bipush 6, 2) := dk_16 6 (dk_at dksX6_tries_2 2 rfl rfl)
theorem dX6_tries_52 : decode cX6_tries 52 = .ok (.if_icmp .ge 23, 3) := dk_162 0 23 (dk_at dksX6_tries_2 4 rfl rfl)
theorem dX6_tries_55 : decode cX6_tries 55 = .ok (.aload_n 0, 1) := dk_42 (dk_at dksX6_tries_2 7 rfl rfl)
theorem dX6_tries_56 : decode cX6_tries 56 = .ok (.getfield 128, 3) := dk_180 0 128 (dk_at dksX6_tries_2 8 rfl rfl)
theorem dX6_tries_59 : decode cX6_tries 59 = .ok (.iload_n 2, 1) := dk_28 (dk_at dksX6_tries_2 11 rfl rfl)
theorem dX6_tries_60 : decode cX6_tries 60 = .ok (.iload 4, 2) := dk_21 4 (dk_at dksX6_tries_2 12 rfl rfl)
theorem dX6_tries_62 : decode cX6_tries 62 = .ok (.iadd, 1) := dk_96 (dk_at dksX6_tries_2 14 rfl rfl)
theorem dX6_tries_63 : decode cX6_tries 63 = .ok (.iaload, 1) := dk_46 (dk_at dksX6_tries_2 15 rfl rfl)
theorem dX6_tries_64 : decode cX6_tries 64 = .ok (.ifCond .eq 5, 3) := dk_153 0 5 (dk_at dksX6_tries_2 16 rfl rfl)
theorem dX6_tries_67 : decode cX6_tries 67 = .ok (.iload_n 1, 1) := dk_27 (dk_at dksX6_tries_2 19 rfl rfl)
theorem dX6_tries_68 : decode cX6_tries 68 = .ok (.ireturn, 1) := dk_172 (dk_at dksX6_tries_2 20 rfl rfl)
theorem dX6_tries_69 : decode cX6_tries 69 = .ok (.iinc 4 1, 3) := dk_132 4 1 (dk_at dksX6_tries_2 21 rfl rfl)
theorem dX6_tries_72 : decode cX6_tries 72 = .ok (.goto (-24), 3) := dk_167 255 232 (dk_at dksX6_tries_3 0 rfl rfl)
theorem dX6_tries_75 : decode cX6_tries 75 = .ok (.aload_n 0, 1) := dk_42 (dk_at dksX6_tries_3 3 rfl rfl)
theorem dX6_tries_76 : decode cX6_tries 76 = .ok (.iload_n 3, 1) := dk_29 (dk_at dksX6_tries_3 4 rfl rfl)
theorem dX6_tries_77 : decode cX6_tries 77 = .ok (.aload_n 0, 1) := dk_42 (dk_at dksX6_tries_3 5 rfl rfl)
theorem dX6_tries_78 : decode cX6_tries 78 = .ok (.getfield 128, 3) := dk_180 0 128 (dk_at dksX6_tries_3 6 rfl rfl)
theorem dX6_tries_81 : decode cX6_tries 81 = .ok (.iload_n 2, 1) := dk_28 (dk_at dksX6_tries_3 9 rfl rfl)
theorem dX6_tries_82 : decode cX6_tries 82 = .ok (.iconst 1, 1) := dk_4 (dk_at dksX6_tries_3 10 rfl rfl)
theorem dX6_tries_83 : decode cX6_tries 83 = .ok (.iadd, 1) := dk_96 (dk_at dksX6_tries_3 11 rfl rfl)
theorem dX6_tries_84 : decode cX6_tries 84 = .ok (.iaload, 1) := dk_46 (dk_at dksX6_tries_3 12 rfl rfl)
theorem dX6_tries_85 : decode cX6_tries 85 = .ok (.aload_n 0, 1) := dk_42 (dk_at dksX6_tries_3 13 rfl rfl)
theorem dX6_tries_86 : decode cX6_tries 86 = .ok (.getfield 128, 3) := dk_180 0 128 (dk_at dksX6_tries_3 14 rfl rfl)
theorem dX6_tries_89 : decode cX6_tries 89 = .ok (.iload_n 2, 1) := dk_28 (dk_at dksX6_tries_3 17 rfl rfl)
theorem dX6_tries_90 : decode cX6_tries 90 = .ok (.iconst 2, 1) := dk_5 (dk_at dksX6_tries_3 18 rfl rfl)
theorem dX6_tries_91 : decode cX6_tries 91 = .ok (.iadd, 1) := dk_96 (dk_at dksX6_tries_3 19 rfl rfl)
theorem dX6_tries_92 : decode cX6_tries 92 = .ok (.iaload, 1) := dk_46 (dk_at dksX6_tries_3 20 rfl rfl)
theorem dX6_tries_93 : decode cX6_tries 93 = .ok (.aload_n 0, 1) := dk_42 (dk_at dksX6_tries_3 21 rfl rfl)
theorem dX6_tries_94 : decode cX6_tries 94 = .ok (.getfield 128, 3) := dk_180 0 128 (dk_at dksX6_tries_4 0 rfl rfl)
theorem dX6_tries_97 : decode cX6_tries 97 = .ok (.iload_n 2, 1) := dk_28 (dk_at dksX6_tries_4 3 rfl rfl)
theorem dX6_tries_98 : decode cX6_tries 98 = .ok (.iconst 3, 1) := dk_6 (dk_at dksX6_tries_4 4 rfl rfl)
theorem dX6_tries_99 : decode cX6_tries 99 = .ok (.iadd, 1) := dk_96 (dk_at dksX6_tries_4 5 rfl rfl)
theorem dX6_tries_100 : decode cX6_tries 100 = .ok (.iaload, 1) := dk_46 (dk_at dksX6_tries_4 6 rfl rfl)
theorem dX6_tries_101 : decode cX6_tries 101 = .ok (.aload_n 0, 1) := dk_42 (dk_at dksX6_tries_4 7 rfl rfl)
theorem dX6_tries_102 : decode cX6_tries 102 = .ok (.getfield 128, 3) := dk_180 0 128 (dk_at dksX6_tries_4 8 rfl rfl)
theorem dX6_tries_105 : decode cX6_tries 105 = .ok (.iload_n 2, 1) := dk_28 (dk_at dksX6_tries_4 11 rfl rfl)
theorem dX6_tries_106 : decode cX6_tries 106 = .ok (.iconst 4, 1) := dk_7 (dk_at dksX6_tries_4 12 rfl rfl)
theorem dX6_tries_107 : decode cX6_tries 107 = .ok (.iadd, 1) := dk_96 (dk_at dksX6_tries_4 13 rfl rfl)
theorem dX6_tries_108 : decode cX6_tries 108 = .ok (.iaload, 1) := dk_46 (dk_at dksX6_tries_4 14 rfl rfl)
theorem dX6_tries_109 : decode cX6_tries 109 = .ok (.aload_n 0, 1) := dk_42 (dk_at dksX6_tries_4 15 rfl rfl)
theorem dX6_tries_110 : decode cX6_tries 110 = .ok (.getfield 128, 3) := dk_180 0 128 (dk_at dksX6_tries_4 16 rfl rfl)
theorem dX6_tries_113 : decode cX6_tries 113 = .ok (.iload_n 2, 1) := dk_28 (dk_at dksX6_tries_4 19 rfl rfl)
theorem dX6_tries_114 : decode cX6_tries 114 = .ok (.iconst 5, 1) := dk_8 (dk_at dksX6_tries_4 20 rfl rfl)
theorem dX6_tries_115 : decode cX6_tries 115 = .ok (.iadd, 1) := dk_96 (dk_at dksX6_tries_4 21 rfl rfl)
theorem dX6_tries_116 : decode cX6_tries 116 = .ok (.iaload, 1) := dk_46 (dk_at dksX6_tries_4 22 rfl rfl)
theorem dX6_tries_117 : decode cX6_tries 117 = .ok (.invokevirtual 317, 3) := dk_182 1 61 (dk_at dksX6_tries_5 0 rfl rfl)
theorem dX6_tries_120 : decode cX6_tries 120 = .ok (.ifCond .ge 5, 3) := dk_156 0 5 (dk_at dksX6_tries_5 3 rfl rfl)
theorem dX6_tries_123 : decode cX6_tries 123 = .ok (.iload_n 1, 1) := dk_27 (dk_at dksX6_tries_5 6 rfl rfl)
theorem dX6_tries_124 : decode cX6_tries 124 = .ok (.ireturn, 1) := dk_172 (dk_at dksX6_tries_5 7 rfl rfl)
theorem dX6_tries_125 : decode cX6_tries 125 = .ok (.iinc 1 1, 3) := dk_132 1 1 (dk_at dksX6_tries_5 8 rfl rfl)
theorem dX6_tries_128 : decode cX6_tries 128 = .ok (.goto (-122), 3) := dk_167 255 134 (dk_at dksX6_tries_5 11 rfl rfl)
theorem dX6_tries_131 : decode cX6_tries 131 = .ok (.iconst (-1), 1) := dk_2 (dk_at dksX6_tries_5 14 rfl rfl)
theorem dX6_tries_132 : decode cX6_tries 132 = .ok (.ireturn, 1) := dk_172 (dk_at dksX6_tries_5 15 rfl rfl)
abbrev cX6_empty : ByteArray := prog_21_method_3_code
def yX6_empty : MethodName := ⟨RX6, "empty", "()V"⟩
def dkwX6_empty_2 : List UInt8 := [132, 1, 1, 167, 255, 240, 177]
abbrev dktX6_empty_2 : List UInt8 := dkwX6_empty_2 ++ []
def dkwX6_empty_1 : List UInt8 := [181, 0, 147, 42, 3, 181, 0, 150, 3, 60, 27, 16, 96, 162, 0, 16, 42, 180, 0, 22, 27, 3, 84]
abbrev dktX6_empty_1 : List UInt8 := dkwX6_empty_1 ++ dktX6_empty_2
def dkwX6_empty_0 : List UInt8 := [42, 3, 181, 0, 135, 42, 3, 181, 0, 138, 42, 3, 181, 0, 141, 42, 3, 181, 0, 144, 42, 3]
abbrev dktX6_empty_0 : List UInt8 := dkwX6_empty_0 ++ dktX6_empty_1
theorem dksX6_empty_0 : cX6_empty.data.toList.drop 0 = dktX6_empty_0 := by decide +kernel
theorem dksX6_empty_1 : cX6_empty.data.toList.drop 22 = dktX6_empty_1 := dk_seg dksX6_empty_0 22 rfl rfl
theorem dksX6_empty_2 : cX6_empty.data.toList.drop 45 = dktX6_empty_2 := dk_seg dksX6_empty_1 23 rfl rfl
theorem dX6_empty_0 : decode cX6_empty 0 = .ok (.aload_n 0, 1) := dk_42 (dk_at dksX6_empty_0 0 rfl rfl)
theorem dX6_empty_1 : decode cX6_empty 1 = .ok (.iconst 0, 1) := dk_3 (dk_at dksX6_empty_0 1 rfl rfl)
theorem dX6_empty_2 : decode cX6_empty 2 = .ok (.putfield 135, 3) := dk_181 0 135 (dk_at dksX6_empty_0 2 rfl rfl)
theorem dX6_empty_5 : decode cX6_empty 5 = .ok (.aload_n 0, 1) := dk_42 (dk_at dksX6_empty_0 5 rfl rfl)
theorem dX6_empty_6 : decode cX6_empty 6 = .ok (.iconst 0, 1) := dk_3 (dk_at dksX6_empty_0 6 rfl rfl)
theorem dX6_empty_7 : decode cX6_empty 7 = .ok (.putfield 138, 3) := dk_181 0 138 (dk_at dksX6_empty_0 7 rfl rfl)
theorem dX6_empty_10 : decode cX6_empty 10 = .ok (.aload_n 0, 1) := dk_42 (dk_at dksX6_empty_0 10 rfl rfl)
theorem dX6_empty_11 : decode cX6_empty 11 = .ok (.iconst 0, 1) := dk_3 (dk_at dksX6_empty_0 11 rfl rfl)
theorem dX6_empty_12 : decode cX6_empty 12 = .ok (.putfield 141, 3) := dk_181 0 141 (dk_at dksX6_empty_0 12 rfl rfl)
theorem dX6_empty_15 : decode cX6_empty 15 = .ok (.aload_n 0, 1) := dk_42 (dk_at dksX6_empty_0 15 rfl rfl)
theorem dX6_empty_16 : decode cX6_empty 16 = .ok (.iconst 0, 1) := dk_3 (dk_at dksX6_empty_0 16 rfl rfl)
theorem dX6_empty_17 : decode cX6_empty 17 = .ok (.putfield 144, 3) := dk_181 0 144 (dk_at dksX6_empty_0 17 rfl rfl)
theorem dX6_empty_20 : decode cX6_empty 20 = .ok (.aload_n 0, 1) := dk_42 (dk_at dksX6_empty_0 20 rfl rfl)
theorem dX6_empty_21 : decode cX6_empty 21 = .ok (.iconst 0, 1) := dk_3 (dk_at dksX6_empty_0 21 rfl rfl)
theorem dX6_empty_22 : decode cX6_empty 22 = .ok (.putfield 147, 3) := dk_181 0 147 (dk_at dksX6_empty_1 0 rfl rfl)
theorem dX6_empty_25 : decode cX6_empty 25 = .ok (.aload_n 0, 1) := dk_42 (dk_at dksX6_empty_1 3 rfl rfl)
theorem dX6_empty_26 : decode cX6_empty 26 = .ok (.iconst 0, 1) := dk_3 (dk_at dksX6_empty_1 4 rfl rfl)
theorem dX6_empty_27 : decode cX6_empty 27 = .ok (.putfield 150, 3) := dk_181 0 150 (dk_at dksX6_empty_1 5 rfl rfl)
theorem dX6_empty_30 : decode cX6_empty 30 = .ok (.iconst 0, 1) := dk_3 (dk_at dksX6_empty_1 8 rfl rfl)
theorem dX6_empty_31 : decode cX6_empty 31 = .ok (.istore_n 1, 1) := dk_60 (dk_at dksX6_empty_1 9 rfl rfl)
theorem dX6_empty_32 : decode cX6_empty 32 = .ok (.iload_n 1, 1) := dk_27 (dk_at dksX6_empty_1 10 rfl rfl)
theorem dX6_empty_33 : decode cX6_empty 33 = .ok (.bipush 96, 2) := dk_16 96 (dk_at dksX6_empty_1 11 rfl rfl)
theorem dX6_empty_35 : decode cX6_empty 35 = .ok (.if_icmp .ge 16, 3) := dk_162 0 16 (dk_at dksX6_empty_1 13 rfl rfl)
theorem dX6_empty_38 : decode cX6_empty 38 = .ok (.aload_n 0, 1) := dk_42 (dk_at dksX6_empty_1 16 rfl rfl)
theorem dX6_empty_39 : decode cX6_empty 39 = .ok (.getfield 22, 3) := dk_180 0 22 (dk_at dksX6_empty_1 17 rfl rfl)
theorem dX6_empty_42 : decode cX6_empty 42 = .ok (.iload_n 1, 1) := dk_27 (dk_at dksX6_empty_1 20 rfl rfl)
theorem dX6_empty_43 : decode cX6_empty 43 = .ok (.iconst 0, 1) := dk_3 (dk_at dksX6_empty_1 21 rfl rfl)
theorem dX6_empty_44 : decode cX6_empty 44 = .ok (.bastore, 1) := dk_84 (dk_at dksX6_empty_1 22 rfl rfl)
theorem dX6_empty_45 : decode cX6_empty 45 = .ok (.iinc 1 1, 3) := dk_132 1 1 (dk_at dksX6_empty_2 0 rfl rfl)
theorem dX6_empty_48 : decode cX6_empty 48 = .ok (.goto (-16), 3) := dk_167 255 240 (dk_at dksX6_empty_2 3 rfl rfl)
theorem dX6_empty_51 : decode cX6_empty 51 = .ok (.return_, 1) := dk_177 (dk_at dksX6_empty_2 6 rfl rfl)
abbrev cX6_numbersOf : ByteArray := prog_21_method_54_code
def yX6_numbersOf : MethodName := ⟨RX6, "numbersOf", "(I)I"⟩
def dkwX6_numbersOf_2 : List UInt8 := [6, 172, 5, 172, 7, 172, 8, 172, 4, 172]
abbrev dktX6_numbersOf_2 : List UInt8 := dkwX6_numbersOf_2 ++ []
def dkwX6_numbersOf_1 : List UInt8 := [170, 0, 0, 0, 0, 0, 83, 0, 0, 0, 2, 0, 0, 0, 16, 0, 0, 0, 75, 0, 0, 0, 77, 0, 0, 0, 79, 0, 0, 0, 81, 0, 0, 0, 83, 0, 0, 0, 75, 0, 0, 0, 77, 0, 0, 0, 75, 0, 0, 0, 77, 0, 0, 0, 75, 0, 0, 0, 83, 0, 0, 0, 83, 0, 0, 0, 83, 0, 0, 0, 79, 0, 0, 0, 79]
abbrev dktX6_numbersOf_1 : List UInt8 := dkwX6_numbersOf_1 ++ dktX6_numbersOf_2
def dkwX6_numbersOf_0 : List UInt8 := [27]
abbrev dktX6_numbersOf_0 : List UInt8 := dkwX6_numbersOf_0 ++ dktX6_numbersOf_1
theorem dksX6_numbersOf_0 : cX6_numbersOf.data.toList.drop 0 = dktX6_numbersOf_0 := by decide +kernel
theorem dksX6_numbersOf_1 : cX6_numbersOf.data.toList.drop 1 = dktX6_numbersOf_1 := dk_seg dksX6_numbersOf_0 1 rfl rfl
theorem dksX6_numbersOf_2 : cX6_numbersOf.data.toList.drop 76 = dktX6_numbersOf_2 := dk_seg dksX6_numbersOf_1 75 rfl rfl
theorem dX6_numbersOf_0 : decode cX6_numbersOf 0 = .ok (.iload_n 1, 1) := dk_27 (dk_at dksX6_numbersOf_0 0 rfl rfl)
theorem dX6_numbersOf_1 : decode cX6_numbersOf 1 = .ok (.tableswitch 83 2 16 #[75, 77, 79, 81, 83, 75, 77, 75, 77, 75, 83, 83, 83, 79, 79], 75) := by decide +kernel
theorem dX6_numbersOf_76 : decode cX6_numbersOf 76 = .ok (.iconst 3, 1) := dk_6 (dk_at dksX6_numbersOf_2 0 rfl rfl)
theorem dX6_numbersOf_77 : decode cX6_numbersOf 77 = .ok (.ireturn, 1) := dk_172 (dk_at dksX6_numbersOf_2 1 rfl rfl)
theorem dX6_numbersOf_78 : decode cX6_numbersOf 78 = .ok (.iconst 2, 1) := dk_5 (dk_at dksX6_numbersOf_2 2 rfl rfl)
theorem dX6_numbersOf_79 : decode cX6_numbersOf 79 = .ok (.ireturn, 1) := dk_172 (dk_at dksX6_numbersOf_2 3 rfl rfl)
theorem dX6_numbersOf_80 : decode cX6_numbersOf 80 = .ok (.iconst 4, 1) := dk_7 (dk_at dksX6_numbersOf_2 4 rfl rfl)
theorem dX6_numbersOf_81 : decode cX6_numbersOf 81 = .ok (.ireturn, 1) := dk_172 (dk_at dksX6_numbersOf_2 5 rfl rfl)
theorem dX6_numbersOf_82 : decode cX6_numbersOf 82 = .ok (.iconst 5, 1) := dk_8 (dk_at dksX6_numbersOf_2 6 rfl rfl)
theorem dX6_numbersOf_83 : decode cX6_numbersOf 83 = .ok (.ireturn, 1) := dk_172 (dk_at dksX6_numbersOf_2 7 rfl rfl)
theorem dX6_numbersOf_84 : decode cX6_numbersOf 84 = .ok (.iconst 1, 1) := dk_4 (dk_at dksX6_numbersOf_2 8 rfl rfl)
theorem dX6_numbersOf_85 : decode cX6_numbersOf 85 = .ok (.ireturn, 1) := dk_172 (dk_at dksX6_numbersOf_2 9 rfl rfl)
abbrev cX6_again : ByteArray := prog_21_method_56_code
def yX6_again : MethodName := ⟨RX6, "again", "()V"⟩
def dkwX6_again_3 : List UInt8 := [132, 1, 1, 167, 255, 189, 177]
abbrev dktX6_again_3 : List UInt8 := dkwX6_again_3 ++ []
def dkwX6_again_2 : List UInt8 := [96, 46, 42, 180, 0, 125, 28, 7, 96, 46, 42, 180, 0, 125, 28, 8, 96, 46, 182, 1, 61, 87]
abbrev dktX6_again_2 : List UInt8 := dkwX6_again_2 ++ dktX6_again_3
def dkwX6_again_1 : List UInt8 := [28, 46, 42, 180, 0, 125, 28, 4, 96, 46, 42, 180, 0, 125, 28, 5, 96, 46, 42, 180, 0, 125, 28, 6]
abbrev dktX6_again_1 : List UInt8 := dkwX6_again_1 ++ dktX6_again_2
def dkwX6_again_0 : List UInt8 := [42, 182, 1, 65, 3, 60, 27, 42, 180, 1, 58, 162, 0, 65, 16, 6, 27, 104, 61, 42, 42, 180, 0, 125]
abbrev dktX6_again_0 : List UInt8 := dkwX6_again_0 ++ dktX6_again_1
theorem dksX6_again_0 : cX6_again.data.toList.drop 0 = dktX6_again_0 := by decide +kernel
theorem dksX6_again_1 : cX6_again.data.toList.drop 24 = dktX6_again_1 := dk_seg dksX6_again_0 24 rfl rfl
theorem dksX6_again_2 : cX6_again.data.toList.drop 48 = dktX6_again_2 := dk_seg dksX6_again_1 24 rfl rfl
theorem dksX6_again_3 : cX6_again.data.toList.drop 70 = dktX6_again_3 := dk_seg dksX6_again_2 22 rfl rfl
theorem dX6_again_0 : decode cX6_again 0 = .ok (.aload_n 0, 1) := dk_42 (dk_at dksX6_again_0 0 rfl rfl)
theorem dX6_again_1 : decode cX6_again 1 = .ok (.invokevirtual 321, 3) := dk_182 1 65 (dk_at dksX6_again_0 1 rfl rfl)
theorem dX6_again_4 : decode cX6_again 4 = .ok (.iconst 0, 1) := dk_3 (dk_at dksX6_again_0 4 rfl rfl)
theorem dX6_again_5 : decode cX6_again 5 = .ok (.istore_n 1, 1) := dk_60 (dk_at dksX6_again_0 5 rfl rfl)
theorem dX6_again_6 : decode cX6_again 6 = .ok (.iload_n 1, 1) := dk_27 (dk_at dksX6_again_0 6 rfl rfl)
theorem dX6_again_7 : decode cX6_again 7 = .ok (.aload_n 0, 1) := dk_42 (dk_at dksX6_again_0 7 rfl rfl)
theorem dX6_again_8 : decode cX6_again 8 = .ok (.getfield 314, 3) := dk_180 1 58 (dk_at dksX6_again_0 8 rfl rfl)
theorem dX6_again_11 : decode cX6_again 11 = .ok (.if_icmp .ge 65, 3) := dk_162 0 65 (dk_at dksX6_again_0 11 rfl rfl)
theorem dX6_again_14 : decode cX6_again 14 = .ok (.bipush 6, 2) := dk_16 6 (dk_at dksX6_again_0 14 rfl rfl)
theorem dX6_again_16 : decode cX6_again 16 = .ok (.iload_n 1, 1) := dk_27 (dk_at dksX6_again_0 16 rfl rfl)
theorem dX6_again_17 : decode cX6_again 17 = .ok (.imul, 1) := dk_104 (dk_at dksX6_again_0 17 rfl rfl)
theorem dX6_again_18 : decode cX6_again 18 = .ok (.istore_n 2, 1) := dk_61 (dk_at dksX6_again_0 18 rfl rfl)
theorem dX6_again_19 : decode cX6_again 19 = .ok (.aload_n 0, 1) := dk_42 (dk_at dksX6_again_0 19 rfl rfl)
theorem dX6_again_20 : decode cX6_again 20 = .ok (.aload_n 0, 1) := dk_42 (dk_at dksX6_again_0 20 rfl rfl)
theorem dX6_again_21 : decode cX6_again 21 = .ok (.getfield 125, 3) := dk_180 0 125 (dk_at dksX6_again_0 21 rfl rfl)
theorem dX6_again_24 : decode cX6_again 24 = .ok (.iload_n 2, 1) := dk_28 (dk_at dksX6_again_1 0 rfl rfl)
theorem dX6_again_25 : decode cX6_again 25 = .ok (.iaload, 1) := dk_46 (dk_at dksX6_again_1 1 rfl rfl)
theorem dX6_again_26 : decode cX6_again 26 = .ok (.aload_n 0, 1) := dk_42 (dk_at dksX6_again_1 2 rfl rfl)
theorem dX6_again_27 : decode cX6_again 27 = .ok (.getfield 125, 3) := dk_180 0 125 (dk_at dksX6_again_1 3 rfl rfl)
theorem dX6_again_30 : decode cX6_again 30 = .ok (.iload_n 2, 1) := dk_28 (dk_at dksX6_again_1 6 rfl rfl)
theorem dX6_again_31 : decode cX6_again 31 = .ok (.iconst 1, 1) := dk_4 (dk_at dksX6_again_1 7 rfl rfl)
theorem dX6_again_32 : decode cX6_again 32 = .ok (.iadd, 1) := dk_96 (dk_at dksX6_again_1 8 rfl rfl)
theorem dX6_again_33 : decode cX6_again 33 = .ok (.iaload, 1) := dk_46 (dk_at dksX6_again_1 9 rfl rfl)
theorem dX6_again_34 : decode cX6_again 34 = .ok (.aload_n 0, 1) := dk_42 (dk_at dksX6_again_1 10 rfl rfl)
theorem dX6_again_35 : decode cX6_again 35 = .ok (.getfield 125, 3) := dk_180 0 125 (dk_at dksX6_again_1 11 rfl rfl)
theorem dX6_again_38 : decode cX6_again 38 = .ok (.iload_n 2, 1) := dk_28 (dk_at dksX6_again_1 14 rfl rfl)
theorem dX6_again_39 : decode cX6_again 39 = .ok (.iconst 2, 1) := dk_5 (dk_at dksX6_again_1 15 rfl rfl)
theorem dX6_again_40 : decode cX6_again 40 = .ok (.iadd, 1) := dk_96 (dk_at dksX6_again_1 16 rfl rfl)
theorem dX6_again_41 : decode cX6_again 41 = .ok (.iaload, 1) := dk_46 (dk_at dksX6_again_1 17 rfl rfl)
theorem dX6_again_42 : decode cX6_again 42 = .ok (.aload_n 0, 1) := dk_42 (dk_at dksX6_again_1 18 rfl rfl)
theorem dX6_again_43 : decode cX6_again 43 = .ok (.getfield 125, 3) := dk_180 0 125 (dk_at dksX6_again_1 19 rfl rfl)
theorem dX6_again_46 : decode cX6_again 46 = .ok (.iload_n 2, 1) := dk_28 (dk_at dksX6_again_1 22 rfl rfl)
theorem dX6_again_47 : decode cX6_again 47 = .ok (.iconst 3, 1) := dk_6 (dk_at dksX6_again_1 23 rfl rfl)
theorem dX6_again_48 : decode cX6_again 48 = .ok (.iadd, 1) := dk_96 (dk_at dksX6_again_2 0 rfl rfl)
theorem dX6_again_49 : decode cX6_again 49 = .ok (.iaload, 1) := dk_46 (dk_at dksX6_again_2 1 rfl rfl)
theorem dX6_again_50 : decode cX6_again 50 = .ok (.aload_n 0, 1) := dk_42 (dk_at dksX6_again_2 2 rfl rfl)
theorem dX6_again_51 : decode cX6_again 51 = .ok (.getfield 125, 3) := dk_180 0 125 (dk_at dksX6_again_2 3 rfl rfl)
theorem dX6_again_54 : decode cX6_again 54 = .ok (.iload_n 2, 1) := dk_28 (dk_at dksX6_again_2 6 rfl rfl)
theorem dX6_again_55 : decode cX6_again 55 = .ok (.iconst 4, 1) := dk_7 (dk_at dksX6_again_2 7 rfl rfl)
theorem dX6_again_56 : decode cX6_again 56 = .ok (.iadd, 1) := dk_96 (dk_at dksX6_again_2 8 rfl rfl)
theorem dX6_again_57 : decode cX6_again 57 = .ok (.iaload, 1) := dk_46 (dk_at dksX6_again_2 9 rfl rfl)
theorem dX6_again_58 : decode cX6_again 58 = .ok (.aload_n 0, 1) := dk_42 (dk_at dksX6_again_2 10 rfl rfl)
theorem dX6_again_59 : decode cX6_again 59 = .ok (.getfield 125, 3) := dk_180 0 125 (dk_at dksX6_again_2 11 rfl rfl)
theorem dX6_again_62 : decode cX6_again 62 = .ok (.iload_n 2, 1) := dk_28 (dk_at dksX6_again_2 14 rfl rfl)
theorem dX6_again_63 : decode cX6_again 63 = .ok (.iconst 5, 1) := dk_8 (dk_at dksX6_again_2 15 rfl rfl)
theorem dX6_again_64 : decode cX6_again 64 = .ok (.iadd, 1) := dk_96 (dk_at dksX6_again_2 16 rfl rfl)
theorem dX6_again_65 : decode cX6_again 65 = .ok (.iaload, 1) := dk_46 (dk_at dksX6_again_2 17 rfl rfl)
theorem dX6_again_66 : decode cX6_again 66 = .ok (.invokevirtual 317, 3) := dk_182 1 61 (dk_at dksX6_again_2 18 rfl rfl)
theorem dX6_again_69 : decode cX6_again 69 = .ok (.pop, 1) := dk_87 (dk_at dksX6_again_2 21 rfl rfl)
theorem dX6_again_70 : decode cX6_again 70 = .ok (.iinc 1 1, 3) := dk_132 1 1 (dk_at dksX6_again_3 0 rfl rfl)
theorem dX6_again_73 : decode cX6_again 73 = .ok (.goto (-67), 3) := dk_167 255 189 (dk_at dksX6_again_3 3 rfl rfl)
theorem dX6_again_76 : decode cX6_again 76 = .ok (.return_, 1) := dk_177 (dk_at dksX6_again_3 6 rfl rfl)
abbrev cX6_load : ByteArray := prog_21_method_89_code
def yX6_load : MethodName := ⟨RX6, "load", "()I"⟩
def dkwX6_load_4 : List UInt8 := [182, 1, 90, 27, 153, 0, 10, 42, 180, 1, 58, 167, 0, 4, 2, 172]
abbrev dktX6_load_4 : List UInt8 := dkwX6_load_4 ++ []
def dkwX6_load_3 : List UInt8 := [42, 180, 0, 128, 28, 46, 79, 132, 2, 1, 167, 255, 230, 42, 3, 181, 1, 68, 27, 154, 0, 7, 42]
abbrev dktX6_load_3 : List UInt8 := dkwX6_load_3 ++ dktX6_load_4
def dkwX6_load_2 : List UInt8 := [180, 1, 68, 181, 1, 58, 3, 61, 28, 16, 6, 42, 180, 1, 58, 104, 162, 0, 21, 42, 180, 0, 125, 28]
abbrev dktX6_load_2 : List UInt8 := dkwX6_load_2 ++ dktX6_load_3
def dkwX6_load_1 : List UInt8 := [181, 1, 83, 42, 182, 1, 86, 156, 0, 7, 4, 167, 0, 4, 3, 60, 27, 153, 0, 42, 42, 42]
abbrev dktX6_load_1 : List UInt8 := dkwX6_load_1 ++ dktX6_load_2
def dkwX6_load_0 : List UInt8 := [42, 3, 181, 0, 131, 42, 180, 1, 83, 16, 60, 160, 0, 6, 16, 254, 172, 42, 89, 180, 1, 83, 4, 96]
abbrev dktX6_load_0 : List UInt8 := dkwX6_load_0 ++ dktX6_load_1
theorem dksX6_load_0 : cX6_load.data.toList.drop 0 = dktX6_load_0 := by decide +kernel
theorem dksX6_load_1 : cX6_load.data.toList.drop 24 = dktX6_load_1 := dk_seg dksX6_load_0 24 rfl rfl
theorem dksX6_load_2 : cX6_load.data.toList.drop 46 = dktX6_load_2 := dk_seg dksX6_load_1 22 rfl rfl
theorem dksX6_load_3 : cX6_load.data.toList.drop 70 = dktX6_load_3 := dk_seg dksX6_load_2 24 rfl rfl
theorem dksX6_load_4 : cX6_load.data.toList.drop 93 = dktX6_load_4 := dk_seg dksX6_load_3 23 rfl rfl
theorem dX6_load_0 : decode cX6_load 0 = .ok (.aload_n 0, 1) := dk_42 (dk_at dksX6_load_0 0 rfl rfl)
theorem dX6_load_1 : decode cX6_load 1 = .ok (.iconst 0, 1) := dk_3 (dk_at dksX6_load_0 1 rfl rfl)
theorem dX6_load_2 : decode cX6_load 2 = .ok (.putfield 131, 3) := dk_181 0 131 (dk_at dksX6_load_0 2 rfl rfl)
theorem dX6_load_5 : decode cX6_load 5 = .ok (.aload_n 0, 1) := dk_42 (dk_at dksX6_load_0 5 rfl rfl)
theorem dX6_load_6 : decode cX6_load 6 = .ok (.getfield 339, 3) := dk_180 1 83 (dk_at dksX6_load_0 6 rfl rfl)
theorem dX6_load_9 : decode cX6_load 9 = .ok (.bipush 60, 2) := dk_16 60 (dk_at dksX6_load_0 9 rfl rfl)
theorem dX6_load_11 : decode cX6_load 11 = .ok (.if_icmp .ne 6, 3) := dk_160 0 6 (dk_at dksX6_load_0 11 rfl rfl)
theorem dX6_load_14 : decode cX6_load 14 = .ok (.bipush (-2), 2) := dk_16 254 (dk_at dksX6_load_0 14 rfl rfl)
theorem dX6_load_16 : decode cX6_load 16 = .ok (.ireturn, 1) := dk_172 (dk_at dksX6_load_0 16 rfl rfl)
theorem dX6_load_17 : decode cX6_load 17 = .ok (.aload_n 0, 1) := dk_42 (dk_at dksX6_load_0 17 rfl rfl)
theorem dX6_load_18 : decode cX6_load 18 = .ok (.dup, 1) := dk_89 (dk_at dksX6_load_0 18 rfl rfl)
theorem dX6_load_19 : decode cX6_load 19 = .ok (.getfield 339, 3) := dk_180 1 83 (dk_at dksX6_load_0 19 rfl rfl)
theorem dX6_load_22 : decode cX6_load 22 = .ok (.iconst 1, 1) := dk_4 (dk_at dksX6_load_0 22 rfl rfl)
theorem dX6_load_23 : decode cX6_load 23 = .ok (.iadd, 1) := dk_96 (dk_at dksX6_load_0 23 rfl rfl)
theorem dX6_load_24 : decode cX6_load 24 = .ok (.putfield 339, 3) := dk_181 1 83 (dk_at dksX6_load_1 0 rfl rfl)
theorem dX6_load_27 : decode cX6_load 27 = .ok (.aload_n 0, 1) := dk_42 (dk_at dksX6_load_1 3 rfl rfl)
theorem dX6_load_28 : decode cX6_load 28 = .ok (.invokevirtual 342, 3) := dk_182 1 86 (dk_at dksX6_load_1 4 rfl rfl)
theorem dX6_load_31 : decode cX6_load 31 = .ok (.ifCond .ge 7, 3) := dk_156 0 7 (dk_at dksX6_load_1 7 rfl rfl)
theorem dX6_load_34 : decode cX6_load 34 = .ok (.iconst 1, 1) := dk_4 (dk_at dksX6_load_1 10 rfl rfl)
theorem dX6_load_35 : decode cX6_load 35 = .ok (.goto 4, 3) := dk_167 0 4 (dk_at dksX6_load_1 11 rfl rfl)
theorem dX6_load_38 : decode cX6_load 38 = .ok (.iconst 0, 1) := dk_3 (dk_at dksX6_load_1 14 rfl rfl)
theorem dX6_load_39 : decode cX6_load 39 = .ok (.istore_n 1, 1) := dk_60 (dk_at dksX6_load_1 15 rfl rfl)
theorem dX6_load_40 : decode cX6_load 40 = .ok (.iload_n 1, 1) := dk_27 (dk_at dksX6_load_1 16 rfl rfl)
theorem dX6_load_41 : decode cX6_load 41 = .ok (.ifCond .eq 42, 3) := dk_153 0 42 (dk_at dksX6_load_1 17 rfl rfl)
theorem dX6_load_44 : decode cX6_load 44 = .ok (.aload_n 0, 1) := dk_42 (dk_at dksX6_load_1 20 rfl rfl)
theorem dX6_load_45 : decode cX6_load 45 = .ok (.aload_n 0, 1) := dk_42 (dk_at dksX6_load_1 21 rfl rfl)
theorem dX6_load_46 : decode cX6_load 46 = .ok (.getfield 324, 3) := dk_180 1 68 (dk_at dksX6_load_2 0 rfl rfl)
theorem dX6_load_49 : decode cX6_load 49 = .ok (.putfield 314, 3) := dk_181 1 58 (dk_at dksX6_load_2 3 rfl rfl)
theorem dX6_load_52 : decode cX6_load 52 = .ok (.iconst 0, 1) := dk_3 (dk_at dksX6_load_2 6 rfl rfl)
theorem dX6_load_53 : decode cX6_load 53 = .ok (.istore_n 2, 1) := dk_61 (dk_at dksX6_load_2 7 rfl rfl)
theorem dX6_load_54 : decode cX6_load 54 = .ok (.iload_n 2, 1) := dk_28 (dk_at dksX6_load_2 8 rfl rfl)
theorem dX6_load_55 : decode cX6_load 55 = .ok (.bipush 6, 2) := dk_16 6 (dk_at dksX6_load_2 9 rfl rfl)
theorem dX6_load_57 : decode cX6_load 57 = .ok (.aload_n 0, 1) := dk_42 (dk_at dksX6_load_2 11 rfl rfl)
theorem dX6_load_58 : decode cX6_load 58 = .ok (.getfield 314, 3) := dk_180 1 58 (dk_at dksX6_load_2 12 rfl rfl)
theorem dX6_load_61 : decode cX6_load 61 = .ok (.imul, 1) := dk_104 (dk_at dksX6_load_2 15 rfl rfl)
theorem dX6_load_62 : decode cX6_load 62 = .ok (.if_icmp .ge 21, 3) := dk_162 0 21 (dk_at dksX6_load_2 16 rfl rfl)
theorem dX6_load_65 : decode cX6_load 65 = .ok (.aload_n 0, 1) := dk_42 (dk_at dksX6_load_2 19 rfl rfl)
theorem dX6_load_66 : decode cX6_load 66 = .ok (.getfield 125, 3) := dk_180 0 125 (dk_at dksX6_load_2 20 rfl rfl)
theorem dX6_load_69 : decode cX6_load 69 = .ok (.iload_n 2, 1) := dk_28 (dk_at dksX6_load_2 23 rfl rfl)
theorem dX6_load_70 : decode cX6_load 70 = .ok (.aload_n 0, 1) := dk_42 (dk_at dksX6_load_3 0 rfl rfl)
theorem dX6_load_71 : decode cX6_load 71 = .ok (.getfield 128, 3) := dk_180 0 128 (dk_at dksX6_load_3 1 rfl rfl)
theorem dX6_load_74 : decode cX6_load 74 = .ok (.iload_n 2, 1) := dk_28 (dk_at dksX6_load_3 4 rfl rfl)
theorem dX6_load_75 : decode cX6_load 75 = .ok (.iaload, 1) := dk_46 (dk_at dksX6_load_3 5 rfl rfl)
theorem dX6_load_76 : decode cX6_load 76 = .ok (.iastore, 1) := dk_79 (dk_at dksX6_load_3 6 rfl rfl)
theorem dX6_load_77 : decode cX6_load 77 = .ok (.iinc 2 1, 3) := dk_132 2 1 (dk_at dksX6_load_3 7 rfl rfl)
theorem dX6_load_80 : decode cX6_load 80 = .ok (.goto (-26), 3) := dk_167 255 230 (dk_at dksX6_load_3 10 rfl rfl)
theorem dX6_load_83 : decode cX6_load 83 = .ok (.aload_n 0, 1) := dk_42 (dk_at dksX6_load_3 13 rfl rfl)
theorem dX6_load_84 : decode cX6_load 84 = .ok (.iconst 0, 1) := dk_3 (dk_at dksX6_load_3 14 rfl rfl)
theorem dX6_load_85 : decode cX6_load 85 = .ok (.putfield 324, 3) := dk_181 1 68 (dk_at dksX6_load_3 15 rfl rfl)
theorem dX6_load_88 : decode cX6_load 88 = .ok (.iload_n 1, 1) := dk_27 (dk_at dksX6_load_3 18 rfl rfl)
theorem dX6_load_89 : decode cX6_load 89 = .ok (.ifCond .ne 7, 3) := dk_154 0 7 (dk_at dksX6_load_3 19 rfl rfl)
theorem dX6_load_92 : decode cX6_load 92 = .ok (.aload_n 0, 1) := dk_42 (dk_at dksX6_load_3 22 rfl rfl)
theorem dX6_load_93 : decode cX6_load 93 = .ok (.invokevirtual 346, 3) := dk_182 1 90 (dk_at dksX6_load_4 0 rfl rfl)
theorem dX6_load_96 : decode cX6_load 96 = .ok (.iload_n 1, 1) := dk_27 (dk_at dksX6_load_4 3 rfl rfl)
theorem dX6_load_97 : decode cX6_load 97 = .ok (.ifCond .eq 10, 3) := dk_153 0 10 (dk_at dksX6_load_4 4 rfl rfl)
theorem dX6_load_100 : decode cX6_load 100 = .ok (.aload_n 0, 1) := dk_42 (dk_at dksX6_load_4 7 rfl rfl)
theorem dX6_load_101 : decode cX6_load 101 = .ok (.getfield 314, 3) := dk_180 1 58 (dk_at dksX6_load_4 8 rfl rfl)
theorem dX6_load_104 : decode cX6_load 104 = .ok (.goto 4, 3) := dk_167 0 4 (dk_at dksX6_load_4 11 rfl rfl)
theorem dX6_load_107 : decode cX6_load 107 = .ok (.iconst (-1), 1) := dk_2 (dk_at dksX6_load_4 14 rfl rfl)
theorem dX6_load_108 : decode cX6_load 108 = .ok (.ireturn, 1) := dk_172 (dk_at dksX6_load_4 15 rfl rfl)
abbrev cX6_undo : ByteArray := prog_21_method_90_code
def yX6_undo : MethodName := ⟨RX6, "undo", "()I"⟩
def dkwX6_undo_2 : List UInt8 := [182, 1, 90, 42, 180, 0, 125, 16, 6, 42, 180, 1, 58, 104, 46, 172]
abbrev dktX6_undo_2 : List UInt8 := dkwX6_undo_2 ++ []
def dkwX6_undo_1 : List UInt8 := [16, 254, 172, 42, 89, 180, 1, 83, 4, 96, 181, 1, 83, 42, 89, 180, 1, 58, 4, 100, 181, 1, 58, 42]
abbrev dktX6_undo_1 : List UInt8 := dkwX6_undo_1 ++ dktX6_undo_2
def dkwX6_undo_0 : List UInt8 := [42, 3, 181, 0, 131, 42, 180, 1, 58, 154, 0, 5, 2, 172, 42, 180, 1, 83, 16, 60, 160, 0, 6]
abbrev dktX6_undo_0 : List UInt8 := dkwX6_undo_0 ++ dktX6_undo_1
theorem dksX6_undo_0 : cX6_undo.data.toList.drop 0 = dktX6_undo_0 := by decide +kernel
theorem dksX6_undo_1 : cX6_undo.data.toList.drop 23 = dktX6_undo_1 := dk_seg dksX6_undo_0 23 rfl rfl
theorem dksX6_undo_2 : cX6_undo.data.toList.drop 47 = dktX6_undo_2 := dk_seg dksX6_undo_1 24 rfl rfl
theorem dX6_undo_0 : decode cX6_undo 0 = .ok (.aload_n 0, 1) := dk_42 (dk_at dksX6_undo_0 0 rfl rfl)
theorem dX6_undo_1 : decode cX6_undo 1 = .ok (.iconst 0, 1) := dk_3 (dk_at dksX6_undo_0 1 rfl rfl)
theorem dX6_undo_2 : decode cX6_undo 2 = .ok (.putfield 131, 3) := dk_181 0 131 (dk_at dksX6_undo_0 2 rfl rfl)
theorem dX6_undo_5 : decode cX6_undo 5 = .ok (.aload_n 0, 1) := dk_42 (dk_at dksX6_undo_0 5 rfl rfl)
theorem dX6_undo_6 : decode cX6_undo 6 = .ok (.getfield 314, 3) := dk_180 1 58 (dk_at dksX6_undo_0 6 rfl rfl)
theorem dX6_undo_9 : decode cX6_undo 9 = .ok (.ifCond .ne 5, 3) := dk_154 0 5 (dk_at dksX6_undo_0 9 rfl rfl)
theorem dX6_undo_12 : decode cX6_undo 12 = .ok (.iconst (-1), 1) := dk_2 (dk_at dksX6_undo_0 12 rfl rfl)
theorem dX6_undo_13 : decode cX6_undo 13 = .ok (.ireturn, 1) := dk_172 (dk_at dksX6_undo_0 13 rfl rfl)
theorem dX6_undo_14 : decode cX6_undo 14 = .ok (.aload_n 0, 1) := dk_42 (dk_at dksX6_undo_0 14 rfl rfl)
theorem dX6_undo_15 : decode cX6_undo 15 = .ok (.getfield 339, 3) := dk_180 1 83 (dk_at dksX6_undo_0 15 rfl rfl)
theorem dX6_undo_18 : decode cX6_undo 18 = .ok (.bipush 60, 2) := dk_16 60 (dk_at dksX6_undo_0 18 rfl rfl)
theorem dX6_undo_20 : decode cX6_undo 20 = .ok (.if_icmp .ne 6, 3) := dk_160 0 6 (dk_at dksX6_undo_0 20 rfl rfl)
theorem dX6_undo_23 : decode cX6_undo 23 = .ok (.bipush (-2), 2) := dk_16 254 (dk_at dksX6_undo_1 0 rfl rfl)
theorem dX6_undo_25 : decode cX6_undo 25 = .ok (.ireturn, 1) := dk_172 (dk_at dksX6_undo_1 2 rfl rfl)
theorem dX6_undo_26 : decode cX6_undo 26 = .ok (.aload_n 0, 1) := dk_42 (dk_at dksX6_undo_1 3 rfl rfl)
theorem dX6_undo_27 : decode cX6_undo 27 = .ok (.dup, 1) := dk_89 (dk_at dksX6_undo_1 4 rfl rfl)
theorem dX6_undo_28 : decode cX6_undo 28 = .ok (.getfield 339, 3) := dk_180 1 83 (dk_at dksX6_undo_1 5 rfl rfl)
theorem dX6_undo_31 : decode cX6_undo 31 = .ok (.iconst 1, 1) := dk_4 (dk_at dksX6_undo_1 8 rfl rfl)
theorem dX6_undo_32 : decode cX6_undo 32 = .ok (.iadd, 1) := dk_96 (dk_at dksX6_undo_1 9 rfl rfl)
theorem dX6_undo_33 : decode cX6_undo 33 = .ok (.putfield 339, 3) := dk_181 1 83 (dk_at dksX6_undo_1 10 rfl rfl)
theorem dX6_undo_36 : decode cX6_undo 36 = .ok (.aload_n 0, 1) := dk_42 (dk_at dksX6_undo_1 13 rfl rfl)
theorem dX6_undo_37 : decode cX6_undo 37 = .ok (.dup, 1) := dk_89 (dk_at dksX6_undo_1 14 rfl rfl)
theorem dX6_undo_38 : decode cX6_undo 38 = .ok (.getfield 314, 3) := dk_180 1 58 (dk_at dksX6_undo_1 15 rfl rfl)
theorem dX6_undo_41 : decode cX6_undo 41 = .ok (.iconst 1, 1) := dk_4 (dk_at dksX6_undo_1 18 rfl rfl)
theorem dX6_undo_42 : decode cX6_undo 42 = .ok (.isub, 1) := dk_100 (dk_at dksX6_undo_1 19 rfl rfl)
theorem dX6_undo_43 : decode cX6_undo 43 = .ok (.putfield 314, 3) := dk_181 1 58 (dk_at dksX6_undo_1 20 rfl rfl)
theorem dX6_undo_46 : decode cX6_undo 46 = .ok (.aload_n 0, 1) := dk_42 (dk_at dksX6_undo_1 23 rfl rfl)
theorem dX6_undo_47 : decode cX6_undo 47 = .ok (.invokevirtual 346, 3) := dk_182 1 90 (dk_at dksX6_undo_2 0 rfl rfl)
theorem dX6_undo_50 : decode cX6_undo 50 = .ok (.aload_n 0, 1) := dk_42 (dk_at dksX6_undo_2 3 rfl rfl)
theorem dX6_undo_51 : decode cX6_undo 51 = .ok (.getfield 125, 3) := dk_180 0 125 (dk_at dksX6_undo_2 4 rfl rfl)
theorem dX6_undo_54 : decode cX6_undo 54 = .ok (.bipush 6, 2) := dk_16 6 (dk_at dksX6_undo_2 7 rfl rfl)
theorem dX6_undo_56 : decode cX6_undo 56 = .ok (.aload_n 0, 1) := dk_42 (dk_at dksX6_undo_2 9 rfl rfl)
theorem dX6_undo_57 : decode cX6_undo 57 = .ok (.getfield 314, 3) := dk_180 1 58 (dk_at dksX6_undo_2 10 rfl rfl)
theorem dX6_undo_60 : decode cX6_undo 60 = .ok (.imul, 1) := dk_104 (dk_at dksX6_undo_2 13 rfl rfl)
theorem dX6_undo_61 : decode cX6_undo 61 = .ok (.iaload, 1) := dk_46 (dk_at dksX6_undo_2 14 rfl rfl)
theorem dX6_undo_62 : decode cX6_undo 62 = .ok (.ireturn, 1) := dk_172 (dk_at dksX6_undo_2 15 rfl rfl)
abbrev cX6_count : ByteArray := prog_21_method_93_code
def yX6_count : MethodName := ⟨RX6, "count", "(I)I"⟩
def dkwX6_count_5 : List UInt8 := [180, 1, 83, 172, 2, 172]
abbrev dktX6_count_5 : List UInt8 := dkwX6_count_5 ++ []
def dkwX6_count_4 : List UInt8 := [42, 5, 182, 1, 96, 172, 42, 6, 182, 1, 96, 172, 42, 7, 182, 1, 96, 172, 42, 180, 1, 68, 172, 42]
abbrev dktX6_count_4 : List UInt8 := dkwX6_count_4 ++ dktX6_count_5
def dkwX6_count_3 : List UInt8 := [172, 42, 180, 0, 150, 172, 42, 5, 182, 1, 93, 172, 42, 6, 182, 1, 93, 172, 42, 4, 182, 1, 96, 172]
abbrev dktX6_count_3 : List UInt8 := dkwX6_count_3 ++ dktX6_count_4
def dkwX6_count_2 : List UInt8 := [42, 180, 0, 138, 172, 42, 180, 0, 141, 172, 42, 180, 0, 144, 172, 42, 180, 0, 135, 172, 42, 180, 1, 58]
abbrev dktX6_count_2 : List UInt8 := dkwX6_count_2 ++ dktX6_count_3
def dkwX6_count_1 : List UInt8 := [170, 0, 0, 0, 0, 146, 0, 0, 0, 0, 0, 0, 0, 13, 0, 0, 0, 70, 0, 0, 0, 75, 0, 0, 0, 80, 0, 0, 0, 85, 0, 0, 0, 90, 0, 0, 0, 95, 0, 0, 0, 100, 0, 0, 0, 106, 0, 0, 0, 112, 0, 0, 0, 118, 0, 0, 0, 124, 0, 0, 0, 130, 0, 0, 0, 136, 0, 0, 0, 141]
abbrev dktX6_count_1 : List UInt8 := dkwX6_count_1 ++ dktX6_count_2
def dkwX6_count_0 : List UInt8 := [42, 3, 181, 0, 131, 27]
abbrev dktX6_count_0 : List UInt8 := dkwX6_count_0 ++ dktX6_count_1
theorem dksX6_count_0 : cX6_count.data.toList.drop 0 = dktX6_count_0 := by decide +kernel
theorem dksX6_count_1 : cX6_count.data.toList.drop 6 = dktX6_count_1 := dk_seg dksX6_count_0 6 rfl rfl
theorem dksX6_count_2 : cX6_count.data.toList.drop 76 = dktX6_count_2 := dk_seg dksX6_count_1 70 rfl rfl
theorem dksX6_count_3 : cX6_count.data.toList.drop 100 = dktX6_count_3 := dk_seg dksX6_count_2 24 rfl rfl
theorem dksX6_count_4 : cX6_count.data.toList.drop 124 = dktX6_count_4 := dk_seg dksX6_count_3 24 rfl rfl
theorem dksX6_count_5 : cX6_count.data.toList.drop 148 = dktX6_count_5 := dk_seg dksX6_count_4 24 rfl rfl
theorem dX6_count_0 : decode cX6_count 0 = .ok (.aload_n 0, 1) := dk_42 (dk_at dksX6_count_0 0 rfl rfl)
theorem dX6_count_1 : decode cX6_count 1 = .ok (.iconst 0, 1) := dk_3 (dk_at dksX6_count_0 1 rfl rfl)
theorem dX6_count_2 : decode cX6_count 2 = .ok (.putfield 131, 3) := dk_181 0 131 (dk_at dksX6_count_0 2 rfl rfl)
theorem dX6_count_5 : decode cX6_count 5 = .ok (.iload_n 1, 1) := dk_27 (dk_at dksX6_count_0 5 rfl rfl)
theorem dX6_count_6 : decode cX6_count 6 = .ok (.tableswitch 146 0 13 #[70, 75, 80, 85, 90, 95, 100, 106, 112, 118, 124, 130, 136, 141], 70) := by decide +kernel
theorem dX6_count_76 : decode cX6_count 76 = .ok (.aload_n 0, 1) := dk_42 (dk_at dksX6_count_2 0 rfl rfl)
theorem dX6_count_77 : decode cX6_count 77 = .ok (.getfield 138, 3) := dk_180 0 138 (dk_at dksX6_count_2 1 rfl rfl)
theorem dX6_count_80 : decode cX6_count 80 = .ok (.ireturn, 1) := dk_172 (dk_at dksX6_count_2 4 rfl rfl)
theorem dX6_count_81 : decode cX6_count 81 = .ok (.aload_n 0, 1) := dk_42 (dk_at dksX6_count_2 5 rfl rfl)
theorem dX6_count_82 : decode cX6_count 82 = .ok (.getfield 141, 3) := dk_180 0 141 (dk_at dksX6_count_2 6 rfl rfl)
theorem dX6_count_85 : decode cX6_count 85 = .ok (.ireturn, 1) := dk_172 (dk_at dksX6_count_2 9 rfl rfl)
theorem dX6_count_86 : decode cX6_count 86 = .ok (.aload_n 0, 1) := dk_42 (dk_at dksX6_count_2 10 rfl rfl)
theorem dX6_count_87 : decode cX6_count 87 = .ok (.getfield 144, 3) := dk_180 0 144 (dk_at dksX6_count_2 11 rfl rfl)
theorem dX6_count_90 : decode cX6_count 90 = .ok (.ireturn, 1) := dk_172 (dk_at dksX6_count_2 14 rfl rfl)
theorem dX6_count_91 : decode cX6_count 91 = .ok (.aload_n 0, 1) := dk_42 (dk_at dksX6_count_2 15 rfl rfl)
theorem dX6_count_92 : decode cX6_count 92 = .ok (.getfield 135, 3) := dk_180 0 135 (dk_at dksX6_count_2 16 rfl rfl)
theorem dX6_count_95 : decode cX6_count 95 = .ok (.ireturn, 1) := dk_172 (dk_at dksX6_count_2 19 rfl rfl)
theorem dX6_count_96 : decode cX6_count 96 = .ok (.aload_n 0, 1) := dk_42 (dk_at dksX6_count_2 20 rfl rfl)
theorem dX6_count_97 : decode cX6_count 97 = .ok (.getfield 314, 3) := dk_180 1 58 (dk_at dksX6_count_2 21 rfl rfl)
theorem dX6_count_100 : decode cX6_count 100 = .ok (.ireturn, 1) := dk_172 (dk_at dksX6_count_3 0 rfl rfl)
theorem dX6_count_101 : decode cX6_count 101 = .ok (.aload_n 0, 1) := dk_42 (dk_at dksX6_count_3 1 rfl rfl)
theorem dX6_count_102 : decode cX6_count 102 = .ok (.getfield 150, 3) := dk_180 0 150 (dk_at dksX6_count_3 2 rfl rfl)
theorem dX6_count_105 : decode cX6_count 105 = .ok (.ireturn, 1) := dk_172 (dk_at dksX6_count_3 5 rfl rfl)
theorem dX6_count_106 : decode cX6_count 106 = .ok (.aload_n 0, 1) := dk_42 (dk_at dksX6_count_3 6 rfl rfl)
theorem dX6_count_107 : decode cX6_count 107 = .ok (.iconst 2, 1) := dk_5 (dk_at dksX6_count_3 7 rfl rfl)
theorem dX6_count_108 : decode cX6_count 108 = .ok (.invokevirtual 349, 3) := dk_182 1 93 (dk_at dksX6_count_3 8 rfl rfl)
theorem dX6_count_111 : decode cX6_count 111 = .ok (.ireturn, 1) := dk_172 (dk_at dksX6_count_3 11 rfl rfl)
theorem dX6_count_112 : decode cX6_count 112 = .ok (.aload_n 0, 1) := dk_42 (dk_at dksX6_count_3 12 rfl rfl)
theorem dX6_count_113 : decode cX6_count 113 = .ok (.iconst 3, 1) := dk_6 (dk_at dksX6_count_3 13 rfl rfl)
theorem dX6_count_114 : decode cX6_count 114 = .ok (.invokevirtual 349, 3) := dk_182 1 93 (dk_at dksX6_count_3 14 rfl rfl)
theorem dX6_count_117 : decode cX6_count 117 = .ok (.ireturn, 1) := dk_172 (dk_at dksX6_count_3 17 rfl rfl)
theorem dX6_count_118 : decode cX6_count 118 = .ok (.aload_n 0, 1) := dk_42 (dk_at dksX6_count_3 18 rfl rfl)
theorem dX6_count_119 : decode cX6_count 119 = .ok (.iconst 1, 1) := dk_4 (dk_at dksX6_count_3 19 rfl rfl)
theorem dX6_count_120 : decode cX6_count 120 = .ok (.invokevirtual 352, 3) := dk_182 1 96 (dk_at dksX6_count_3 20 rfl rfl)
theorem dX6_count_123 : decode cX6_count 123 = .ok (.ireturn, 1) := dk_172 (dk_at dksX6_count_3 23 rfl rfl)
theorem dX6_count_124 : decode cX6_count 124 = .ok (.aload_n 0, 1) := dk_42 (dk_at dksX6_count_4 0 rfl rfl)
theorem dX6_count_125 : decode cX6_count 125 = .ok (.iconst 2, 1) := dk_5 (dk_at dksX6_count_4 1 rfl rfl)
theorem dX6_count_126 : decode cX6_count 126 = .ok (.invokevirtual 352, 3) := dk_182 1 96 (dk_at dksX6_count_4 2 rfl rfl)
theorem dX6_count_129 : decode cX6_count 129 = .ok (.ireturn, 1) := dk_172 (dk_at dksX6_count_4 5 rfl rfl)
theorem dX6_count_130 : decode cX6_count 130 = .ok (.aload_n 0, 1) := dk_42 (dk_at dksX6_count_4 6 rfl rfl)
theorem dX6_count_131 : decode cX6_count 131 = .ok (.iconst 3, 1) := dk_6 (dk_at dksX6_count_4 7 rfl rfl)
theorem dX6_count_132 : decode cX6_count 132 = .ok (.invokevirtual 352, 3) := dk_182 1 96 (dk_at dksX6_count_4 8 rfl rfl)
theorem dX6_count_135 : decode cX6_count 135 = .ok (.ireturn, 1) := dk_172 (dk_at dksX6_count_4 11 rfl rfl)
theorem dX6_count_136 : decode cX6_count 136 = .ok (.aload_n 0, 1) := dk_42 (dk_at dksX6_count_4 12 rfl rfl)
theorem dX6_count_137 : decode cX6_count 137 = .ok (.iconst 4, 1) := dk_7 (dk_at dksX6_count_4 13 rfl rfl)
theorem dX6_count_138 : decode cX6_count 138 = .ok (.invokevirtual 352, 3) := dk_182 1 96 (dk_at dksX6_count_4 14 rfl rfl)
theorem dX6_count_141 : decode cX6_count 141 = .ok (.ireturn, 1) := dk_172 (dk_at dksX6_count_4 17 rfl rfl)
theorem dX6_count_142 : decode cX6_count 142 = .ok (.aload_n 0, 1) := dk_42 (dk_at dksX6_count_4 18 rfl rfl)
theorem dX6_count_143 : decode cX6_count 143 = .ok (.getfield 324, 3) := dk_180 1 68 (dk_at dksX6_count_4 19 rfl rfl)
theorem dX6_count_146 : decode cX6_count 146 = .ok (.ireturn, 1) := dk_172 (dk_at dksX6_count_4 22 rfl rfl)
theorem dX6_count_147 : decode cX6_count 147 = .ok (.aload_n 0, 1) := dk_42 (dk_at dksX6_count_4 23 rfl rfl)
theorem dX6_count_148 : decode cX6_count 148 = .ok (.getfield 339, 3) := dk_180 1 83 (dk_at dksX6_count_5 0 rfl rfl)
theorem dX6_count_151 : decode cX6_count 151 = .ok (.ireturn, 1) := dk_172 (dk_at dksX6_count_5 3 rfl rfl)
theorem dX6_count_152 : decode cX6_count 152 = .ok (.iconst (-1), 1) := dk_2 (dk_at dksX6_count_5 4 rfl rfl)
theorem dX6_count_153 : decode cX6_count 153 = .ok (.ireturn, 1) := dk_172 (dk_at dksX6_count_5 5 rfl rfl)
abbrev cX6_inWay : ByteArray := prog_21_method_92_code
def yX6_inWay : MethodName := ⟨RX6, "inWay", "(I)I"⟩
def dkwX6_inWay_1 : List UInt8 := [132, 2, 1, 132, 3, 1, 167, 255, 232, 28, 172]
abbrev dktX6_inWay_1 : List UInt8 := dkwX6_inWay_1 ++ []
def dkwX6_inWay_0 : List UInt8 := [3, 61, 3, 62, 29, 42, 180, 0, 144, 162, 0, 22, 42, 180, 0, 86, 29, 46, 27, 160, 0, 6]
abbrev dktX6_inWay_0 : List UInt8 := dkwX6_inWay_0 ++ dktX6_inWay_1
theorem dksX6_inWay_0 : cX6_inWay.data.toList.drop 0 = dktX6_inWay_0 := by decide +kernel
theorem dksX6_inWay_1 : cX6_inWay.data.toList.drop 22 = dktX6_inWay_1 := dk_seg dksX6_inWay_0 22 rfl rfl
theorem dX6_inWay_0 : decode cX6_inWay 0 = .ok (.iconst 0, 1) := dk_3 (dk_at dksX6_inWay_0 0 rfl rfl)
theorem dX6_inWay_1 : decode cX6_inWay 1 = .ok (.istore_n 2, 1) := dk_61 (dk_at dksX6_inWay_0 1 rfl rfl)
theorem dX6_inWay_2 : decode cX6_inWay 2 = .ok (.iconst 0, 1) := dk_3 (dk_at dksX6_inWay_0 2 rfl rfl)
theorem dX6_inWay_3 : decode cX6_inWay 3 = .ok (.istore_n 3, 1) := dk_62 (dk_at dksX6_inWay_0 3 rfl rfl)
theorem dX6_inWay_4 : decode cX6_inWay 4 = .ok (.iload_n 3, 1) := dk_29 (dk_at dksX6_inWay_0 4 rfl rfl)
theorem dX6_inWay_5 : decode cX6_inWay 5 = .ok (.aload_n 0, 1) := dk_42 (dk_at dksX6_inWay_0 5 rfl rfl)
theorem dX6_inWay_6 : decode cX6_inWay 6 = .ok (.getfield 144, 3) := dk_180 0 144 (dk_at dksX6_inWay_0 6 rfl rfl)
theorem dX6_inWay_9 : decode cX6_inWay 9 = .ok (.if_icmp .ge 22, 3) := dk_162 0 22 (dk_at dksX6_inWay_0 9 rfl rfl)
theorem dX6_inWay_12 : decode cX6_inWay 12 = .ok (.aload_n 0, 1) := dk_42 (dk_at dksX6_inWay_0 12 rfl rfl)
theorem dX6_inWay_13 : decode cX6_inWay 13 = .ok (.getfield 86, 3) := dk_180 0 86 (dk_at dksX6_inWay_0 13 rfl rfl)
theorem dX6_inWay_16 : decode cX6_inWay 16 = .ok (.iload_n 3, 1) := dk_29 (dk_at dksX6_inWay_0 16 rfl rfl)
theorem dX6_inWay_17 : decode cX6_inWay 17 = .ok (.iaload, 1) := dk_46 (dk_at dksX6_inWay_0 17 rfl rfl)
theorem dX6_inWay_18 : decode cX6_inWay 18 = .ok (.iload_n 1, 1) := dk_27 (dk_at dksX6_inWay_0 18 rfl rfl)
theorem dX6_inWay_19 : decode cX6_inWay 19 = .ok (.if_icmp .ne 6, 3) := dk_160 0 6 (dk_at dksX6_inWay_0 19 rfl rfl)
theorem dX6_inWay_22 : decode cX6_inWay 22 = .ok (.iinc 2 1, 3) := dk_132 2 1 (dk_at dksX6_inWay_1 0 rfl rfl)
theorem dX6_inWay_25 : decode cX6_inWay 25 = .ok (.iinc 3 1, 3) := dk_132 3 1 (dk_at dksX6_inWay_1 3 rfl rfl)
theorem dX6_inWay_28 : decode cX6_inWay 28 = .ok (.goto (-24), 3) := dk_167 255 232 (dk_at dksX6_inWay_1 6 rfl rfl)
theorem dX6_inWay_31 : decode cX6_inWay 31 = .ok (.iload_n 2, 1) := dk_28 (dk_at dksX6_inWay_1 9 rfl rfl)
theorem dX6_inWay_32 : decode cX6_inWay 32 = .ok (.ireturn, 1) := dk_172 (dk_at dksX6_inWay_1 10 rfl rfl)
abbrev cX6_inState : ByteArray := prog_21_method_91_code
def yX6_inState : MethodName := ⟨RX6, "inState", "(I)I"⟩
def dkwX6_inState_1 : List UInt8 := [132, 2, 1, 132, 3, 1, 167, 255, 232, 28, 172]
abbrev dktX6_inState_1 : List UInt8 := dkwX6_inState_1 ++ []
def dkwX6_inState_0 : List UInt8 := [3, 61, 3, 62, 29, 42, 180, 0, 141, 162, 0, 22, 42, 180, 0, 32, 29, 46, 27, 160, 0, 6]
abbrev dktX6_inState_0 : List UInt8 := dkwX6_inState_0 ++ dktX6_inState_1
theorem dksX6_inState_0 : cX6_inState.data.toList.drop 0 = dktX6_inState_0 := by decide +kernel
theorem dksX6_inState_1 : cX6_inState.data.toList.drop 22 = dktX6_inState_1 := dk_seg dksX6_inState_0 22 rfl rfl
theorem dX6_inState_0 : decode cX6_inState 0 = .ok (.iconst 0, 1) := dk_3 (dk_at dksX6_inState_0 0 rfl rfl)
theorem dX6_inState_1 : decode cX6_inState 1 = .ok (.istore_n 2, 1) := dk_61 (dk_at dksX6_inState_0 1 rfl rfl)
theorem dX6_inState_2 : decode cX6_inState 2 = .ok (.iconst 0, 1) := dk_3 (dk_at dksX6_inState_0 2 rfl rfl)
theorem dX6_inState_3 : decode cX6_inState 3 = .ok (.istore_n 3, 1) := dk_62 (dk_at dksX6_inState_0 3 rfl rfl)
theorem dX6_inState_4 : decode cX6_inState 4 = .ok (.iload_n 3, 1) := dk_29 (dk_at dksX6_inState_0 4 rfl rfl)
theorem dX6_inState_5 : decode cX6_inState 5 = .ok (.aload_n 0, 1) := dk_42 (dk_at dksX6_inState_0 5 rfl rfl)
theorem dX6_inState_6 : decode cX6_inState 6 = .ok (.getfield 141, 3) := dk_180 0 141 (dk_at dksX6_inState_0 6 rfl rfl)
theorem dX6_inState_9 : decode cX6_inState 9 = .ok (.if_icmp .ge 22, 3) := dk_162 0 22 (dk_at dksX6_inState_0 9 rfl rfl)
theorem dX6_inState_12 : decode cX6_inState 12 = .ok (.aload_n 0, 1) := dk_42 (dk_at dksX6_inState_0 12 rfl rfl)
theorem dX6_inState_13 : decode cX6_inState 13 = .ok (.getfield 32, 3) := dk_180 0 32 (dk_at dksX6_inState_0 13 rfl rfl)
theorem dX6_inState_16 : decode cX6_inState 16 = .ok (.iload_n 3, 1) := dk_29 (dk_at dksX6_inState_0 16 rfl rfl)
theorem dX6_inState_17 : decode cX6_inState 17 = .ok (.iaload, 1) := dk_46 (dk_at dksX6_inState_0 17 rfl rfl)
theorem dX6_inState_18 : decode cX6_inState 18 = .ok (.iload_n 1, 1) := dk_27 (dk_at dksX6_inState_0 18 rfl rfl)
theorem dX6_inState_19 : decode cX6_inState 19 = .ok (.if_icmp .ne 6, 3) := dk_160 0 6 (dk_at dksX6_inState_0 19 rfl rfl)
theorem dX6_inState_22 : decode cX6_inState 22 = .ok (.iinc 2 1, 3) := dk_132 2 1 (dk_at dksX6_inState_1 0 rfl rfl)
theorem dX6_inState_25 : decode cX6_inState 25 = .ok (.iinc 3 1, 3) := dk_132 3 1 (dk_at dksX6_inState_1 3 rfl rfl)
theorem dX6_inState_28 : decode cX6_inState 28 = .ok (.goto (-24), 3) := dk_167 255 232 (dk_at dksX6_inState_1 6 rfl rfl)
theorem dX6_inState_31 : decode cX6_inState 31 = .ok (.iload_n 2, 1) := dk_28 (dk_at dksX6_inState_1 9 rfl rfl)
theorem dX6_inState_32 : decode cX6_inState 32 = .ok (.ireturn, 1) := dk_172 (dk_at dksX6_inState_1 10 rfl rfl)
theorem q95 : (Jvm.Cond.initialized "ChurchyardBookModel") ∈ lw_all := lw_g (lw_at lw_m1 9 rfl) rfl
theorem q422 : (Jvm.Cond.selects "ChurchyardBookModel" ({ cls := "java/lang/Object", name := "getClass", desc := "()Ljava/lang/Class;" } : Jvm.MethodName) ({ cls := "java/lang/Object", name := "getClass", desc := "()Ljava/lang/Class;" } : Jvm.MethodName)) ∈ lw_all := lw_g (lw_at lw_m2 96 rfl) rfl
theorem q1053 : (Jvm.Cond.selects "ChurchyardBookModel" ({ cls := "java/lang/Object", name := "equals", desc := "(Ljava/lang/Object;)Z" } : Jvm.MethodName) ({ cls := "java/lang/Object", name := "equals", desc := "(Ljava/lang/Object;)Z" } : Jvm.MethodName)) ∈ lw_all := lw_g (lw_at lw_m5 7 rfl) rfl
theorem q1708 : (Jvm.Cond.instantiable "ChurchyardBookModel" (50 : Nat)) ∈ lw_all := lw_g (lw_at lw_m7 182 rfl) rfl
theorem q1710 : (Jvm.Cond.instanceMethod ({ cls := "ChurchyardBookModel", name := "<init>", desc := "()V" } : Jvm.MethodName)) ∈ lw_all := lw_g (lw_at lw_m7 184 rfl) rfl
theorem q1711 : (Jvm.Cond.code ({ cls := "ChurchyardBookModel", name := "<init>", desc := "()V" } : Jvm.MethodName) prog_21_method_1_code (1 : Nat) (Option.none : Option Jvm.ClassFile.FieldType)) ∈ lw_all := lw_g (lw_at lw_m7 185 rfl) rfl
theorem q1712 : (Jvm.Cond.methodLink "ChurchyardBookModel" (1 : Nat) ({ cls := "java/lang/Object", name := "<init>", desc := "()V" } : Jvm.MethodName)) ∈ lw_all := lw_g (lw_at lw_m7 186 rfl) rfl
theorem q1713 : (Jvm.Cond.fieldLink "ChurchyardBookModel" (131 : Nat) "ChurchyardBookModel" "thrown" "I") ∈ lw_all := lw_g (lw_at lw_m7 187 rfl) rfl
theorem q1714 : (Jvm.Cond.fieldLink "ChurchyardBookModel" (135 : Nat) "ChurchyardBookModel" "today" "I") ∈ lw_all := lw_g (lw_at lw_m7 188 rfl) rfl
theorem q1715 : (Jvm.Cond.fieldLink "ChurchyardBookModel" (138 : Nat) "ChurchyardBookModel" "fields" "I") ∈ lw_all := lw_g (lw_at lw_m7 189 rfl) rfl
theorem q1716 : (Jvm.Cond.fieldLink "ChurchyardBookModel" (7 : Nat) "ChurchyardBookModel" "ground" "[I") ∈ lw_all := lw_g (lw_at lw_m7 190 rfl) rfl
theorem q1717 : (Jvm.Cond.fieldLink "ChurchyardBookModel" (13 : Nat) "ChurchyardBookModel" "rows" "[I") ∈ lw_all := lw_g (lw_at lw_m7 191 rfl) rfl
theorem q1718 : (Jvm.Cond.fieldLink "ChurchyardBookModel" (16 : Nat) "ChurchyardBookModel" "rowSort" "[I") ∈ lw_all := lw_g (lw_at lw_m7 192 rfl) rfl
theorem q1719 : (Jvm.Cond.fieldLink "ChurchyardBookModel" (19 : Nat) "ChurchyardBookModel" "rowMany" "[I") ∈ lw_all := lw_g (lw_at lw_m7 193 rfl) rfl
theorem q1720 : (Jvm.Cond.fieldLink "ChurchyardBookModel" (22 : Nat) "ChurchyardBookModel" "missing" "[Z") ∈ lw_all := lw_g (lw_at lw_m7 194 rfl) rfl
theorem q1721 : (Jvm.Cond.fieldLink "ChurchyardBookModel" (26 : Nat) "ChurchyardBookModel" "spots" "[I") ∈ lw_all := lw_g (lw_at lw_m7 195 rfl) rfl
theorem q1722 : (Jvm.Cond.fieldLink "ChurchyardBookModel" (141 : Nat) "ChurchyardBookModel" "graves" "I") ∈ lw_all := lw_g (lw_at lw_m7 196 rfl) rfl
theorem q1723 : (Jvm.Cond.fieldLink "ChurchyardBookModel" (29 : Nat) "ChurchyardBookModel" "gKind" "[I") ∈ lw_all := lw_g (lw_at lw_m7 197 rfl) rfl
theorem q1724 : (Jvm.Cond.fieldLink "ChurchyardBookModel" (32 : Nat) "ChurchyardBookModel" "gState" "[I") ∈ lw_all := lw_g (lw_at lw_m7 198 rfl) rfl
theorem q1725 : (Jvm.Cond.fieldLink "ChurchyardBookModel" (35 : Nat) "ChurchyardBookModel" "gHolder" "[I") ∈ lw_all := lw_g (lw_at lw_m7 199 rfl) rfl
theorem q1726 : (Jvm.Cond.fieldLink "ChurchyardBookModel" (38 : Nat) "ChurchyardBookModel" "gTo" "[I") ∈ lw_all := lw_g (lw_at lw_m7 200 rfl) rfl
theorem q1727 : (Jvm.Cond.fieldLink "ChurchyardBookModel" (41 : Nat) "ChurchyardBookModel" "gOffered" "[I") ∈ lw_all := lw_g (lw_at lw_m7 201 rfl) rfl
theorem q1728 : (Jvm.Cond.fieldLink "ChurchyardBookModel" (44 : Nat) "ChurchyardBookModel" "gDate" "[I") ∈ lw_all := lw_g (lw_at lw_m7 202 rfl) rfl
theorem q1729 : (Jvm.Cond.fieldLink "ChurchyardBookModel" (47 : Nat) "ChurchyardBookModel" "gRow" "[I") ∈ lw_all := lw_g (lw_at lw_m7 203 rfl) rfl
theorem q1730 : (Jvm.Cond.fieldLink "ChurchyardBookModel" (50 : Nat) "ChurchyardBookModel" "gPlace" "[I") ∈ lw_all := lw_g (lw_at lw_m7 204 rfl) rfl
theorem q1731 : (Jvm.Cond.fieldLink "ChurchyardBookModel" (53 : Nat) "ChurchyardBookModel" "gWide" "[I") ∈ lw_all := lw_g (lw_at lw_m7 205 rfl) rfl
theorem q1732 : (Jvm.Cond.fieldLink "ChurchyardBookModel" (56 : Nat) "ChurchyardBookModel" "gFrom" "[I") ∈ lw_all := lw_g (lw_at lw_m7 206 rfl) rfl
theorem q1733 : (Jvm.Cond.fieldLink "ChurchyardBookModel" (59 : Nat) "ChurchyardBookModel" "agreed" "[Z") ∈ lw_all := lw_g (lw_at lw_m7 207 rfl) rfl
theorem q1734 : (Jvm.Cond.fieldLink "ChurchyardBookModel" (62 : Nat) "ChurchyardBookModel" "heirs" "[I") ∈ lw_all := lw_g (lw_at lw_m7 208 rfl) rfl
theorem q1735 : (Jvm.Cond.fieldLink "ChurchyardBookModel" (65 : Nat) "ChurchyardBookModel" "heirMany" "[I") ∈ lw_all := lw_g (lw_at lw_m7 209 rfl) rfl
theorem q1736 : (Jvm.Cond.fieldLink "ChurchyardBookModel" (68 : Nat) "ChurchyardBookModel" "heirAt" "[I") ∈ lw_all := lw_g (lw_at lw_m7 210 rfl) rfl
theorem q1737 : (Jvm.Cond.fieldLink "ChurchyardBookModel" (71 : Nat) "ChurchyardBookModel" "lies" "[I") ∈ lw_all := lw_g (lw_at lw_m7 211 rfl) rfl
theorem q1738 : (Jvm.Cond.fieldLink "ChurchyardBookModel" (74 : Nat) "ChurchyardBookModel" "field0" "[I") ∈ lw_all := lw_g (lw_at lw_m7 212 rfl) rfl
theorem q1739 : (Jvm.Cond.fieldLink "ChurchyardBookModel" (77 : Nat) "ChurchyardBookModel" "fieldMany" "[I") ∈ lw_all := lw_g (lw_at lw_m7 213 rfl) rfl
theorem q1740 : (Jvm.Cond.fieldLink "ChurchyardBookModel" (144 : Nat) "ChurchyardBookModel" "persons" "I") ∈ lw_all := lw_g (lw_at lw_m7 214 rfl) rfl
theorem q1741 : (Jvm.Cond.fieldLink "ChurchyardBookModel" (80 : Nat) "ChurchyardBookModel" "born" "[I") ∈ lw_all := lw_g (lw_at lw_m7 215 rfl) rfl
theorem q1742 : (Jvm.Cond.fieldLink "ChurchyardBookModel" (83 : Nat) "ChurchyardBookModel" "dead" "[Z") ∈ lw_all := lw_g (lw_at lw_m7 216 rfl) rfl
theorem q1743 : (Jvm.Cond.fieldLink "ChurchyardBookModel" (86 : Nat) "ChurchyardBookModel" "state" "[I") ∈ lw_all := lw_g (lw_at lw_m7 217 rfl) rfl
theorem q1744 : (Jvm.Cond.fieldLink "ChurchyardBookModel" (89 : Nat) "ChurchyardBookModel" "inGrave" "[I") ∈ lw_all := lw_g (lw_at lw_m7 218 rfl) rfl
theorem q1745 : (Jvm.Cond.fieldLink "ChurchyardBookModel" (92 : Nat) "ChurchyardBookModel" "column" "[I") ∈ lw_all := lw_g (lw_at lw_m7 219 rfl) rfl
theorem q1746 : (Jvm.Cond.fieldLink "ChurchyardBookModel" (95 : Nat) "ChurchyardBookModel" "depth" "[I") ∈ lw_all := lw_g (lw_at lw_m7 220 rfl) rfl
theorem q1747 : (Jvm.Cond.fieldLink "ChurchyardBookModel" (98 : Nat) "ChurchyardBookModel" "end" "[I") ∈ lw_all := lw_g (lw_at lw_m7 221 rfl) rfl
theorem q1748 : (Jvm.Cond.fieldLink "ChurchyardBookModel" (101 : Nat) "ChurchyardBookModel" "buriedAs" "[I") ∈ lw_all := lw_g (lw_at lw_m7 222 rfl) rfl
theorem q1749 : (Jvm.Cond.fieldLink "ChurchyardBookModel" (104 : Nat) "ChurchyardBookModel" "wed" "[I") ∈ lw_all := lw_g (lw_at lw_m7 223 rfl) rfl
theorem q1750 : (Jvm.Cond.fieldLink "ChurchyardBookModel" (107 : Nat) "ChurchyardBookModel" "parentA" "[I") ∈ lw_all := lw_g (lw_at lw_m7 224 rfl) rfl
theorem q1751 : (Jvm.Cond.fieldLink "ChurchyardBookModel" (110 : Nat) "ChurchyardBookModel" "parentB" "[I") ∈ lw_all := lw_g (lw_at lw_m7 225 rfl) rfl
theorem q1752 : (Jvm.Cond.fieldLink "ChurchyardBookModel" (113 : Nat) "ChurchyardBookModel" "paperOf" "[I") ∈ lw_all := lw_g (lw_at lw_m7 226 rfl) rfl
theorem q1753 : (Jvm.Cond.fieldLink "ChurchyardBookModel" (147 : Nat) "ChurchyardBookModel" "moves" "I") ∈ lw_all := lw_g (lw_at lw_m7 227 rfl) rfl
theorem q1754 : (Jvm.Cond.fieldLink "ChurchyardBookModel" (116 : Nat) "ChurchyardBookModel" "moveWho" "[I") ∈ lw_all := lw_g (lw_at lw_m7 228 rfl) rfl
theorem q1755 : (Jvm.Cond.fieldLink "ChurchyardBookModel" (119 : Nat) "ChurchyardBookModel" "moveDay" "[I") ∈ lw_all := lw_g (lw_at lw_m7 229 rfl) rfl
theorem q1756 : (Jvm.Cond.fieldLink "ChurchyardBookModel" (122 : Nat) "ChurchyardBookModel" "moveTo" "[I") ∈ lw_all := lw_g (lw_at lw_m7 230 rfl) rfl
theorem q1757 : (Jvm.Cond.fieldLink "ChurchyardBookModel" (150 : Nat) "ChurchyardBookModel" "paid" "I") ∈ lw_all := lw_g (lw_at lw_m7 231 rfl) rfl
theorem q1758 : (Jvm.Cond.fieldLink "ChurchyardBookModel" (314 : Nat) "ChurchyardBookModel" "acts" "I") ∈ lw_all := lw_g (lw_at lw_m7 232 rfl) rfl
theorem q1759 : (Jvm.Cond.fieldLink "ChurchyardBookModel" (125 : Nat) "ChurchyardBookModel" "written" "[I") ∈ lw_all := lw_g (lw_at lw_m7 233 rfl) rfl
theorem q1760 : (Jvm.Cond.fieldLink "ChurchyardBookModel" (324 : Nat) "ChurchyardBookModel" "taped" "I") ∈ lw_all := lw_g (lw_at lw_m7 234 rfl) rfl
theorem q1761 : (Jvm.Cond.fieldLink "ChurchyardBookModel" (128 : Nat) "ChurchyardBookModel" "tape" "[I") ∈ lw_all := lw_g (lw_at lw_m7 235 rfl) rfl
theorem q1762 : (Jvm.Cond.fieldLink "ChurchyardBookModel" (339 : Nat) "ChurchyardBookModel" "tried" "I") ∈ lw_all := lw_g (lw_at lw_m7 236 rfl) rfl
theorem q1763 : (Jvm.Cond.lays "ChurchyardBookModel" "ChurchyardBookModel" "thrown" "I") ∈ lw_all := lw_g (lw_at lw_m7 237 rfl) rfl
theorem q1764 : (Jvm.Cond.soleField "ChurchyardBookModel" "thrown") ∈ lw_all := lw_g (lw_at lw_m7 238 rfl) rfl
theorem q1765 : (Jvm.Cond.lays "ChurchyardBookModel" "ChurchyardBookModel" "today" "I") ∈ lw_all := lw_g (lw_at lw_m7 239 rfl) rfl
theorem q1766 : (Jvm.Cond.soleField "ChurchyardBookModel" "today") ∈ lw_all := lw_g (lw_at lw_m8 0 rfl) rfl
theorem q1767 : (Jvm.Cond.lays "ChurchyardBookModel" "ChurchyardBookModel" "fields" "I") ∈ lw_all := lw_g (lw_at lw_m8 1 rfl) rfl
theorem q1768 : (Jvm.Cond.soleField "ChurchyardBookModel" "fields") ∈ lw_all := lw_g (lw_at lw_m8 2 rfl) rfl
theorem q1769 : (Jvm.Cond.laysFinal "ChurchyardBookModel" "ChurchyardBookModel" "ground" "[I") ∈ lw_all := lw_g (lw_at lw_m8 3 rfl) rfl
theorem q1770 : (Jvm.Cond.soleField "ChurchyardBookModel" "ground") ∈ lw_all := lw_g (lw_at lw_m8 4 rfl) rfl
theorem q1771 : (Jvm.Cond.laysFinal "ChurchyardBookModel" "ChurchyardBookModel" "rows" "[I") ∈ lw_all := lw_g (lw_at lw_m8 5 rfl) rfl
theorem q1772 : (Jvm.Cond.soleField "ChurchyardBookModel" "rows") ∈ lw_all := lw_g (lw_at lw_m8 6 rfl) rfl
theorem q1773 : (Jvm.Cond.laysFinal "ChurchyardBookModel" "ChurchyardBookModel" "rowSort" "[I") ∈ lw_all := lw_g (lw_at lw_m8 7 rfl) rfl
theorem q1774 : (Jvm.Cond.soleField "ChurchyardBookModel" "rowSort") ∈ lw_all := lw_g (lw_at lw_m8 8 rfl) rfl
theorem q1775 : (Jvm.Cond.laysFinal "ChurchyardBookModel" "ChurchyardBookModel" "rowMany" "[I") ∈ lw_all := lw_g (lw_at lw_m8 9 rfl) rfl
theorem q1776 : (Jvm.Cond.soleField "ChurchyardBookModel" "rowMany") ∈ lw_all := lw_g (lw_at lw_m8 10 rfl) rfl
theorem q1777 : (Jvm.Cond.laysFinal "ChurchyardBookModel" "ChurchyardBookModel" "missing" "[Z") ∈ lw_all := lw_g (lw_at lw_m8 11 rfl) rfl
theorem q1778 : (Jvm.Cond.soleField "ChurchyardBookModel" "missing") ∈ lw_all := lw_g (lw_at lw_m8 12 rfl) rfl
theorem q1779 : (Jvm.Cond.laysFinal "ChurchyardBookModel" "ChurchyardBookModel" "spots" "[I") ∈ lw_all := lw_g (lw_at lw_m8 13 rfl) rfl
theorem q1780 : (Jvm.Cond.soleField "ChurchyardBookModel" "spots") ∈ lw_all := lw_g (lw_at lw_m8 14 rfl) rfl
theorem q1781 : (Jvm.Cond.lays "ChurchyardBookModel" "ChurchyardBookModel" "graves" "I") ∈ lw_all := lw_g (lw_at lw_m8 15 rfl) rfl
theorem q1782 : (Jvm.Cond.soleField "ChurchyardBookModel" "graves") ∈ lw_all := lw_g (lw_at lw_m8 16 rfl) rfl
theorem q1783 : (Jvm.Cond.laysFinal "ChurchyardBookModel" "ChurchyardBookModel" "gKind" "[I") ∈ lw_all := lw_g (lw_at lw_m8 17 rfl) rfl
theorem q1784 : (Jvm.Cond.soleField "ChurchyardBookModel" "gKind") ∈ lw_all := lw_g (lw_at lw_m8 18 rfl) rfl
theorem q1785 : (Jvm.Cond.laysFinal "ChurchyardBookModel" "ChurchyardBookModel" "gState" "[I") ∈ lw_all := lw_g (lw_at lw_m8 19 rfl) rfl
theorem q1786 : (Jvm.Cond.soleField "ChurchyardBookModel" "gState") ∈ lw_all := lw_g (lw_at lw_m8 20 rfl) rfl
theorem q1787 : (Jvm.Cond.laysFinal "ChurchyardBookModel" "ChurchyardBookModel" "gHolder" "[I") ∈ lw_all := lw_g (lw_at lw_m8 21 rfl) rfl
theorem q1788 : (Jvm.Cond.soleField "ChurchyardBookModel" "gHolder") ∈ lw_all := lw_g (lw_at lw_m8 22 rfl) rfl
theorem q1789 : (Jvm.Cond.laysFinal "ChurchyardBookModel" "ChurchyardBookModel" "gTo" "[I") ∈ lw_all := lw_g (lw_at lw_m8 23 rfl) rfl
theorem q1790 : (Jvm.Cond.soleField "ChurchyardBookModel" "gTo") ∈ lw_all := lw_g (lw_at lw_m8 24 rfl) rfl
theorem q1791 : (Jvm.Cond.laysFinal "ChurchyardBookModel" "ChurchyardBookModel" "gOffered" "[I") ∈ lw_all := lw_g (lw_at lw_m8 25 rfl) rfl
theorem q1792 : (Jvm.Cond.soleField "ChurchyardBookModel" "gOffered") ∈ lw_all := lw_g (lw_at lw_m8 26 rfl) rfl
theorem q1793 : (Jvm.Cond.laysFinal "ChurchyardBookModel" "ChurchyardBookModel" "gDate" "[I") ∈ lw_all := lw_g (lw_at lw_m8 27 rfl) rfl
theorem q1794 : (Jvm.Cond.soleField "ChurchyardBookModel" "gDate") ∈ lw_all := lw_g (lw_at lw_m8 28 rfl) rfl
theorem q1795 : (Jvm.Cond.laysFinal "ChurchyardBookModel" "ChurchyardBookModel" "gRow" "[I") ∈ lw_all := lw_g (lw_at lw_m8 29 rfl) rfl
theorem q1796 : (Jvm.Cond.soleField "ChurchyardBookModel" "gRow") ∈ lw_all := lw_g (lw_at lw_m8 30 rfl) rfl
theorem q1797 : (Jvm.Cond.laysFinal "ChurchyardBookModel" "ChurchyardBookModel" "gPlace" "[I") ∈ lw_all := lw_g (lw_at lw_m8 31 rfl) rfl
theorem q1798 : (Jvm.Cond.soleField "ChurchyardBookModel" "gPlace") ∈ lw_all := lw_g (lw_at lw_m8 32 rfl) rfl
theorem q1799 : (Jvm.Cond.laysFinal "ChurchyardBookModel" "ChurchyardBookModel" "gWide" "[I") ∈ lw_all := lw_g (lw_at lw_m8 33 rfl) rfl
theorem q1800 : (Jvm.Cond.soleField "ChurchyardBookModel" "gWide") ∈ lw_all := lw_g (lw_at lw_m8 34 rfl) rfl
theorem q1801 : (Jvm.Cond.laysFinal "ChurchyardBookModel" "ChurchyardBookModel" "gFrom" "[I") ∈ lw_all := lw_g (lw_at lw_m8 35 rfl) rfl
theorem q1802 : (Jvm.Cond.soleField "ChurchyardBookModel" "gFrom") ∈ lw_all := lw_g (lw_at lw_m8 36 rfl) rfl
theorem q1803 : (Jvm.Cond.laysFinal "ChurchyardBookModel" "ChurchyardBookModel" "agreed" "[Z") ∈ lw_all := lw_g (lw_at lw_m8 37 rfl) rfl
theorem q1804 : (Jvm.Cond.soleField "ChurchyardBookModel" "agreed") ∈ lw_all := lw_g (lw_at lw_m8 38 rfl) rfl
theorem q1805 : (Jvm.Cond.laysFinal "ChurchyardBookModel" "ChurchyardBookModel" "heirs" "[I") ∈ lw_all := lw_g (lw_at lw_m8 39 rfl) rfl
theorem q1806 : (Jvm.Cond.soleField "ChurchyardBookModel" "heirs") ∈ lw_all := lw_g (lw_at lw_m8 40 rfl) rfl
theorem q1807 : (Jvm.Cond.laysFinal "ChurchyardBookModel" "ChurchyardBookModel" "heirMany" "[I") ∈ lw_all := lw_g (lw_at lw_m8 41 rfl) rfl
theorem q1808 : (Jvm.Cond.soleField "ChurchyardBookModel" "heirMany") ∈ lw_all := lw_g (lw_at lw_m8 42 rfl) rfl
theorem q1809 : (Jvm.Cond.laysFinal "ChurchyardBookModel" "ChurchyardBookModel" "heirAt" "[I") ∈ lw_all := lw_g (lw_at lw_m8 43 rfl) rfl
theorem q1810 : (Jvm.Cond.soleField "ChurchyardBookModel" "heirAt") ∈ lw_all := lw_g (lw_at lw_m8 44 rfl) rfl
theorem q1811 : (Jvm.Cond.laysFinal "ChurchyardBookModel" "ChurchyardBookModel" "lies" "[I") ∈ lw_all := lw_g (lw_at lw_m8 45 rfl) rfl
theorem q1812 : (Jvm.Cond.soleField "ChurchyardBookModel" "lies") ∈ lw_all := lw_g (lw_at lw_m8 46 rfl) rfl
theorem q1813 : (Jvm.Cond.laysFinal "ChurchyardBookModel" "ChurchyardBookModel" "field0" "[I") ∈ lw_all := lw_g (lw_at lw_m8 47 rfl) rfl
theorem q1814 : (Jvm.Cond.soleField "ChurchyardBookModel" "field0") ∈ lw_all := lw_g (lw_at lw_m8 48 rfl) rfl
theorem q1815 : (Jvm.Cond.laysFinal "ChurchyardBookModel" "ChurchyardBookModel" "fieldMany" "[I") ∈ lw_all := lw_g (lw_at lw_m8 49 rfl) rfl
theorem q1816 : (Jvm.Cond.soleField "ChurchyardBookModel" "fieldMany") ∈ lw_all := lw_g (lw_at lw_m8 50 rfl) rfl
theorem q1817 : (Jvm.Cond.lays "ChurchyardBookModel" "ChurchyardBookModel" "persons" "I") ∈ lw_all := lw_g (lw_at lw_m8 51 rfl) rfl
theorem q1818 : (Jvm.Cond.soleField "ChurchyardBookModel" "persons") ∈ lw_all := lw_g (lw_at lw_m8 52 rfl) rfl
theorem q1819 : (Jvm.Cond.laysFinal "ChurchyardBookModel" "ChurchyardBookModel" "born" "[I") ∈ lw_all := lw_g (lw_at lw_m8 53 rfl) rfl
theorem q1820 : (Jvm.Cond.soleField "ChurchyardBookModel" "born") ∈ lw_all := lw_g (lw_at lw_m8 54 rfl) rfl
theorem q1821 : (Jvm.Cond.laysFinal "ChurchyardBookModel" "ChurchyardBookModel" "dead" "[Z") ∈ lw_all := lw_g (lw_at lw_m8 55 rfl) rfl
theorem q1822 : (Jvm.Cond.soleField "ChurchyardBookModel" "dead") ∈ lw_all := lw_g (lw_at lw_m8 56 rfl) rfl
theorem q1823 : (Jvm.Cond.laysFinal "ChurchyardBookModel" "ChurchyardBookModel" "state" "[I") ∈ lw_all := lw_g (lw_at lw_m8 57 rfl) rfl
theorem q1824 : (Jvm.Cond.soleField "ChurchyardBookModel" "state") ∈ lw_all := lw_g (lw_at lw_m8 58 rfl) rfl
theorem q1825 : (Jvm.Cond.laysFinal "ChurchyardBookModel" "ChurchyardBookModel" "inGrave" "[I") ∈ lw_all := lw_g (lw_at lw_m8 59 rfl) rfl
theorem q1826 : (Jvm.Cond.soleField "ChurchyardBookModel" "inGrave") ∈ lw_all := lw_g (lw_at lw_m8 60 rfl) rfl
theorem q1827 : (Jvm.Cond.laysFinal "ChurchyardBookModel" "ChurchyardBookModel" "column" "[I") ∈ lw_all := lw_g (lw_at lw_m8 61 rfl) rfl
theorem q1828 : (Jvm.Cond.soleField "ChurchyardBookModel" "column") ∈ lw_all := lw_g (lw_at lw_m8 62 rfl) rfl
theorem q1829 : (Jvm.Cond.laysFinal "ChurchyardBookModel" "ChurchyardBookModel" "depth" "[I") ∈ lw_all := lw_g (lw_at lw_m8 63 rfl) rfl
theorem q1830 : (Jvm.Cond.soleField "ChurchyardBookModel" "depth") ∈ lw_all := lw_g (lw_at lw_m8 64 rfl) rfl
theorem q1831 : (Jvm.Cond.laysFinal "ChurchyardBookModel" "ChurchyardBookModel" "end" "[I") ∈ lw_all := lw_g (lw_at lw_m8 65 rfl) rfl
theorem q1832 : (Jvm.Cond.soleField "ChurchyardBookModel" "end") ∈ lw_all := lw_g (lw_at lw_m8 66 rfl) rfl
theorem q1833 : (Jvm.Cond.laysFinal "ChurchyardBookModel" "ChurchyardBookModel" "buriedAs" "[I") ∈ lw_all := lw_g (lw_at lw_m8 67 rfl) rfl
theorem q1834 : (Jvm.Cond.soleField "ChurchyardBookModel" "buriedAs") ∈ lw_all := lw_g (lw_at lw_m8 68 rfl) rfl
theorem q1835 : (Jvm.Cond.laysFinal "ChurchyardBookModel" "ChurchyardBookModel" "wed" "[I") ∈ lw_all := lw_g (lw_at lw_m8 69 rfl) rfl
theorem q1836 : (Jvm.Cond.soleField "ChurchyardBookModel" "wed") ∈ lw_all := lw_g (lw_at lw_m8 70 rfl) rfl
theorem q1837 : (Jvm.Cond.laysFinal "ChurchyardBookModel" "ChurchyardBookModel" "parentA" "[I") ∈ lw_all := lw_g (lw_at lw_m8 71 rfl) rfl
theorem q1838 : (Jvm.Cond.soleField "ChurchyardBookModel" "parentA") ∈ lw_all := lw_g (lw_at lw_m8 72 rfl) rfl
theorem q1839 : (Jvm.Cond.laysFinal "ChurchyardBookModel" "ChurchyardBookModel" "parentB" "[I") ∈ lw_all := lw_g (lw_at lw_m8 73 rfl) rfl
theorem q1840 : (Jvm.Cond.soleField "ChurchyardBookModel" "parentB") ∈ lw_all := lw_g (lw_at lw_m8 74 rfl) rfl
theorem q1841 : (Jvm.Cond.laysFinal "ChurchyardBookModel" "ChurchyardBookModel" "paperOf" "[I") ∈ lw_all := lw_g (lw_at lw_m8 75 rfl) rfl
theorem q1842 : (Jvm.Cond.soleField "ChurchyardBookModel" "paperOf") ∈ lw_all := lw_g (lw_at lw_m8 76 rfl) rfl
theorem q1843 : (Jvm.Cond.lays "ChurchyardBookModel" "ChurchyardBookModel" "moves" "I") ∈ lw_all := lw_g (lw_at lw_m8 77 rfl) rfl
theorem q1844 : (Jvm.Cond.soleField "ChurchyardBookModel" "moves") ∈ lw_all := lw_g (lw_at lw_m8 78 rfl) rfl
theorem q1845 : (Jvm.Cond.laysFinal "ChurchyardBookModel" "ChurchyardBookModel" "moveWho" "[I") ∈ lw_all := lw_g (lw_at lw_m8 79 rfl) rfl
theorem q1846 : (Jvm.Cond.soleField "ChurchyardBookModel" "moveWho") ∈ lw_all := lw_g (lw_at lw_m8 80 rfl) rfl
theorem q1847 : (Jvm.Cond.laysFinal "ChurchyardBookModel" "ChurchyardBookModel" "moveDay" "[I") ∈ lw_all := lw_g (lw_at lw_m8 81 rfl) rfl
theorem q1848 : (Jvm.Cond.soleField "ChurchyardBookModel" "moveDay") ∈ lw_all := lw_g (lw_at lw_m8 82 rfl) rfl
theorem q1849 : (Jvm.Cond.laysFinal "ChurchyardBookModel" "ChurchyardBookModel" "moveTo" "[I") ∈ lw_all := lw_g (lw_at lw_m8 83 rfl) rfl
theorem q1850 : (Jvm.Cond.soleField "ChurchyardBookModel" "moveTo") ∈ lw_all := lw_g (lw_at lw_m8 84 rfl) rfl
theorem q1851 : (Jvm.Cond.lays "ChurchyardBookModel" "ChurchyardBookModel" "paid" "I") ∈ lw_all := lw_g (lw_at lw_m8 85 rfl) rfl
theorem q1852 : (Jvm.Cond.soleField "ChurchyardBookModel" "paid") ∈ lw_all := lw_g (lw_at lw_m8 86 rfl) rfl
theorem q1853 : (Jvm.Cond.lays "ChurchyardBookModel" "ChurchyardBookModel" "acts" "I") ∈ lw_all := lw_g (lw_at lw_m8 87 rfl) rfl
theorem q1854 : (Jvm.Cond.soleField "ChurchyardBookModel" "acts") ∈ lw_all := lw_g (lw_at lw_m8 88 rfl) rfl
theorem q1855 : (Jvm.Cond.laysFinal "ChurchyardBookModel" "ChurchyardBookModel" "written" "[I") ∈ lw_all := lw_g (lw_at lw_m8 89 rfl) rfl
theorem q1856 : (Jvm.Cond.soleField "ChurchyardBookModel" "written") ∈ lw_all := lw_g (lw_at lw_m8 90 rfl) rfl
theorem q1857 : (Jvm.Cond.lays "ChurchyardBookModel" "ChurchyardBookModel" "taped" "I") ∈ lw_all := lw_g (lw_at lw_m8 91 rfl) rfl
theorem q1858 : (Jvm.Cond.soleField "ChurchyardBookModel" "taped") ∈ lw_all := lw_g (lw_at lw_m8 92 rfl) rfl
theorem q1859 : (Jvm.Cond.laysFinal "ChurchyardBookModel" "ChurchyardBookModel" "tape" "[I") ∈ lw_all := lw_g (lw_at lw_m8 93 rfl) rfl
theorem q1860 : (Jvm.Cond.soleField "ChurchyardBookModel" "tape") ∈ lw_all := lw_g (lw_at lw_m8 94 rfl) rfl
theorem q1861 : (Jvm.Cond.lays "ChurchyardBookModel" "ChurchyardBookModel" "tried" "I") ∈ lw_all := lw_g (lw_at lw_m8 95 rfl) rfl
theorem q1862 : (Jvm.Cond.soleField "ChurchyardBookModel" "tried") ∈ lw_all := lw_g (lw_at lw_m8 96 rfl) rfl
theorem q1863 : (Jvm.Cond.superclass "ChurchyardBookModel" "java/lang/Object") ∈ lw_all := lw_g (lw_at lw_m8 97 rfl) rfl
theorem q1865 : (Jvm.Cond.instanceMethod ({ cls := "ChurchyardBookModel", name := "thrown", desc := "()I" } : Jvm.MethodName)) ∈ lw_all := lw_g (lw_at lw_m8 99 rfl) rfl
theorem q1866 : (Jvm.Cond.selects "ChurchyardBookModel" ({ cls := "ChurchyardBookModel", name := "thrown", desc := "()I" } : Jvm.MethodName) ({ cls := "ChurchyardBookModel", name := "thrown", desc := "()I" } : Jvm.MethodName)) ∈ lw_all := lw_g (lw_at lw_m8 100 rfl) rfl
theorem q1867 : (Jvm.Cond.code ({ cls := "ChurchyardBookModel", name := "thrown", desc := "()I" } : Jvm.MethodName) prog_21_method_2_code (1 : Nat) (Option.some Jvm.ClassFile.FieldType.int)) ∈ lw_all := lw_g (lw_at lw_m8 101 rfl) rfl
theorem q1869 : (Jvm.Cond.instanceMethod ({ cls := "ChurchyardBookModel", name := "field", desc := "(I)I" } : Jvm.MethodName)) ∈ lw_all := lw_g (lw_at lw_m8 103 rfl) rfl
theorem q1870 : (Jvm.Cond.selects "ChurchyardBookModel" ({ cls := "ChurchyardBookModel", name := "field", desc := "(I)I" } : Jvm.MethodName) ({ cls := "ChurchyardBookModel", name := "field", desc := "(I)I" } : Jvm.MethodName)) ∈ lw_all := lw_g (lw_at lw_m8 104 rfl) rfl
theorem q1871 : (Jvm.Cond.code ({ cls := "ChurchyardBookModel", name := "field", desc := "(I)I" } : Jvm.MethodName) prog_21_method_57_code (2 : Nat) (Option.some Jvm.ClassFile.FieldType.int)) ∈ lw_all := lw_g (lw_at lw_m8 105 rfl) rfl
theorem q1872 : (Jvm.Cond.methodLink "ChurchyardBookModel" (330 : Nat) ({ cls := "ChurchyardBookModel", name := "call", desc := "(IIIIII)I" } : Jvm.MethodName)) ∈ lw_all := lw_g (lw_at lw_m8 106 rfl) rfl
theorem q1873 : (Jvm.Cond.privateMethod ({ cls := "ChurchyardBookModel", name := "call", desc := "(IIIIII)I" } : Jvm.MethodName)) ∈ lw_tbl := lw_at lw_m8 107 rfl
theorem q1874 : (Jvm.Cond.instanceMethod ({ cls := "ChurchyardBookModel", name := "call", desc := "(IIIIII)I" } : Jvm.MethodName)) ∈ lw_all := lw_g (lw_at lw_m8 108 rfl) rfl
theorem q1875 : (Jvm.Cond.code ({ cls := "ChurchyardBookModel", name := "call", desc := "(IIIIII)I" } : Jvm.MethodName) prog_21_method_53_code (9 : Nat) (Option.some Jvm.ClassFile.FieldType.int)) ∈ lw_all := lw_g (lw_at lw_m8 109 rfl) rfl
theorem q1876 : (Jvm.Cond.methodLink "ChurchyardBookModel" (317 : Nat) ({ cls := "ChurchyardBookModel", name := "does", desc := "(IIIIII)I" } : Jvm.MethodName)) ∈ lw_all := lw_g (lw_at lw_m8 110 rfl) rfl
theorem q1877 : (Jvm.Cond.privateMethod ({ cls := "ChurchyardBookModel", name := "does", desc := "(IIIIII)I" } : Jvm.MethodName)) ∈ lw_tbl := lw_at lw_m8 111 rfl
theorem q1878 : (Jvm.Cond.instanceMethod ({ cls := "ChurchyardBookModel", name := "does", desc := "(IIIIII)I" } : Jvm.MethodName)) ∈ lw_all := lw_g (lw_at lw_m8 112 rfl) rfl
theorem q1879 : (Jvm.Cond.code ({ cls := "ChurchyardBookModel", name := "does", desc := "(IIIIII)I" } : Jvm.MethodName) prog_21_method_52_code (7 : Nat) (Option.some Jvm.ClassFile.FieldType.int)) ∈ lw_all := lw_g (lw_at lw_m8 113 rfl) rfl
theorem q1880 : (Jvm.Cond.methodLink "ChurchyardBookModel" (261 : Nat) ({ cls := "ChurchyardBookModel", name := "actField", desc := "(I)I" } : Jvm.MethodName)) ∈ lw_all := lw_g (lw_at lw_m8 114 rfl) rfl
theorem q1881 : (Jvm.Cond.privateMethod ({ cls := "ChurchyardBookModel", name := "actField", desc := "(I)I" } : Jvm.MethodName)) ∈ lw_tbl := lw_at lw_m8 115 rfl
theorem q1882 : (Jvm.Cond.instanceMethod ({ cls := "ChurchyardBookModel", name := "actField", desc := "(I)I" } : Jvm.MethodName)) ∈ lw_all := lw_g (lw_at lw_m8 116 rfl) rfl
theorem q1883 : (Jvm.Cond.code ({ cls := "ChurchyardBookModel", name := "actField", desc := "(I)I" } : Jvm.MethodName) prog_21_method_6_code (2 : Nat) (Option.some Jvm.ClassFile.FieldType.int)) ∈ lw_all := lw_g (lw_at lw_m8 117 rfl) rfl
theorem q1884 : (Jvm.Cond.methodLink "ChurchyardBookModel" (264 : Nat) ({ cls := "ChurchyardBookModel", name := "actRow", desc := "(III)I" } : Jvm.MethodName)) ∈ lw_all := lw_g (lw_at lw_m8 118 rfl) rfl
theorem q1885 : (Jvm.Cond.privateMethod ({ cls := "ChurchyardBookModel", name := "actRow", desc := "(III)I" } : Jvm.MethodName)) ∈ lw_tbl := lw_at lw_m8 119 rfl
theorem q1886 : (Jvm.Cond.instanceMethod ({ cls := "ChurchyardBookModel", name := "actRow", desc := "(III)I" } : Jvm.MethodName)) ∈ lw_all := lw_g (lw_at lw_m8 120 rfl) rfl
theorem q1887 : (Jvm.Cond.code ({ cls := "ChurchyardBookModel", name := "actRow", desc := "(III)I" } : Jvm.MethodName) prog_21_method_7_code (6 : Nat) (Option.some Jvm.ClassFile.FieldType.int)) ∈ lw_all := lw_g (lw_at lw_m8 121 rfl) rfl
theorem q1888 : (Jvm.Cond.methodLink "ChurchyardBookModel" (267 : Nat) ({ cls := "ChurchyardBookModel", name := "actTear", desc := "(II)I" } : Jvm.MethodName)) ∈ lw_all := lw_g (lw_at lw_m8 122 rfl) rfl
theorem q1889 : (Jvm.Cond.privateMethod ({ cls := "ChurchyardBookModel", name := "actTear", desc := "(II)I" } : Jvm.MethodName)) ∈ lw_tbl := lw_at lw_m8 123 rfl
theorem q1890 : (Jvm.Cond.instanceMethod ({ cls := "ChurchyardBookModel", name := "actTear", desc := "(II)I" } : Jvm.MethodName)) ∈ lw_all := lw_g (lw_at lw_m8 124 rfl) rfl
theorem q1891 : (Jvm.Cond.code ({ cls := "ChurchyardBookModel", name := "actTear", desc := "(II)I" } : Jvm.MethodName) prog_21_method_8_code (5 : Nat) (Option.some Jvm.ClassFile.FieldType.int)) ∈ lw_all := lw_g (lw_at lw_m8 125 rfl) rfl
theorem q1892 : (Jvm.Cond.methodLink "ChurchyardBookModel" (153 : Nat) ({ cls := "ChurchyardBookModel", name := "rowFault", desc := "(II)I" } : Jvm.MethodName)) ∈ lw_all := lw_g (lw_at lw_m8 126 rfl) rfl
theorem q1893 : (Jvm.Cond.privateMethod ({ cls := "ChurchyardBookModel", name := "rowFault", desc := "(II)I" } : Jvm.MethodName)) ∈ lw_tbl := lw_at lw_m8 127 rfl
theorem q1894 : (Jvm.Cond.instanceMethod ({ cls := "ChurchyardBookModel", name := "rowFault", desc := "(II)I" } : Jvm.MethodName)) ∈ lw_all := lw_g (lw_at lw_m8 128 rfl) rfl
theorem q1895 : (Jvm.Cond.code ({ cls := "ChurchyardBookModel", name := "rowFault", desc := "(II)I" } : Jvm.MethodName) prog_21_method_4_code (3 : Nat) (Option.some Jvm.ClassFile.FieldType.int)) ∈ lw_all := lw_g (lw_at lw_m8 129 rfl) rfl
theorem q1896 : (Jvm.Cond.methodLink "ChurchyardBookModel" (270 : Nat) ({ cls := "ChurchyardBookModel", name := "actPlace", desc := "(IIII)I" } : Jvm.MethodName)) ∈ lw_all := lw_g (lw_at lw_m8 130 rfl) rfl
theorem q1897 : (Jvm.Cond.privateMethod ({ cls := "ChurchyardBookModel", name := "actPlace", desc := "(IIII)I" } : Jvm.MethodName)) ∈ lw_tbl := lw_at lw_m8 131 rfl
theorem q1898 : (Jvm.Cond.instanceMethod ({ cls := "ChurchyardBookModel", name := "actPlace", desc := "(IIII)I" } : Jvm.MethodName)) ∈ lw_all := lw_g (lw_at lw_m8 132 rfl) rfl
theorem q1899 : (Jvm.Cond.code ({ cls := "ChurchyardBookModel", name := "actPlace", desc := "(IIII)I" } : Jvm.MethodName) prog_21_method_12_code (7 : Nat) (Option.some Jvm.ClassFile.FieldType.int)) ∈ lw_all := lw_g (lw_at lw_m8 133 rfl) rfl
theorem q1900 : (Jvm.Cond.methodLink "ChurchyardBookModel" (161 : Nat) ({ cls := "ChurchyardBookModel", name := "spotFault", desc := "(III)I" } : Jvm.MethodName)) ∈ lw_all := lw_g (lw_at lw_m8 134 rfl) rfl
theorem q1901 : (Jvm.Cond.privateMethod ({ cls := "ChurchyardBookModel", name := "spotFault", desc := "(III)I" } : Jvm.MethodName)) ∈ lw_tbl := lw_at lw_m8 135 rfl
theorem q1902 : (Jvm.Cond.instanceMethod ({ cls := "ChurchyardBookModel", name := "spotFault", desc := "(III)I" } : Jvm.MethodName)) ∈ lw_all := lw_g (lw_at lw_m8 136 rfl) rfl
theorem q1903 : (Jvm.Cond.code ({ cls := "ChurchyardBookModel", name := "spotFault", desc := "(III)I" } : Jvm.MethodName) prog_21_method_5_code (5 : Nat) (Option.some Jvm.ClassFile.FieldType.int)) ∈ lw_all := lw_g (lw_at lw_m8 137 rfl) rfl
theorem q1904 : (Jvm.Cond.methodLink "ChurchyardBookModel" (165 : Nat) ({ cls := "ChurchyardBookModel", name := "isTender", desc := "(II)Z" } : Jvm.MethodName)) ∈ lw_all := lw_g (lw_at lw_m8 138 rfl) rfl
theorem q1905 : (Jvm.Cond.privateMethod ({ cls := "ChurchyardBookModel", name := "isTender", desc := "(II)Z" } : Jvm.MethodName)) ∈ lw_tbl := lw_at lw_m8 139 rfl
theorem q1906 : (Jvm.Cond.instanceMethod ({ cls := "ChurchyardBookModel", name := "isTender", desc := "(II)Z" } : Jvm.MethodName)) ∈ lw_all := lw_g (lw_at lw_m8 140 rfl) rfl
theorem q1907 : (Jvm.Cond.code ({ cls := "ChurchyardBookModel", name := "isTender", desc := "(II)Z" } : Jvm.MethodName) prog_21_method_10_code (3 : Nat) (Option.some Jvm.ClassFile.FieldType.boolean)) ∈ lw_all := lw_g (lw_at lw_m8 141 rfl) rfl
theorem q1908 : (Jvm.Cond.methodLink "ChurchyardBookModel" (157 : Nat) ({ cls := "ChurchyardBookModel", name := "fearsTrees", desc := "(I)Z" } : Jvm.MethodName)) ∈ lw_all := lw_g (lw_at lw_m8 142 rfl) rfl
theorem q1909 : (Jvm.Cond.privateMethod ({ cls := "ChurchyardBookModel", name := "fearsTrees", desc := "(I)Z" } : Jvm.MethodName)) ∈ lw_tbl := lw_at lw_m8 143 rfl
theorem q1910 : (Jvm.Cond.instanceMethod ({ cls := "ChurchyardBookModel", name := "fearsTrees", desc := "(I)Z" } : Jvm.MethodName)) ∈ lw_all := lw_g (lw_at lw_m8 144 rfl) rfl
theorem q1911 : (Jvm.Cond.code ({ cls := "ChurchyardBookModel", name := "fearsTrees", desc := "(I)Z" } : Jvm.MethodName) prog_21_method_9_code (2 : Nat) (Option.some Jvm.ClassFile.FieldType.boolean)) ∈ lw_all := lw_g (lw_at lw_m8 145 rfl) rfl
theorem q1912 : (Jvm.Cond.methodLink "ChurchyardBookModel" (274 : Nat) ({ cls := "ChurchyardBookModel", name := "actGrave", desc := "(IIIII)I" } : Jvm.MethodName)) ∈ lw_all := lw_g (lw_at lw_m8 146 rfl) rfl
theorem q1913 : (Jvm.Cond.privateMethod ({ cls := "ChurchyardBookModel", name := "actGrave", desc := "(IIIII)I" } : Jvm.MethodName)) ∈ lw_tbl := lw_at lw_m8 147 rfl
theorem q1914 : (Jvm.Cond.instanceMethod ({ cls := "ChurchyardBookModel", name := "actGrave", desc := "(IIIII)I" } : Jvm.MethodName)) ∈ lw_all := lw_g (lw_at lw_m8 148 rfl) rfl
theorem q1915 : (Jvm.Cond.code ({ cls := "ChurchyardBookModel", name := "actGrave", desc := "(IIIII)I" } : Jvm.MethodName) prog_21_method_16_code (9 : Nat) (Option.some Jvm.ClassFile.FieldType.int)) ∈ lw_all := lw_g (lw_at lw_m8 149 rfl) rfl
theorem q1916 : (Jvm.Cond.methodLink "ChurchyardBookModel" (175 : Nat) ({ cls := "ChurchyardBookModel", name := "isWide", desc := "(II)Z" } : Jvm.MethodName)) ∈ lw_all := lw_g (lw_at lw_m8 150 rfl) rfl
theorem q1917 : (Jvm.Cond.privateMethod ({ cls := "ChurchyardBookModel", name := "isWide", desc := "(II)Z" } : Jvm.MethodName)) ∈ lw_tbl := lw_at lw_m8 151 rfl
theorem q1918 : (Jvm.Cond.instanceMethod ({ cls := "ChurchyardBookModel", name := "isWide", desc := "(II)Z" } : Jvm.MethodName)) ∈ lw_all := lw_g (lw_at lw_m8 152 rfl) rfl
theorem q1919 : (Jvm.Cond.code ({ cls := "ChurchyardBookModel", name := "isWide", desc := "(II)Z" } : Jvm.MethodName) prog_21_method_13_code (3 : Nat) (Option.some Jvm.ClassFile.FieldType.boolean)) ∈ lw_all := lw_g (lw_at lw_m8 153 rfl) rfl
theorem q1920 : (Jvm.Cond.methodLink "ChurchyardBookModel" (178 : Nat) ({ cls := "ChurchyardBookModel", name := "layFault", desc := "(IIIII)I" } : Jvm.MethodName)) ∈ lw_all := lw_g (lw_at lw_m8 154 rfl) rfl
theorem q1921 : (Jvm.Cond.privateMethod ({ cls := "ChurchyardBookModel", name := "layFault", desc := "(IIIII)I" } : Jvm.MethodName)) ∈ lw_tbl := lw_at lw_m8 155 rfl
theorem q1922 : (Jvm.Cond.instanceMethod ({ cls := "ChurchyardBookModel", name := "layFault", desc := "(IIIII)I" } : Jvm.MethodName)) ∈ lw_all := lw_g (lw_at lw_m8 156 rfl) rfl
theorem q1923 : (Jvm.Cond.code ({ cls := "ChurchyardBookModel", name := "layFault", desc := "(IIIII)I" } : Jvm.MethodName) prog_21_method_15_code (9 : Nat) (Option.some Jvm.ClassFile.FieldType.int)) ∈ lw_all := lw_g (lw_at lw_m8 157 rfl) rfl
theorem q1924 : (Jvm.Cond.methodLink "ChurchyardBookModel" (169 : Nat) ({ cls := "ChurchyardBookModel", name := "isTree", desc := "(II)Z" } : Jvm.MethodName)) ∈ lw_all := lw_g (lw_at lw_m8 158 rfl) rfl
theorem q1925 : (Jvm.Cond.privateMethod ({ cls := "ChurchyardBookModel", name := "isTree", desc := "(II)Z" } : Jvm.MethodName)) ∈ lw_tbl := lw_at lw_m8 159 rfl
theorem q1926 : (Jvm.Cond.instanceMethod ({ cls := "ChurchyardBookModel", name := "isTree", desc := "(II)Z" } : Jvm.MethodName)) ∈ lw_all := lw_g (lw_at lw_m8 160 rfl) rfl
theorem q1927 : (Jvm.Cond.code ({ cls := "ChurchyardBookModel", name := "isTree", desc := "(II)Z" } : Jvm.MethodName) prog_21_method_11_code (3 : Nat) (Option.some Jvm.ClassFile.FieldType.boolean)) ∈ lw_all := lw_g (lw_at lw_m8 161 rfl) rfl
theorem q1928 : (Jvm.Cond.methodLink "ChurchyardBookModel" (172 : Nat) ({ cls := "ChurchyardBookModel", name := "suits", desc := "(II)Z" } : Jvm.MethodName)) ∈ lw_all := lw_g (lw_at lw_m8 162 rfl) rfl
theorem q1929 : (Jvm.Cond.privateMethod ({ cls := "ChurchyardBookModel", name := "suits", desc := "(II)Z" } : Jvm.MethodName)) ∈ lw_tbl := lw_at lw_m8 163 rfl
theorem q1930 : (Jvm.Cond.instanceMethod ({ cls := "ChurchyardBookModel", name := "suits", desc := "(II)Z" } : Jvm.MethodName)) ∈ lw_all := lw_g (lw_at lw_m8 164 rfl) rfl
theorem q1931 : (Jvm.Cond.code ({ cls := "ChurchyardBookModel", name := "suits", desc := "(II)Z" } : Jvm.MethodName) prog_21_method_14_code (3 : Nat) (Option.some Jvm.ClassFile.FieldType.boolean)) ∈ lw_all := lw_g (lw_at lw_m8 165 rfl) rfl
theorem q1932 : (Jvm.Cond.methodLink "ChurchyardBookModel" (277 : Nat) ({ cls := "ChurchyardBookModel", name := "actPerson", desc := "(I)I" } : Jvm.MethodName)) ∈ lw_all := lw_g (lw_at lw_m8 166 rfl) rfl
theorem q1933 : (Jvm.Cond.privateMethod ({ cls := "ChurchyardBookModel", name := "actPerson", desc := "(I)I" } : Jvm.MethodName)) ∈ lw_tbl := lw_at lw_m8 167 rfl
theorem q1934 : (Jvm.Cond.instanceMethod ({ cls := "ChurchyardBookModel", name := "actPerson", desc := "(I)I" } : Jvm.MethodName)) ∈ lw_all := lw_g (lw_at lw_m8 168 rfl) rfl
theorem q1935 : (Jvm.Cond.code ({ cls := "ChurchyardBookModel", name := "actPerson", desc := "(I)I" } : Jvm.MethodName) prog_21_method_21_code (3 : Nat) (Option.some Jvm.ClassFile.FieldType.int)) ∈ lw_all := lw_g (lw_at lw_m8 169 rfl) rfl
theorem q1936 : (Jvm.Cond.constant "ChurchyardBookModel" (182 : Nat) (-40000 : Int32)) ∈ lw_all := lw_g (lw_at lw_m8 170 rfl) rfl
theorem q1937 : (Jvm.Cond.methodLink "ChurchyardBookModel" (280 : Nat) ({ cls := "ChurchyardBookModel", name := "actKin", desc := "(III)I" } : Jvm.MethodName)) ∈ lw_all := lw_g (lw_at lw_m8 171 rfl) rfl
theorem q1938 : (Jvm.Cond.privateMethod ({ cls := "ChurchyardBookModel", name := "actKin", desc := "(III)I" } : Jvm.MethodName)) ∈ lw_tbl := lw_at lw_m8 172 rfl
theorem q1939 : (Jvm.Cond.instanceMethod ({ cls := "ChurchyardBookModel", name := "actKin", desc := "(III)I" } : Jvm.MethodName)) ∈ lw_all := lw_g (lw_at lw_m8 173 rfl) rfl
theorem q1940 : (Jvm.Cond.code ({ cls := "ChurchyardBookModel", name := "actKin", desc := "(III)I" } : Jvm.MethodName) prog_21_method_22_code (4 : Nat) (Option.some Jvm.ClassFile.FieldType.int)) ∈ lw_all := lw_g (lw_at lw_m8 174 rfl) rfl
theorem q1941 : (Jvm.Cond.methodLink "ChurchyardBookModel" (183 : Nat) ({ cls := "ChurchyardBookModel", name := "isPerson", desc := "(I)Z" } : Jvm.MethodName)) ∈ lw_all := lw_g (lw_at lw_m8 175 rfl) rfl
theorem q1942 : (Jvm.Cond.privateMethod ({ cls := "ChurchyardBookModel", name := "isPerson", desc := "(I)Z" } : Jvm.MethodName)) ∈ lw_tbl := lw_at lw_m8 176 rfl
theorem q1943 : (Jvm.Cond.instanceMethod ({ cls := "ChurchyardBookModel", name := "isPerson", desc := "(I)Z" } : Jvm.MethodName)) ∈ lw_all := lw_g (lw_at lw_m8 177 rfl) rfl
theorem q1944 : (Jvm.Cond.code ({ cls := "ChurchyardBookModel", name := "isPerson", desc := "(I)Z" } : Jvm.MethodName) prog_21_method_18_code (2 : Nat) (Option.some Jvm.ClassFile.FieldType.boolean)) ∈ lw_all := lw_g (lw_at lw_m8 178 rfl) rfl
theorem q1945 : (Jvm.Cond.methodLink "ChurchyardBookModel" (283 : Nat) ({ cls := "ChurchyardBookModel", name := "actPaper", desc := "(II)I" } : Jvm.MethodName)) ∈ lw_all := lw_g (lw_at lw_m8 179 rfl) rfl
theorem q1946 : (Jvm.Cond.privateMethod ({ cls := "ChurchyardBookModel", name := "actPaper", desc := "(II)I" } : Jvm.MethodName)) ∈ lw_tbl := lw_at lw_m8 180 rfl
theorem q1947 : (Jvm.Cond.instanceMethod ({ cls := "ChurchyardBookModel", name := "actPaper", desc := "(II)I" } : Jvm.MethodName)) ∈ lw_all := lw_g (lw_at lw_m8 181 rfl) rfl
theorem q1948 : (Jvm.Cond.code ({ cls := "ChurchyardBookModel", name := "actPaper", desc := "(II)I" } : Jvm.MethodName) prog_21_method_23_code (3 : Nat) (Option.some Jvm.ClassFile.FieldType.int)) ∈ lw_all := lw_g (lw_at lw_m8 182 rfl) rfl
theorem q1949 : (Jvm.Cond.methodLink "ChurchyardBookModel" (286 : Nat) ({ cls := "ChurchyardBookModel", name := "actRight", desc := "(III)I" } : Jvm.MethodName)) ∈ lw_all := lw_g (lw_at lw_m8 183 rfl) rfl
theorem q1950 : (Jvm.Cond.privateMethod ({ cls := "ChurchyardBookModel", name := "actRight", desc := "(III)I" } : Jvm.MethodName)) ∈ lw_tbl := lw_at lw_m8 184 rfl
theorem q1951 : (Jvm.Cond.instanceMethod ({ cls := "ChurchyardBookModel", name := "actRight", desc := "(III)I" } : Jvm.MethodName)) ∈ lw_all := lw_g (lw_at lw_m8 185 rfl) rfl
theorem q1952 : (Jvm.Cond.code ({ cls := "ChurchyardBookModel", name := "actRight", desc := "(III)I" } : Jvm.MethodName) prog_21_method_25_code (4 : Nat) (Option.some Jvm.ClassFile.FieldType.int)) ∈ lw_all := lw_g (lw_at lw_m8 186 rfl) rfl
theorem q1953 : (Jvm.Cond.methodLink "ChurchyardBookModel" (186 : Nat) ({ cls := "ChurchyardBookModel", name := "isGrave", desc := "(I)Z" } : Jvm.MethodName)) ∈ lw_all := lw_g (lw_at lw_m8 187 rfl) rfl
theorem q1954 : (Jvm.Cond.privateMethod ({ cls := "ChurchyardBookModel", name := "isGrave", desc := "(I)Z" } : Jvm.MethodName)) ∈ lw_tbl := lw_at lw_m8 188 rfl
theorem q1955 : (Jvm.Cond.instanceMethod ({ cls := "ChurchyardBookModel", name := "isGrave", desc := "(I)Z" } : Jvm.MethodName)) ∈ lw_all := lw_g (lw_at lw_m8 189 rfl) rfl
theorem q1956 : (Jvm.Cond.code ({ cls := "ChurchyardBookModel", name := "isGrave", desc := "(I)Z" } : Jvm.MethodName) prog_21_method_17_code (2 : Nat) (Option.some Jvm.ClassFile.FieldType.boolean)) ∈ lw_all := lw_g (lw_at lw_m8 190 rfl) rfl
theorem q1957 : (Jvm.Cond.methodLink "ChurchyardBookModel" (189 : Nat) ({ cls := "ChurchyardBookModel", name := "yearly", desc := "(I)I" } : Jvm.MethodName)) ∈ lw_all := lw_g (lw_at lw_m8 191 rfl) rfl
theorem q1958 : (Jvm.Cond.privateMethod ({ cls := "ChurchyardBookModel", name := "yearly", desc := "(I)I" } : Jvm.MethodName)) ∈ lw_tbl := lw_at lw_m8 192 rfl
theorem q1959 : (Jvm.Cond.instanceMethod ({ cls := "ChurchyardBookModel", name := "yearly", desc := "(I)I" } : Jvm.MethodName)) ∈ lw_all := lw_g (lw_at lw_m8 193 rfl) rfl
theorem q1960 : (Jvm.Cond.code ({ cls := "ChurchyardBookModel", name := "yearly", desc := "(I)I" } : Jvm.MethodName) prog_21_method_20_code (2 : Nat) (Option.some Jvm.ClassFile.FieldType.int)) ∈ lw_all := lw_g (lw_at lw_m8 194 rfl) rfl
theorem q1961 : (Jvm.Cond.methodLink "ChurchyardBookModel" (289 : Nat) ({ cls := "ChurchyardBookModel", name := "actLonger", desc := "(II)I" } : Jvm.MethodName)) ∈ lw_all := lw_g (lw_at lw_m8 195 rfl) rfl
theorem q1962 : (Jvm.Cond.privateMethod ({ cls := "ChurchyardBookModel", name := "actLonger", desc := "(II)I" } : Jvm.MethodName)) ∈ lw_tbl := lw_at lw_m8 196 rfl
theorem q1963 : (Jvm.Cond.instanceMethod ({ cls := "ChurchyardBookModel", name := "actLonger", desc := "(II)I" } : Jvm.MethodName)) ∈ lw_all := lw_g (lw_at lw_m8 197 rfl) rfl
theorem q1964 : (Jvm.Cond.code ({ cls := "ChurchyardBookModel", name := "actLonger", desc := "(II)I" } : Jvm.MethodName) prog_21_method_26_code (3 : Nat) (Option.some Jvm.ClassFile.FieldType.int)) ∈ lw_all := lw_g (lw_at lw_m8 198 rfl) rfl
theorem q1965 : (Jvm.Cond.methodLink "ChurchyardBookModel" (292 : Nat) ({ cls := "ChurchyardBookModel", name := "actAgree", desc := "(III)I" } : Jvm.MethodName)) ∈ lw_all := lw_g (lw_at lw_m8 199 rfl) rfl
theorem q1966 : (Jvm.Cond.privateMethod ({ cls := "ChurchyardBookModel", name := "actAgree", desc := "(III)I" } : Jvm.MethodName)) ∈ lw_tbl := lw_at lw_m8 200 rfl
theorem q1967 : (Jvm.Cond.instanceMethod ({ cls := "ChurchyardBookModel", name := "actAgree", desc := "(III)I" } : Jvm.MethodName)) ∈ lw_all := lw_g (lw_at lw_m8 201 rfl) rfl
theorem q1968 : (Jvm.Cond.code ({ cls := "ChurchyardBookModel", name := "actAgree", desc := "(III)I" } : Jvm.MethodName) prog_21_method_27_code (4 : Nat) (Option.some Jvm.ClassFile.FieldType.int)) ∈ lw_all := lw_g (lw_at lw_m8 202 rfl) rfl
theorem q1969 : (Jvm.Cond.methodLink "ChurchyardBookModel" (295 : Nat) ({ cls := "ChurchyardBookModel", name := "actDies", desc := "(I)I" } : Jvm.MethodName)) ∈ lw_all := lw_g (lw_at lw_m8 203 rfl) rfl
theorem q1970 : (Jvm.Cond.privateMethod ({ cls := "ChurchyardBookModel", name := "actDies", desc := "(I)I" } : Jvm.MethodName)) ∈ lw_tbl := lw_at lw_m8 204 rfl
theorem q1971 : (Jvm.Cond.instanceMethod ({ cls := "ChurchyardBookModel", name := "actDies", desc := "(I)I" } : Jvm.MethodName)) ∈ lw_all := lw_g (lw_at lw_m8 205 rfl) rfl
theorem q1972 : (Jvm.Cond.code ({ cls := "ChurchyardBookModel", name := "actDies", desc := "(I)I" } : Jvm.MethodName) prog_21_method_34_code (4 : Nat) (Option.some Jvm.ClassFile.FieldType.int)) ∈ lw_all := lw_g (lw_at lw_m8 206 rfl) rfl
theorem q1973 : (Jvm.Cond.methodLink "ChurchyardBookModel" (213 : Nat) ({ cls := "ChurchyardBookModel", name := "orders", desc := "(II)V" } : Jvm.MethodName)) ∈ lw_all := lw_g (lw_at lw_m8 207 rfl) rfl
theorem q1974 : (Jvm.Cond.privateMethod ({ cls := "ChurchyardBookModel", name := "orders", desc := "(II)V" } : Jvm.MethodName)) ∈ lw_tbl := lw_at lw_m8 208 rfl
theorem q1975 : (Jvm.Cond.instanceMethod ({ cls := "ChurchyardBookModel", name := "orders", desc := "(II)V" } : Jvm.MethodName)) ∈ lw_all := lw_g (lw_at lw_m8 209 rfl) rfl
theorem q1976 : (Jvm.Cond.code ({ cls := "ChurchyardBookModel", name := "orders", desc := "(II)V" } : Jvm.MethodName) prog_21_method_31_code (5 : Nat) (Option.none : Option Jvm.ClassFile.FieldType)) ∈ lw_all := lw_g (lw_at lw_m8 210 rfl) rfl
theorem q1977 : (Jvm.Cond.methodLink "ChurchyardBookModel" (201 : Nat) ({ cls := "ChurchyardBookModel", name := "names", desc := "(II)V" } : Jvm.MethodName)) ∈ lw_all := lw_g (lw_at lw_m8 211 rfl) rfl
theorem q1978 : (Jvm.Cond.privateMethod ({ cls := "ChurchyardBookModel", name := "names", desc := "(II)V" } : Jvm.MethodName)) ∈ lw_tbl := lw_at lw_m8 212 rfl
theorem q1979 : (Jvm.Cond.instanceMethod ({ cls := "ChurchyardBookModel", name := "names", desc := "(II)V" } : Jvm.MethodName)) ∈ lw_all := lw_g (lw_at lw_m8 213 rfl) rfl
theorem q1980 : (Jvm.Cond.code ({ cls := "ChurchyardBookModel", name := "names", desc := "(II)V" } : Jvm.MethodName) prog_21_method_28_code (4 : Nat) (Option.none : Option Jvm.ClassFile.FieldType)) ∈ lw_all := lw_g (lw_at lw_m8 214 rfl) rfl
theorem q1981 : (Jvm.Cond.methodLink "ChurchyardBookModel" (205 : Nat) ({ cls := "ChurchyardBookModel", name := "namesBorn", desc := "(III)V" } : Jvm.MethodName)) ∈ lw_all := lw_g (lw_at lw_m8 215 rfl) rfl
theorem q1982 : (Jvm.Cond.privateMethod ({ cls := "ChurchyardBookModel", name := "namesBorn", desc := "(III)V" } : Jvm.MethodName)) ∈ lw_tbl := lw_at lw_m8 216 rfl
theorem q1983 : (Jvm.Cond.instanceMethod ({ cls := "ChurchyardBookModel", name := "namesBorn", desc := "(III)V" } : Jvm.MethodName)) ∈ lw_all := lw_g (lw_at lw_m8 217 rfl) rfl
theorem q1984 : (Jvm.Cond.code ({ cls := "ChurchyardBookModel", name := "namesBorn", desc := "(III)V" } : Jvm.MethodName) prog_21_method_30_code (9 : Nat) (Option.none : Option Jvm.ClassFile.FieldType)) ∈ lw_all := lw_g (lw_at lw_m8 218 rfl) rfl
theorem q1985 : (Jvm.Cond.constant "ChurchyardBookModel" (196 : Nat) (-50000 : Int32)) ∈ lw_all := lw_g (lw_at lw_m8 219 rfl) rfl
theorem q1986 : (Jvm.Cond.constant "ChurchyardBookModel" (197 : Nat) (1000000 : Int32)) ∈ lw_all := lw_g (lw_at lw_m8 220 rfl) rfl
theorem q1987 : (Jvm.Cond.methodLink "ChurchyardBookModel" (193 : Nat) ({ cls := "ChurchyardBookModel", name := "isParent", desc := "(II)Z" } : Jvm.MethodName)) ∈ lw_all := lw_g (lw_at lw_m8 221 rfl) rfl
theorem q1988 : (Jvm.Cond.privateMethod ({ cls := "ChurchyardBookModel", name := "isParent", desc := "(II)Z" } : Jvm.MethodName)) ∈ lw_tbl := lw_at lw_m8 222 rfl
theorem q1989 : (Jvm.Cond.instanceMethod ({ cls := "ChurchyardBookModel", name := "isParent", desc := "(II)Z" } : Jvm.MethodName)) ∈ lw_all := lw_g (lw_at lw_m8 223 rfl) rfl
theorem q1990 : (Jvm.Cond.code ({ cls := "ChurchyardBookModel", name := "isParent", desc := "(II)Z" } : Jvm.MethodName) prog_21_method_24_code (3 : Nat) (Option.some Jvm.ClassFile.FieldType.boolean)) ∈ lw_all := lw_g (lw_at lw_m8 224 rfl) rfl
theorem q1991 : (Jvm.Cond.methodLink "ChurchyardBookModel" (198 : Nat) ({ cls := "ChurchyardBookModel", name := "isSibling", desc := "(II)Z" } : Jvm.MethodName)) ∈ lw_all := lw_g (lw_at lw_m8 225 rfl) rfl
theorem q1992 : (Jvm.Cond.privateMethod ({ cls := "ChurchyardBookModel", name := "isSibling", desc := "(II)Z" } : Jvm.MethodName)) ∈ lw_tbl := lw_at lw_m8 226 rfl
theorem q1993 : (Jvm.Cond.instanceMethod ({ cls := "ChurchyardBookModel", name := "isSibling", desc := "(II)Z" } : Jvm.MethodName)) ∈ lw_all := lw_g (lw_at lw_m8 227 rfl) rfl
theorem q1994 : (Jvm.Cond.code ({ cls := "ChurchyardBookModel", name := "isSibling", desc := "(II)Z" } : Jvm.MethodName) prog_21_method_29_code (3 : Nat) (Option.some Jvm.ClassFile.FieldType.boolean)) ∈ lw_all := lw_g (lw_at lw_m8 228 rfl) rfl
theorem q1995 : (Jvm.Cond.methodLink "ChurchyardBookModel" (209 : Nat) ({ cls := "ChurchyardBookModel", name := "offers", desc := "(I)V" } : Jvm.MethodName)) ∈ lw_all := lw_g (lw_at lw_m8 229 rfl) rfl
theorem q1996 : (Jvm.Cond.privateMethod ({ cls := "ChurchyardBookModel", name := "offers", desc := "(I)V" } : Jvm.MethodName)) ∈ lw_tbl := lw_at lw_m8 230 rfl
theorem q1997 : (Jvm.Cond.instanceMethod ({ cls := "ChurchyardBookModel", name := "offers", desc := "(I)V" } : Jvm.MethodName)) ∈ lw_all := lw_g (lw_at lw_m8 231 rfl) rfl
theorem q1998 : (Jvm.Cond.code ({ cls := "ChurchyardBookModel", name := "offers", desc := "(I)V" } : Jvm.MethodName) prog_21_method_32_code (3 : Nat) (Option.none : Option Jvm.ClassFile.FieldType)) ∈ lw_all := lw_g (lw_at lw_m8 232 rfl) rfl
theorem q1999 : (Jvm.Cond.methodLink "ChurchyardBookModel" (216 : Nat) ({ cls := "ChurchyardBookModel", name := "passOn", desc := "(I)V" } : Jvm.MethodName)) ∈ lw_all := lw_g (lw_at lw_m8 233 rfl) rfl
theorem q2000 : (Jvm.Cond.privateMethod ({ cls := "ChurchyardBookModel", name := "passOn", desc := "(I)V" } : Jvm.MethodName)) ∈ lw_tbl := lw_at lw_m8 234 rfl
theorem q2001 : (Jvm.Cond.instanceMethod ({ cls := "ChurchyardBookModel", name := "passOn", desc := "(I)V" } : Jvm.MethodName)) ∈ lw_all := lw_g (lw_at lw_m8 235 rfl) rfl
theorem q2002 : (Jvm.Cond.code ({ cls := "ChurchyardBookModel", name := "passOn", desc := "(I)V" } : Jvm.MethodName) prog_21_method_33_code (2 : Nat) (Option.none : Option Jvm.ClassFile.FieldType)) ∈ lw_all := lw_g (lw_at lw_m8 236 rfl) rfl
theorem q2003 : (Jvm.Cond.methodLink "ChurchyardBookModel" (298 : Nat) ({ cls := "ChurchyardBookModel", name := "actTakes", desc := "(IZ)I" } : Jvm.MethodName)) ∈ lw_all := lw_g (lw_at lw_m8 237 rfl) rfl
theorem q2004 : (Jvm.Cond.privateMethod ({ cls := "ChurchyardBookModel", name := "actTakes", desc := "(IZ)I" } : Jvm.MethodName)) ∈ lw_tbl := lw_at lw_m8 238 rfl
theorem q2005 : (Jvm.Cond.instanceMethod ({ cls := "ChurchyardBookModel", name := "actTakes", desc := "(IZ)I" } : Jvm.MethodName)) ∈ lw_all := lw_g (lw_at lw_m8 239 rfl) rfl
theorem q2006 : (Jvm.Cond.code ({ cls := "ChurchyardBookModel", name := "actTakes", desc := "(IZ)I" } : Jvm.MethodName) prog_21_method_35_code (4 : Nat) (Option.some Jvm.ClassFile.FieldType.int)) ∈ lw_all := lw_g (lw_at lw_m9 0 rfl) rfl
theorem q2007 : (Jvm.Cond.methodLink "ChurchyardBookModel" (302 : Nat) ({ cls := "ChurchyardBookModel", name := "actBury", desc := "(IIII)I" } : Jvm.MethodName)) ∈ lw_all := lw_g (lw_at lw_m9 1 rfl) rfl
theorem q2008 : (Jvm.Cond.privateMethod ({ cls := "ChurchyardBookModel", name := "actBury", desc := "(IIII)I" } : Jvm.MethodName)) ∈ lw_tbl := lw_at lw_m9 2 rfl
theorem q2009 : (Jvm.Cond.instanceMethod ({ cls := "ChurchyardBookModel", name := "actBury", desc := "(IIII)I" } : Jvm.MethodName)) ∈ lw_all := lw_g (lw_at lw_m9 3 rfl) rfl
theorem q2010 : (Jvm.Cond.code ({ cls := "ChurchyardBookModel", name := "actBury", desc := "(IIII)I" } : Jvm.MethodName) prog_21_method_45_code (6 : Nat) (Option.some Jvm.ClassFile.FieldType.int)) ∈ lw_all := lw_g (lw_at lw_m9 4 rfl) rfl
theorem q2011 : (Jvm.Cond.methodLink "ChurchyardBookModel" (243 : Nat) ({ cls := "ChurchyardBookModel", name := "whyNot", desc := "(IIIIIZ)I" } : Jvm.MethodName)) ∈ lw_all := lw_g (lw_at lw_m9 5 rfl) rfl
theorem q2012 : (Jvm.Cond.privateMethod ({ cls := "ChurchyardBookModel", name := "whyNot", desc := "(IIIIIZ)I" } : Jvm.MethodName)) ∈ lw_tbl := lw_at lw_m9 6 rfl
theorem q2013 : (Jvm.Cond.instanceMethod ({ cls := "ChurchyardBookModel", name := "whyNot", desc := "(IIIIIZ)I" } : Jvm.MethodName)) ∈ lw_all := lw_g (lw_at lw_m9 7 rfl) rfl
theorem q2014 : (Jvm.Cond.code ({ cls := "ChurchyardBookModel", name := "whyNot", desc := "(IIIIIZ)I" } : Jvm.MethodName) prog_21_method_41_code (7 : Nat) (Option.some Jvm.ClassFile.FieldType.int)) ∈ lw_all := lw_g (lw_at lw_m9 8 rfl) rfl
theorem q2015 : (Jvm.Cond.methodLink "ChurchyardBookModel" (222 : Nat) ({ cls := "ChurchyardBookModel", name := "columns", desc := "(I)I" } : Jvm.MethodName)) ∈ lw_all := lw_g (lw_at lw_m9 9 rfl) rfl
theorem q2016 : (Jvm.Cond.privateMethod ({ cls := "ChurchyardBookModel", name := "columns", desc := "(I)I" } : Jvm.MethodName)) ∈ lw_tbl := lw_at lw_m9 10 rfl
theorem q2017 : (Jvm.Cond.instanceMethod ({ cls := "ChurchyardBookModel", name := "columns", desc := "(I)I" } : Jvm.MethodName)) ∈ lw_all := lw_g (lw_at lw_m9 11 rfl) rfl
theorem q2018 : (Jvm.Cond.code ({ cls := "ChurchyardBookModel", name := "columns", desc := "(I)I" } : Jvm.MethodName) prog_21_method_19_code (2 : Nat) (Option.some Jvm.ClassFile.FieldType.int)) ∈ lw_all := lw_g (lw_at lw_m9 12 rfl) rfl
theorem q2019 : (Jvm.Cond.methodLink "ChurchyardBookModel" (225 : Nat) ({ cls := "ChurchyardBookModel", name := "takesKind", desc := "(II)Z" } : Jvm.MethodName)) ∈ lw_all := lw_g (lw_at lw_m9 13 rfl) rfl
theorem q2020 : (Jvm.Cond.privateMethod ({ cls := "ChurchyardBookModel", name := "takesKind", desc := "(II)Z" } : Jvm.MethodName)) ∈ lw_tbl := lw_at lw_m9 14 rfl
theorem q2021 : (Jvm.Cond.instanceMethod ({ cls := "ChurchyardBookModel", name := "takesKind", desc := "(II)Z" } : Jvm.MethodName)) ∈ lw_all := lw_g (lw_at lw_m9 15 rfl) rfl
theorem q2022 : (Jvm.Cond.code ({ cls := "ChurchyardBookModel", name := "takesKind", desc := "(II)Z" } : Jvm.MethodName) prog_21_method_39_code (3 : Nat) (Option.some Jvm.ClassFile.FieldType.boolean)) ∈ lw_all := lw_g (lw_at lw_m9 16 rfl) rfl
theorem q2023 : (Jvm.Cond.methodLink "ChurchyardBookModel" (228 : Nat) ({ cls := "ChurchyardBookModel", name := "roomIn", desc := "(II)I" } : Jvm.MethodName)) ∈ lw_all := lw_g (lw_at lw_m9 17 rfl) rfl
theorem q2024 : (Jvm.Cond.privateMethod ({ cls := "ChurchyardBookModel", name := "roomIn", desc := "(II)I" } : Jvm.MethodName)) ∈ lw_tbl := lw_at lw_m9 18 rfl
theorem q2025 : (Jvm.Cond.instanceMethod ({ cls := "ChurchyardBookModel", name := "roomIn", desc := "(II)I" } : Jvm.MethodName)) ∈ lw_all := lw_g (lw_at lw_m9 19 rfl) rfl
theorem q2026 : (Jvm.Cond.code ({ cls := "ChurchyardBookModel", name := "roomIn", desc := "(II)I" } : Jvm.MethodName) prog_21_method_40_code (6 : Nat) (Option.some Jvm.ClassFile.FieldType.int)) ∈ lw_all := lw_g (lw_at lw_m9 20 rfl) rfl
theorem q2027 : (Jvm.Cond.methodLink "ChurchyardBookModel" (219 : Nat) ({ cls := "ChurchyardBookModel", name := "rests", desc := "(I)Z" } : Jvm.MethodName)) ∈ lw_all := lw_g (lw_at lw_m9 21 rfl) rfl
theorem q2028 : (Jvm.Cond.privateMethod ({ cls := "ChurchyardBookModel", name := "rests", desc := "(I)Z" } : Jvm.MethodName)) ∈ lw_tbl := lw_at lw_m9 22 rfl
theorem q2029 : (Jvm.Cond.instanceMethod ({ cls := "ChurchyardBookModel", name := "rests", desc := "(I)Z" } : Jvm.MethodName)) ∈ lw_all := lw_g (lw_at lw_m9 23 rfl) rfl
theorem q2030 : (Jvm.Cond.code ({ cls := "ChurchyardBookModel", name := "rests", desc := "(I)Z" } : Jvm.MethodName) prog_21_method_37_code (2 : Nat) (Option.some Jvm.ClassFile.FieldType.boolean)) ∈ lw_all := lw_g (lw_at lw_m9 24 rfl) rfl
theorem q2031 : (Jvm.Cond.methodLink "ChurchyardBookModel" (231 : Nat) ({ cls := "ChurchyardBookModel", name := "isAgreed", desc := "(II)Z" } : Jvm.MethodName)) ∈ lw_all := lw_g (lw_at lw_m9 25 rfl) rfl
theorem q2032 : (Jvm.Cond.privateMethod ({ cls := "ChurchyardBookModel", name := "isAgreed", desc := "(II)Z" } : Jvm.MethodName)) ∈ lw_tbl := lw_at lw_m9 26 rfl
theorem q2033 : (Jvm.Cond.instanceMethod ({ cls := "ChurchyardBookModel", name := "isAgreed", desc := "(II)Z" } : Jvm.MethodName)) ∈ lw_all := lw_g (lw_at lw_m9 27 rfl) rfl
theorem q2034 : (Jvm.Cond.code ({ cls := "ChurchyardBookModel", name := "isAgreed", desc := "(II)Z" } : Jvm.MethodName) prog_21_method_36_code (4 : Nat) (Option.some Jvm.ClassFile.FieldType.boolean)) ∈ lw_all := lw_g (lw_at lw_m9 28 rfl) rfl
theorem q2035 : (Jvm.Cond.methodLink "ChurchyardBookModel" (234 : Nat) ({ cls := "ChurchyardBookModel", name := "yearsOf", desc := "(II)I" } : Jvm.MethodName)) ∈ lw_all := lw_g (lw_at lw_m9 29 rfl) rfl
theorem q2036 : (Jvm.Cond.privateMethod ({ cls := "ChurchyardBookModel", name := "yearsOf", desc := "(II)I" } : Jvm.MethodName)) ∈ lw_tbl := lw_at lw_m9 30 rfl
theorem q2037 : (Jvm.Cond.instanceMethod ({ cls := "ChurchyardBookModel", name := "yearsOf", desc := "(II)I" } : Jvm.MethodName)) ∈ lw_all := lw_g (lw_at lw_m9 31 rfl) rfl
theorem q2038 : (Jvm.Cond.code ({ cls := "ChurchyardBookModel", name := "yearsOf", desc := "(II)I" } : Jvm.MethodName) prog_21_method_38_code (4 : Nat) (Option.some Jvm.ClassFile.FieldType.int)) ∈ lw_all := lw_g (lw_at lw_m9 32 rfl) rfl
theorem q2039 : (Jvm.Cond.methodLink "ChurchyardBookModel" (247 : Nat) ({ cls := "ChurchyardBookModel", name := "lays", desc := "(IIIII)I" } : Jvm.MethodName)) ∈ lw_all := lw_g (lw_at lw_m9 33 rfl) rfl
theorem q2040 : (Jvm.Cond.privateMethod ({ cls := "ChurchyardBookModel", name := "lays", desc := "(IIIII)I" } : Jvm.MethodName)) ∈ lw_tbl := lw_at lw_m9 34 rfl
theorem q2041 : (Jvm.Cond.instanceMethod ({ cls := "ChurchyardBookModel", name := "lays", desc := "(IIIII)I" } : Jvm.MethodName)) ∈ lw_all := lw_g (lw_at lw_m9 35 rfl) rfl
theorem q2042 : (Jvm.Cond.code ({ cls := "ChurchyardBookModel", name := "lays", desc := "(IIIII)I" } : Jvm.MethodName) prog_21_method_44_code (8 : Nat) (Option.some Jvm.ClassFile.FieldType.int)) ∈ lw_all := lw_g (lw_at lw_m9 36 rfl) rfl
theorem q2043 : (Jvm.Cond.methodLink "ChurchyardBookModel" (237 : Nat) ({ cls := "ChurchyardBookModel", name := "toEarth", desc := "(III)V" } : Jvm.MethodName)) ∈ lw_all := lw_g (lw_at lw_m9 37 rfl) rfl
theorem q2044 : (Jvm.Cond.privateMethod ({ cls := "ChurchyardBookModel", name := "toEarth", desc := "(III)V" } : Jvm.MethodName)) ∈ lw_tbl := lw_at lw_m9 38 rfl
theorem q2045 : (Jvm.Cond.instanceMethod ({ cls := "ChurchyardBookModel", name := "toEarth", desc := "(III)V" } : Jvm.MethodName)) ∈ lw_all := lw_g (lw_at lw_m9 39 rfl) rfl
theorem q2046 : (Jvm.Cond.code ({ cls := "ChurchyardBookModel", name := "toEarth", desc := "(III)V" } : Jvm.MethodName) prog_21_method_43_code (5 : Nat) (Option.none : Option Jvm.ClassFile.FieldType)) ∈ lw_all := lw_g (lw_at lw_m9 40 rfl) rfl
theorem q2047 : (Jvm.Cond.methodLink "ChurchyardBookModel" (240 : Nat) ({ cls := "ChurchyardBookModel", name := "noteMove", desc := "(II)V" } : Jvm.MethodName)) ∈ lw_all := lw_g (lw_at lw_m9 41 rfl) rfl
theorem q2048 : (Jvm.Cond.privateMethod ({ cls := "ChurchyardBookModel", name := "noteMove", desc := "(II)V" } : Jvm.MethodName)) ∈ lw_tbl := lw_at lw_m9 42 rfl
theorem q2049 : (Jvm.Cond.instanceMethod ({ cls := "ChurchyardBookModel", name := "noteMove", desc := "(II)V" } : Jvm.MethodName)) ∈ lw_all := lw_g (lw_at lw_m9 43 rfl) rfl
theorem q2050 : (Jvm.Cond.code ({ cls := "ChurchyardBookModel", name := "noteMove", desc := "(II)V" } : Jvm.MethodName) prog_21_method_42_code (3 : Nat) (Option.none : Option Jvm.ClassFile.FieldType)) ∈ lw_all := lw_g (lw_at lw_m9 44 rfl) rfl
theorem q2051 : (Jvm.Cond.methodLink "ChurchyardBookModel" (305 : Nat) ({ cls := "ChurchyardBookModel", name := "actMove", desc := "(IIII)I" } : Jvm.MethodName)) ∈ lw_all := lw_g (lw_at lw_m9 45 rfl) rfl
theorem q2052 : (Jvm.Cond.privateMethod ({ cls := "ChurchyardBookModel", name := "actMove", desc := "(IIII)I" } : Jvm.MethodName)) ∈ lw_tbl := lw_at lw_m9 46 rfl
theorem q2053 : (Jvm.Cond.instanceMethod ({ cls := "ChurchyardBookModel", name := "actMove", desc := "(IIII)I" } : Jvm.MethodName)) ∈ lw_all := lw_g (lw_at lw_m9 47 rfl) rfl
theorem q2054 : (Jvm.Cond.code ({ cls := "ChurchyardBookModel", name := "actMove", desc := "(IIII)I" } : Jvm.MethodName) prog_21_method_46_code (8 : Nat) (Option.some Jvm.ClassFile.FieldType.int)) ∈ lw_all := lw_g (lw_at lw_m9 48 rfl) rfl
theorem q2055 : (Jvm.Cond.methodLink "ChurchyardBookModel" (308 : Nat) ({ cls := "ChurchyardBookModel", name := "actClear", desc := "(I)I" } : Jvm.MethodName)) ∈ lw_all := lw_g (lw_at lw_m9 49 rfl) rfl
theorem q2056 : (Jvm.Cond.privateMethod ({ cls := "ChurchyardBookModel", name := "actClear", desc := "(I)I" } : Jvm.MethodName)) ∈ lw_tbl := lw_at lw_m9 50 rfl
theorem q2057 : (Jvm.Cond.instanceMethod ({ cls := "ChurchyardBookModel", name := "actClear", desc := "(I)I" } : Jvm.MethodName)) ∈ lw_all := lw_g (lw_at lw_m9 51 rfl) rfl
theorem q2058 : (Jvm.Cond.code ({ cls := "ChurchyardBookModel", name := "actClear", desc := "(I)I" } : Jvm.MethodName) prog_21_method_47_code (6 : Nat) (Option.some Jvm.ClassFile.FieldType.int)) ∈ lw_all := lw_g (lw_at lw_m9 52 rfl) rfl
theorem q2059 : (Jvm.Cond.methodLink "ChurchyardBookModel" (250 : Nat) ({ cls := "ChurchyardBookModel", name := "isMeadowBy", desc := "(II)Z" } : Jvm.MethodName)) ∈ lw_all := lw_g (lw_at lw_m9 53 rfl) rfl
theorem q2060 : (Jvm.Cond.privateMethod ({ cls := "ChurchyardBookModel", name := "isMeadowBy", desc := "(II)Z" } : Jvm.MethodName)) ∈ lw_tbl := lw_at lw_m9 54 rfl
theorem q2061 : (Jvm.Cond.instanceMethod ({ cls := "ChurchyardBookModel", name := "isMeadowBy", desc := "(II)Z" } : Jvm.MethodName)) ∈ lw_all := lw_g (lw_at lw_m9 55 rfl) rfl
theorem q2062 : (Jvm.Cond.code ({ cls := "ChurchyardBookModel", name := "isMeadowBy", desc := "(II)Z" } : Jvm.MethodName) prog_21_method_48_code (3 : Nat) (Option.some Jvm.ClassFile.FieldType.boolean)) ∈ lw_all := lw_g (lw_at lw_m9 56 rfl) rfl
theorem q2063 : (Jvm.Cond.methodLink "ChurchyardBookModel" (253 : Nat) ({ cls := "ChurchyardBookModel", name := "toMeadow", desc := "(II)V" } : Jvm.MethodName)) ∈ lw_all := lw_g (lw_at lw_m9 57 rfl) rfl
theorem q2064 : (Jvm.Cond.privateMethod ({ cls := "ChurchyardBookModel", name := "toMeadow", desc := "(II)V" } : Jvm.MethodName)) ∈ lw_tbl := lw_at lw_m9 58 rfl
theorem q2065 : (Jvm.Cond.instanceMethod ({ cls := "ChurchyardBookModel", name := "toMeadow", desc := "(II)V" } : Jvm.MethodName)) ∈ lw_all := lw_g (lw_at lw_m9 59 rfl) rfl
theorem q2066 : (Jvm.Cond.code ({ cls := "ChurchyardBookModel", name := "toMeadow", desc := "(II)V" } : Jvm.MethodName) prog_21_method_49_code (4 : Nat) (Option.none : Option Jvm.ClassFile.FieldType)) ∈ lw_all := lw_g (lw_at lw_m9 60 rfl) rfl
theorem q2067 : (Jvm.Cond.methodLink "ChurchyardBookModel" (311 : Nat) ({ cls := "ChurchyardBookModel", name := "actTurn", desc := "(I)I" } : Jvm.MethodName)) ∈ lw_all := lw_g (lw_at lw_m9 61 rfl) rfl
theorem q2068 : (Jvm.Cond.privateMethod ({ cls := "ChurchyardBookModel", name := "actTurn", desc := "(I)I" } : Jvm.MethodName)) ∈ lw_tbl := lw_at lw_m9 62 rfl
theorem q2069 : (Jvm.Cond.instanceMethod ({ cls := "ChurchyardBookModel", name := "actTurn", desc := "(I)I" } : Jvm.MethodName)) ∈ lw_all := lw_g (lw_at lw_m9 63 rfl) rfl
theorem q2070 : (Jvm.Cond.code ({ cls := "ChurchyardBookModel", name := "actTurn", desc := "(I)I" } : Jvm.MethodName) prog_21_method_51_code (6 : Nat) (Option.some Jvm.ClassFile.FieldType.int)) ∈ lw_all := lw_g (lw_at lw_m9 64 rfl) rfl
theorem q2071 : (Jvm.Cond.constant "ChurchyardBookModel" (256 : Nat) (40000 : Int32)) ∈ lw_all := lw_g (lw_at lw_m9 65 rfl) rfl
theorem q2072 : (Jvm.Cond.constant "ChurchyardBookModel" (257 : Nat) (200000 : Int32)) ∈ lw_all := lw_g (lw_at lw_m9 66 rfl) rfl
theorem q2073 : (Jvm.Cond.methodLink "ChurchyardBookModel" (258 : Nat) ({ cls := "ChurchyardBookModel", name := "nextAt", desc := "(I)I" } : Jvm.MethodName)) ∈ lw_all := lw_g (lw_at lw_m9 67 rfl) rfl
theorem q2074 : (Jvm.Cond.privateMethod ({ cls := "ChurchyardBookModel", name := "nextAt", desc := "(I)I" } : Jvm.MethodName)) ∈ lw_tbl := lw_at lw_m9 68 rfl
theorem q2075 : (Jvm.Cond.instanceMethod ({ cls := "ChurchyardBookModel", name := "nextAt", desc := "(I)I" } : Jvm.MethodName)) ∈ lw_all := lw_g (lw_at lw_m9 69 rfl) rfl
theorem q2076 : (Jvm.Cond.code ({ cls := "ChurchyardBookModel", name := "nextAt", desc := "(I)I" } : Jvm.MethodName) prog_21_method_50_code (3 : Nat) (Option.some Jvm.ClassFile.FieldType.int)) ∈ lw_all := lw_g (lw_at lw_m9 70 rfl) rfl
theorem q2078 : (Jvm.Cond.instanceMethod ({ cls := "ChurchyardBookModel", name := "row", desc := "(III)I" } : Jvm.MethodName)) ∈ lw_all := lw_g (lw_at lw_m9 72 rfl) rfl
theorem q2079 : (Jvm.Cond.selects "ChurchyardBookModel" ({ cls := "ChurchyardBookModel", name := "row", desc := "(III)I" } : Jvm.MethodName) ({ cls := "ChurchyardBookModel", name := "row", desc := "(III)I" } : Jvm.MethodName)) ∈ lw_all := lw_g (lw_at lw_m9 73 rfl) rfl
theorem q2080 : (Jvm.Cond.code ({ cls := "ChurchyardBookModel", name := "row", desc := "(III)I" } : Jvm.MethodName) prog_21_method_58_code (4 : Nat) (Option.some Jvm.ClassFile.FieldType.int)) ∈ lw_all := lw_g (lw_at lw_m9 74 rfl) rfl
theorem q2082 : (Jvm.Cond.instanceMethod ({ cls := "ChurchyardBookModel", name := "tear", desc := "(II)I" } : Jvm.MethodName)) ∈ lw_all := lw_g (lw_at lw_m9 76 rfl) rfl
theorem q2083 : (Jvm.Cond.selects "ChurchyardBookModel" ({ cls := "ChurchyardBookModel", name := "tear", desc := "(II)I" } : Jvm.MethodName) ({ cls := "ChurchyardBookModel", name := "tear", desc := "(II)I" } : Jvm.MethodName)) ∈ lw_all := lw_g (lw_at lw_m9 77 rfl) rfl
theorem q2084 : (Jvm.Cond.code ({ cls := "ChurchyardBookModel", name := "tear", desc := "(II)I" } : Jvm.MethodName) prog_21_method_59_code (3 : Nat) (Option.some Jvm.ClassFile.FieldType.int)) ∈ lw_all := lw_g (lw_at lw_m9 78 rfl) rfl
theorem q2086 : (Jvm.Cond.instanceMethod ({ cls := "ChurchyardBookModel", name := "place", desc := "(IIII)I" } : Jvm.MethodName)) ∈ lw_all := lw_g (lw_at lw_m9 80 rfl) rfl
theorem q2087 : (Jvm.Cond.selects "ChurchyardBookModel" ({ cls := "ChurchyardBookModel", name := "place", desc := "(IIII)I" } : Jvm.MethodName) ({ cls := "ChurchyardBookModel", name := "place", desc := "(IIII)I" } : Jvm.MethodName)) ∈ lw_all := lw_g (lw_at lw_m9 81 rfl) rfl
theorem q2088 : (Jvm.Cond.code ({ cls := "ChurchyardBookModel", name := "place", desc := "(IIII)I" } : Jvm.MethodName) prog_21_method_60_code (5 : Nat) (Option.some Jvm.ClassFile.FieldType.int)) ∈ lw_all := lw_g (lw_at lw_m9 82 rfl) rfl
theorem q2090 : (Jvm.Cond.instanceMethod ({ cls := "ChurchyardBookModel", name := "grave", desc := "(IIIII)I" } : Jvm.MethodName)) ∈ lw_all := lw_g (lw_at lw_m9 84 rfl) rfl
theorem q2091 : (Jvm.Cond.selects "ChurchyardBookModel" ({ cls := "ChurchyardBookModel", name := "grave", desc := "(IIIII)I" } : Jvm.MethodName) ({ cls := "ChurchyardBookModel", name := "grave", desc := "(IIIII)I" } : Jvm.MethodName)) ∈ lw_all := lw_g (lw_at lw_m9 85 rfl) rfl
theorem q2092 : (Jvm.Cond.code ({ cls := "ChurchyardBookModel", name := "grave", desc := "(IIIII)I" } : Jvm.MethodName) prog_21_method_61_code (6 : Nat) (Option.some Jvm.ClassFile.FieldType.int)) ∈ lw_all := lw_g (lw_at lw_m9 86 rfl) rfl
theorem q2094 : (Jvm.Cond.instanceMethod ({ cls := "ChurchyardBookModel", name := "person", desc := "(I)I" } : Jvm.MethodName)) ∈ lw_all := lw_g (lw_at lw_m9 88 rfl) rfl
theorem q2095 : (Jvm.Cond.selects "ChurchyardBookModel" ({ cls := "ChurchyardBookModel", name := "person", desc := "(I)I" } : Jvm.MethodName) ({ cls := "ChurchyardBookModel", name := "person", desc := "(I)I" } : Jvm.MethodName)) ∈ lw_all := lw_g (lw_at lw_m9 89 rfl) rfl
theorem q2096 : (Jvm.Cond.code ({ cls := "ChurchyardBookModel", name := "person", desc := "(I)I" } : Jvm.MethodName) prog_21_method_62_code (2 : Nat) (Option.some Jvm.ClassFile.FieldType.int)) ∈ lw_all := lw_g (lw_at lw_m9 90 rfl) rfl
theorem q2098 : (Jvm.Cond.instanceMethod ({ cls := "ChurchyardBookModel", name := "kin", desc := "(III)I" } : Jvm.MethodName)) ∈ lw_all := lw_g (lw_at lw_m9 92 rfl) rfl
theorem q2099 : (Jvm.Cond.selects "ChurchyardBookModel" ({ cls := "ChurchyardBookModel", name := "kin", desc := "(III)I" } : Jvm.MethodName) ({ cls := "ChurchyardBookModel", name := "kin", desc := "(III)I" } : Jvm.MethodName)) ∈ lw_all := lw_g (lw_at lw_m9 93 rfl) rfl
theorem q2100 : (Jvm.Cond.code ({ cls := "ChurchyardBookModel", name := "kin", desc := "(III)I" } : Jvm.MethodName) prog_21_method_63_code (4 : Nat) (Option.some Jvm.ClassFile.FieldType.int)) ∈ lw_all := lw_g (lw_at lw_m9 94 rfl) rfl
theorem q2102 : (Jvm.Cond.instanceMethod ({ cls := "ChurchyardBookModel", name := "paper", desc := "(II)I" } : Jvm.MethodName)) ∈ lw_all := lw_g (lw_at lw_m9 96 rfl) rfl
theorem q2103 : (Jvm.Cond.selects "ChurchyardBookModel" ({ cls := "ChurchyardBookModel", name := "paper", desc := "(II)I" } : Jvm.MethodName) ({ cls := "ChurchyardBookModel", name := "paper", desc := "(II)I" } : Jvm.MethodName)) ∈ lw_all := lw_g (lw_at lw_m9 97 rfl) rfl
theorem q2104 : (Jvm.Cond.code ({ cls := "ChurchyardBookModel", name := "paper", desc := "(II)I" } : Jvm.MethodName) prog_21_method_64_code (3 : Nat) (Option.some Jvm.ClassFile.FieldType.int)) ∈ lw_all := lw_g (lw_at lw_m9 98 rfl) rfl
theorem q2106 : (Jvm.Cond.instanceMethod ({ cls := "ChurchyardBookModel", name := "right", desc := "(III)I" } : Jvm.MethodName)) ∈ lw_all := lw_g (lw_at lw_m9 100 rfl) rfl
theorem q2107 : (Jvm.Cond.selects "ChurchyardBookModel" ({ cls := "ChurchyardBookModel", name := "right", desc := "(III)I" } : Jvm.MethodName) ({ cls := "ChurchyardBookModel", name := "right", desc := "(III)I" } : Jvm.MethodName)) ∈ lw_all := lw_g (lw_at lw_m9 101 rfl) rfl
theorem q2108 : (Jvm.Cond.code ({ cls := "ChurchyardBookModel", name := "right", desc := "(III)I" } : Jvm.MethodName) prog_21_method_65_code (4 : Nat) (Option.some Jvm.ClassFile.FieldType.int)) ∈ lw_all := lw_g (lw_at lw_m9 102 rfl) rfl
theorem q2110 : (Jvm.Cond.instanceMethod ({ cls := "ChurchyardBookModel", name := "longer", desc := "(II)I" } : Jvm.MethodName)) ∈ lw_all := lw_g (lw_at lw_m9 104 rfl) rfl
theorem q2111 : (Jvm.Cond.selects "ChurchyardBookModel" ({ cls := "ChurchyardBookModel", name := "longer", desc := "(II)I" } : Jvm.MethodName) ({ cls := "ChurchyardBookModel", name := "longer", desc := "(II)I" } : Jvm.MethodName)) ∈ lw_all := lw_g (lw_at lw_m9 105 rfl) rfl
theorem q2112 : (Jvm.Cond.code ({ cls := "ChurchyardBookModel", name := "longer", desc := "(II)I" } : Jvm.MethodName) prog_21_method_66_code (3 : Nat) (Option.some Jvm.ClassFile.FieldType.int)) ∈ lw_all := lw_g (lw_at lw_m9 106 rfl) rfl
theorem q2114 : (Jvm.Cond.instanceMethod ({ cls := "ChurchyardBookModel", name := "agree", desc := "(III)I" } : Jvm.MethodName)) ∈ lw_all := lw_g (lw_at lw_m9 108 rfl) rfl
theorem q2115 : (Jvm.Cond.selects "ChurchyardBookModel" ({ cls := "ChurchyardBookModel", name := "agree", desc := "(III)I" } : Jvm.MethodName) ({ cls := "ChurchyardBookModel", name := "agree", desc := "(III)I" } : Jvm.MethodName)) ∈ lw_all := lw_g (lw_at lw_m9 109 rfl) rfl
theorem q2116 : (Jvm.Cond.code ({ cls := "ChurchyardBookModel", name := "agree", desc := "(III)I" } : Jvm.MethodName) prog_21_method_67_code (4 : Nat) (Option.some Jvm.ClassFile.FieldType.int)) ∈ lw_all := lw_g (lw_at lw_m9 110 rfl) rfl
theorem q2118 : (Jvm.Cond.instanceMethod ({ cls := "ChurchyardBookModel", name := "dies", desc := "(I)I" } : Jvm.MethodName)) ∈ lw_all := lw_g (lw_at lw_m9 112 rfl) rfl
theorem q2119 : (Jvm.Cond.selects "ChurchyardBookModel" ({ cls := "ChurchyardBookModel", name := "dies", desc := "(I)I" } : Jvm.MethodName) ({ cls := "ChurchyardBookModel", name := "dies", desc := "(I)I" } : Jvm.MethodName)) ∈ lw_all := lw_g (lw_at lw_m9 113 rfl) rfl
theorem q2120 : (Jvm.Cond.code ({ cls := "ChurchyardBookModel", name := "dies", desc := "(I)I" } : Jvm.MethodName) prog_21_method_68_code (2 : Nat) (Option.some Jvm.ClassFile.FieldType.int)) ∈ lw_all := lw_g (lw_at lw_m9 114 rfl) rfl
theorem q2122 : (Jvm.Cond.instanceMethod ({ cls := "ChurchyardBookModel", name := "takes", desc := "(I)I" } : Jvm.MethodName)) ∈ lw_all := lw_g (lw_at lw_m9 116 rfl) rfl
theorem q2123 : (Jvm.Cond.selects "ChurchyardBookModel" ({ cls := "ChurchyardBookModel", name := "takes", desc := "(I)I" } : Jvm.MethodName) ({ cls := "ChurchyardBookModel", name := "takes", desc := "(I)I" } : Jvm.MethodName)) ∈ lw_all := lw_g (lw_at lw_m9 117 rfl) rfl
theorem q2124 : (Jvm.Cond.code ({ cls := "ChurchyardBookModel", name := "takes", desc := "(I)I" } : Jvm.MethodName) prog_21_method_69_code (2 : Nat) (Option.some Jvm.ClassFile.FieldType.int)) ∈ lw_all := lw_g (lw_at lw_m9 118 rfl) rfl
theorem q2126 : (Jvm.Cond.instanceMethod ({ cls := "ChurchyardBookModel", name := "refuses", desc := "(I)I" } : Jvm.MethodName)) ∈ lw_all := lw_g (lw_at lw_m9 120 rfl) rfl
theorem q2127 : (Jvm.Cond.selects "ChurchyardBookModel" ({ cls := "ChurchyardBookModel", name := "refuses", desc := "(I)I" } : Jvm.MethodName) ({ cls := "ChurchyardBookModel", name := "refuses", desc := "(I)I" } : Jvm.MethodName)) ∈ lw_all := lw_g (lw_at lw_m9 121 rfl) rfl
theorem q2128 : (Jvm.Cond.code ({ cls := "ChurchyardBookModel", name := "refuses", desc := "(I)I" } : Jvm.MethodName) prog_21_method_70_code (2 : Nat) (Option.some Jvm.ClassFile.FieldType.int)) ∈ lw_all := lw_g (lw_at lw_m9 122 rfl) rfl
theorem q2130 : (Jvm.Cond.instanceMethod ({ cls := "ChurchyardBookModel", name := "bury", desc := "(IIII)I" } : Jvm.MethodName)) ∈ lw_all := lw_g (lw_at lw_m9 124 rfl) rfl
theorem q2131 : (Jvm.Cond.selects "ChurchyardBookModel" ({ cls := "ChurchyardBookModel", name := "bury", desc := "(IIII)I" } : Jvm.MethodName) ({ cls := "ChurchyardBookModel", name := "bury", desc := "(IIII)I" } : Jvm.MethodName)) ∈ lw_all := lw_g (lw_at lw_m9 125 rfl) rfl
theorem q2132 : (Jvm.Cond.code ({ cls := "ChurchyardBookModel", name := "bury", desc := "(IIII)I" } : Jvm.MethodName) prog_21_method_71_code (5 : Nat) (Option.some Jvm.ClassFile.FieldType.int)) ∈ lw_all := lw_g (lw_at lw_m9 126 rfl) rfl
theorem q2134 : (Jvm.Cond.instanceMethod ({ cls := "ChurchyardBookModel", name := "move", desc := "(IIII)I" } : Jvm.MethodName)) ∈ lw_all := lw_g (lw_at lw_m9 128 rfl) rfl
theorem q2135 : (Jvm.Cond.selects "ChurchyardBookModel" ({ cls := "ChurchyardBookModel", name := "move", desc := "(IIII)I" } : Jvm.MethodName) ({ cls := "ChurchyardBookModel", name := "move", desc := "(IIII)I" } : Jvm.MethodName)) ∈ lw_all := lw_g (lw_at lw_m9 129 rfl) rfl
theorem q2136 : (Jvm.Cond.code ({ cls := "ChurchyardBookModel", name := "move", desc := "(IIII)I" } : Jvm.MethodName) prog_21_method_72_code (5 : Nat) (Option.some Jvm.ClassFile.FieldType.int)) ∈ lw_all := lw_g (lw_at lw_m9 130 rfl) rfl
theorem q2138 : (Jvm.Cond.instanceMethod ({ cls := "ChurchyardBookModel", name := "clear", desc := "(I)I" } : Jvm.MethodName)) ∈ lw_all := lw_g (lw_at lw_m9 132 rfl) rfl
theorem q2139 : (Jvm.Cond.selects "ChurchyardBookModel" ({ cls := "ChurchyardBookModel", name := "clear", desc := "(I)I" } : Jvm.MethodName) ({ cls := "ChurchyardBookModel", name := "clear", desc := "(I)I" } : Jvm.MethodName)) ∈ lw_all := lw_g (lw_at lw_m9 133 rfl) rfl
theorem q2140 : (Jvm.Cond.code ({ cls := "ChurchyardBookModel", name := "clear", desc := "(I)I" } : Jvm.MethodName) prog_21_method_73_code (2 : Nat) (Option.some Jvm.ClassFile.FieldType.int)) ∈ lw_all := lw_g (lw_at lw_m9 134 rfl) rfl
theorem q2142 : (Jvm.Cond.instanceMethod ({ cls := "ChurchyardBookModel", name := "turn", desc := "(I)I" } : Jvm.MethodName)) ∈ lw_all := lw_g (lw_at lw_m9 136 rfl) rfl
theorem q2143 : (Jvm.Cond.selects "ChurchyardBookModel" ({ cls := "ChurchyardBookModel", name := "turn", desc := "(I)I" } : Jvm.MethodName) ({ cls := "ChurchyardBookModel", name := "turn", desc := "(I)I" } : Jvm.MethodName)) ∈ lw_all := lw_g (lw_at lw_m9 137 rfl) rfl
theorem q2144 : (Jvm.Cond.code ({ cls := "ChurchyardBookModel", name := "turn", desc := "(I)I" } : Jvm.MethodName) prog_21_method_74_code (2 : Nat) (Option.some Jvm.ClassFile.FieldType.int)) ∈ lw_all := lw_g (lw_at lw_m9 138 rfl) rfl
theorem q2146 : (Jvm.Cond.instanceMethod ({ cls := "ChurchyardBookModel", name := "why", desc := "(IIII)I" } : Jvm.MethodName)) ∈ lw_all := lw_g (lw_at lw_m9 140 rfl) rfl
theorem q2147 : (Jvm.Cond.selects "ChurchyardBookModel" ({ cls := "ChurchyardBookModel", name := "why", desc := "(IIII)I" } : Jvm.MethodName) ({ cls := "ChurchyardBookModel", name := "why", desc := "(IIII)I" } : Jvm.MethodName)) ∈ lw_all := lw_g (lw_at lw_m9 141 rfl) rfl
theorem q2148 : (Jvm.Cond.code ({ cls := "ChurchyardBookModel", name := "why", desc := "(IIII)I" } : Jvm.MethodName) prog_21_method_75_code (5 : Nat) (Option.some Jvm.ClassFile.FieldType.int)) ∈ lw_all := lw_g (lw_at lw_m9 142 rfl) rfl
theorem q2150 : (Jvm.Cond.instanceMethod ({ cls := "ChurchyardBookModel", name := "plan", desc := "(III)I" } : Jvm.MethodName)) ∈ lw_all := lw_g (lw_at lw_m9 144 rfl) rfl
theorem q2151 : (Jvm.Cond.selects "ChurchyardBookModel" ({ cls := "ChurchyardBookModel", name := "plan", desc := "(III)I" } : Jvm.MethodName) ({ cls := "ChurchyardBookModel", name := "plan", desc := "(III)I" } : Jvm.MethodName)) ∈ lw_all := lw_g (lw_at lw_m9 145 rfl) rfl
theorem q2152 : (Jvm.Cond.code ({ cls := "ChurchyardBookModel", name := "plan", desc := "(III)I" } : Jvm.MethodName) prog_21_method_76_code (6 : Nat) (Option.some Jvm.ClassFile.FieldType.int)) ∈ lw_all := lw_g (lw_at lw_m9 146 rfl) rfl
theorem q2153 : (Jvm.Cond.methodLink "ChurchyardBookModel" (333 : Nat) ({ cls := "ChurchyardBookModel", name := "planned", desc := "(IIII)I" } : Jvm.MethodName)) ∈ lw_all := lw_g (lw_at lw_m9 147 rfl) rfl
theorem q2154 : (Jvm.Cond.privateMethod ({ cls := "ChurchyardBookModel", name := "planned", desc := "(IIII)I" } : Jvm.MethodName)) ∈ lw_tbl := lw_at lw_m9 148 rfl
theorem q2155 : (Jvm.Cond.instanceMethod ({ cls := "ChurchyardBookModel", name := "planned", desc := "(IIII)I" } : Jvm.MethodName)) ∈ lw_all := lw_g (lw_at lw_m9 149 rfl) rfl
theorem q2156 : (Jvm.Cond.code ({ cls := "ChurchyardBookModel", name := "planned", desc := "(IIII)I" } : Jvm.MethodName) prog_21_method_78_code (12 : Nat) (Option.some Jvm.ClassFile.FieldType.int)) ∈ lw_all := lw_g (lw_at lw_m9 150 rfl) rfl
theorem q2157 : (Jvm.Cond.methodLink "ChurchyardBookModel" (336 : Nat) ({ cls := "ChurchyardBookModel", name := "openFrom", desc := "(III)I" } : Jvm.MethodName)) ∈ lw_all := lw_g (lw_at lw_m9 151 rfl) rfl
theorem q2158 : (Jvm.Cond.privateMethod ({ cls := "ChurchyardBookModel", name := "openFrom", desc := "(III)I" } : Jvm.MethodName)) ∈ lw_tbl := lw_at lw_m9 152 rfl
theorem q2159 : (Jvm.Cond.instanceMethod ({ cls := "ChurchyardBookModel", name := "openFrom", desc := "(III)I" } : Jvm.MethodName)) ∈ lw_all := lw_g (lw_at lw_m9 153 rfl) rfl
theorem q2160 : (Jvm.Cond.code ({ cls := "ChurchyardBookModel", name := "openFrom", desc := "(III)I" } : Jvm.MethodName) prog_21_method_77_code (5 : Nat) (Option.some Jvm.ClassFile.FieldType.int)) ∈ lw_all := lw_g (lw_at lw_m9 154 rfl) rfl
theorem q2162 : (Jvm.Cond.instanceMethod ({ cls := "ChurchyardBookModel", name := "free", desc := "(III)I" } : Jvm.MethodName)) ∈ lw_all := lw_g (lw_at lw_m9 156 rfl) rfl
theorem q2163 : (Jvm.Cond.selects "ChurchyardBookModel" ({ cls := "ChurchyardBookModel", name := "free", desc := "(III)I" } : Jvm.MethodName) ({ cls := "ChurchyardBookModel", name := "free", desc := "(III)I" } : Jvm.MethodName)) ∈ lw_all := lw_g (lw_at lw_m9 157 rfl) rfl
theorem q2164 : (Jvm.Cond.code ({ cls := "ChurchyardBookModel", name := "free", desc := "(III)I" } : Jvm.MethodName) prog_21_method_79_code (8 : Nat) (Option.some Jvm.ClassFile.FieldType.int)) ∈ lw_all := lw_g (lw_at lw_m9 158 rfl) rfl
theorem q2166 : (Jvm.Cond.instanceMethod ({ cls := "ChurchyardBookModel", name := "spot", desc := "(III)I" } : Jvm.MethodName)) ∈ lw_all := lw_g (lw_at lw_m9 160 rfl) rfl
theorem q2167 : (Jvm.Cond.selects "ChurchyardBookModel" ({ cls := "ChurchyardBookModel", name := "spot", desc := "(III)I" } : Jvm.MethodName) ({ cls := "ChurchyardBookModel", name := "spot", desc := "(III)I" } : Jvm.MethodName)) ∈ lw_all := lw_g (lw_at lw_m9 161 rfl) rfl
theorem q2168 : (Jvm.Cond.code ({ cls := "ChurchyardBookModel", name := "spot", desc := "(III)I" } : Jvm.MethodName) prog_21_method_80_code (5 : Nat) (Option.some Jvm.ClassFile.FieldType.int)) ∈ lw_all := lw_g (lw_at lw_m9 162 rfl) rfl
theorem q2170 : (Jvm.Cond.instanceMethod ({ cls := "ChurchyardBookModel", name := "look", desc := "(II)I" } : Jvm.MethodName)) ∈ lw_all := lw_g (lw_at lw_m9 164 rfl) rfl
theorem q2171 : (Jvm.Cond.selects "ChurchyardBookModel" ({ cls := "ChurchyardBookModel", name := "look", desc := "(II)I" } : Jvm.MethodName) ({ cls := "ChurchyardBookModel", name := "look", desc := "(II)I" } : Jvm.MethodName)) ∈ lw_all := lw_g (lw_at lw_m9 165 rfl) rfl
theorem q2172 : (Jvm.Cond.code ({ cls := "ChurchyardBookModel", name := "look", desc := "(II)I" } : Jvm.MethodName) prog_21_method_81_code (8 : Nat) (Option.some Jvm.ClassFile.FieldType.int)) ∈ lw_all := lw_g (lw_at lw_m9 166 rfl) rfl
theorem q2174 : (Jvm.Cond.instanceMethod ({ cls := "ChurchyardBookModel", name := "who", desc := "(III)I" } : Jvm.MethodName)) ∈ lw_all := lw_g (lw_at lw_m9 168 rfl) rfl
theorem q2175 : (Jvm.Cond.selects "ChurchyardBookModel" ({ cls := "ChurchyardBookModel", name := "who", desc := "(III)I" } : Jvm.MethodName) ({ cls := "ChurchyardBookModel", name := "who", desc := "(III)I" } : Jvm.MethodName)) ∈ lw_all := lw_g (lw_at lw_m9 169 rfl) rfl
theorem q2176 : (Jvm.Cond.code ({ cls := "ChurchyardBookModel", name := "who", desc := "(III)I" } : Jvm.MethodName) prog_21_method_82_code (4 : Nat) (Option.some Jvm.ClassFile.FieldType.int)) ∈ lw_all := lw_g (lw_at lw_m9 170 rfl) rfl
theorem q2178 : (Jvm.Cond.instanceMethod ({ cls := "ChurchyardBookModel", name := "of", desc := "(II)I" } : Jvm.MethodName)) ∈ lw_all := lw_g (lw_at lw_m9 172 rfl) rfl
theorem q2179 : (Jvm.Cond.selects "ChurchyardBookModel" ({ cls := "ChurchyardBookModel", name := "of", desc := "(II)I" } : Jvm.MethodName) ({ cls := "ChurchyardBookModel", name := "of", desc := "(II)I" } : Jvm.MethodName)) ∈ lw_all := lw_g (lw_at lw_m9 173 rfl) rfl
theorem q2180 : (Jvm.Cond.code ({ cls := "ChurchyardBookModel", name := "of", desc := "(II)I" } : Jvm.MethodName) prog_21_method_83_code (3 : Nat) (Option.some Jvm.ClassFile.FieldType.int)) ∈ lw_all := lw_g (lw_at lw_m9 174 rfl) rfl
theorem q2182 : (Jvm.Cond.instanceMethod ({ cls := "ChurchyardBookModel", name := "where", desc := "(II)I" } : Jvm.MethodName)) ∈ lw_all := lw_g (lw_at lw_m9 176 rfl) rfl
theorem q2183 : (Jvm.Cond.selects "ChurchyardBookModel" ({ cls := "ChurchyardBookModel", name := "where", desc := "(II)I" } : Jvm.MethodName) ({ cls := "ChurchyardBookModel", name := "where", desc := "(II)I" } : Jvm.MethodName)) ∈ lw_all := lw_g (lw_at lw_m9 177 rfl) rfl
theorem q2184 : (Jvm.Cond.code ({ cls := "ChurchyardBookModel", name := "where", desc := "(II)I" } : Jvm.MethodName) prog_21_method_84_code (5 : Nat) (Option.some Jvm.ClassFile.FieldType.int)) ∈ lw_all := lw_g (lw_at lw_m9 178 rfl) rfl
theorem q2186 : (Jvm.Cond.instanceMethod ({ cls := "ChurchyardBookModel", name := "order", desc := "(II)I" } : Jvm.MethodName)) ∈ lw_all := lw_g (lw_at lw_m9 180 rfl) rfl
theorem q2187 : (Jvm.Cond.selects "ChurchyardBookModel" ({ cls := "ChurchyardBookModel", name := "order", desc := "(II)I" } : Jvm.MethodName) ({ cls := "ChurchyardBookModel", name := "order", desc := "(II)I" } : Jvm.MethodName)) ∈ lw_all := lw_g (lw_at lw_m9 181 rfl) rfl
theorem q2188 : (Jvm.Cond.code ({ cls := "ChurchyardBookModel", name := "order", desc := "(II)I" } : Jvm.MethodName) prog_21_method_85_code (3 : Nat) (Option.some Jvm.ClassFile.FieldType.int)) ∈ lw_all := lw_g (lw_at lw_m9 182 rfl) rfl
theorem q2190 : (Jvm.Cond.instanceMethod ({ cls := "ChurchyardBookModel", name := "act", desc := "(II)I" } : Jvm.MethodName)) ∈ lw_all := lw_g (lw_at lw_m9 184 rfl) rfl
theorem q2191 : (Jvm.Cond.selects "ChurchyardBookModel" ({ cls := "ChurchyardBookModel", name := "act", desc := "(II)I" } : Jvm.MethodName) ({ cls := "ChurchyardBookModel", name := "act", desc := "(II)I" } : Jvm.MethodName)) ∈ lw_all := lw_g (lw_at lw_m9 185 rfl) rfl
theorem q2192 : (Jvm.Cond.code ({ cls := "ChurchyardBookModel", name := "act", desc := "(II)I" } : Jvm.MethodName) prog_21_method_86_code (3 : Nat) (Option.some Jvm.ClassFile.FieldType.int)) ∈ lw_all := lw_g (lw_at lw_m9 186 rfl) rfl
theorem q2194 : (Jvm.Cond.instanceMethod ({ cls := "ChurchyardBookModel", name := "feed", desc := "(IIIIII)I" } : Jvm.MethodName)) ∈ lw_all := lw_g (lw_at lw_m9 188 rfl) rfl
theorem q2195 : (Jvm.Cond.selects "ChurchyardBookModel" ({ cls := "ChurchyardBookModel", name := "feed", desc := "(IIIIII)I" } : Jvm.MethodName) ({ cls := "ChurchyardBookModel", name := "feed", desc := "(IIIIII)I" } : Jvm.MethodName)) ∈ lw_all := lw_g (lw_at lw_m9 189 rfl) rfl
theorem q2196 : (Jvm.Cond.code ({ cls := "ChurchyardBookModel", name := "feed", desc := "(IIIIII)I" } : Jvm.MethodName) prog_21_method_87_code (8 : Nat) (Option.some Jvm.ClassFile.FieldType.int)) ∈ lw_all := lw_g (lw_at lw_m9 190 rfl) rfl
theorem q2198 : (Jvm.Cond.instanceMethod ({ cls := "ChurchyardBookModel", name := "check", desc := "()I" } : Jvm.MethodName)) ∈ lw_all := lw_g (lw_at lw_m9 192 rfl) rfl
theorem q2199 : (Jvm.Cond.selects "ChurchyardBookModel" ({ cls := "ChurchyardBookModel", name := "check", desc := "()I" } : Jvm.MethodName) ({ cls := "ChurchyardBookModel", name := "check", desc := "()I" } : Jvm.MethodName)) ∈ lw_all := lw_g (lw_at lw_m9 193 rfl) rfl
theorem q2200 : (Jvm.Cond.code ({ cls := "ChurchyardBookModel", name := "check", desc := "()I" } : Jvm.MethodName) prog_21_method_88_code (2 : Nat) (Option.some Jvm.ClassFile.FieldType.int)) ∈ lw_all := lw_g (lw_at lw_m9 194 rfl) rfl
theorem q2201 : (Jvm.Cond.methodLink "ChurchyardBookModel" (342 : Nat) ({ cls := "ChurchyardBookModel", name := "tries", desc := "()I" } : Jvm.MethodName)) ∈ lw_all := lw_g (lw_at lw_m9 195 rfl) rfl
theorem q2202 : (Jvm.Cond.privateMethod ({ cls := "ChurchyardBookModel", name := "tries", desc := "()I" } : Jvm.MethodName)) ∈ lw_tbl := lw_at lw_m9 196 rfl
theorem q2203 : (Jvm.Cond.instanceMethod ({ cls := "ChurchyardBookModel", name := "tries", desc := "()I" } : Jvm.MethodName)) ∈ lw_all := lw_g (lw_at lw_m9 197 rfl) rfl
theorem q2204 : (Jvm.Cond.code ({ cls := "ChurchyardBookModel", name := "tries", desc := "()I" } : Jvm.MethodName) prog_21_method_55_code (5 : Nat) (Option.some Jvm.ClassFile.FieldType.int)) ∈ lw_all := lw_g (lw_at lw_m9 198 rfl) rfl
theorem q2205 : (Jvm.Cond.methodLink "ChurchyardBookModel" (321 : Nat) ({ cls := "ChurchyardBookModel", name := "empty", desc := "()V" } : Jvm.MethodName)) ∈ lw_all := lw_g (lw_at lw_m9 199 rfl) rfl
theorem q2206 : (Jvm.Cond.privateMethod ({ cls := "ChurchyardBookModel", name := "empty", desc := "()V" } : Jvm.MethodName)) ∈ lw_tbl := lw_at lw_m9 200 rfl
theorem q2207 : (Jvm.Cond.instanceMethod ({ cls := "ChurchyardBookModel", name := "empty", desc := "()V" } : Jvm.MethodName)) ∈ lw_all := lw_g (lw_at lw_m9 201 rfl) rfl
theorem q2208 : (Jvm.Cond.code ({ cls := "ChurchyardBookModel", name := "empty", desc := "()V" } : Jvm.MethodName) prog_21_method_3_code (2 : Nat) (Option.none : Option Jvm.ClassFile.FieldType)) ∈ lw_all := lw_g (lw_at lw_m9 202 rfl) rfl
theorem q2209 : (Jvm.Cond.methodLink "ChurchyardBookModel" (327 : Nat) ({ cls := "ChurchyardBookModel", name := "numbersOf", desc := "(I)I" } : Jvm.MethodName)) ∈ lw_all := lw_g (lw_at lw_m9 203 rfl) rfl
theorem q2210 : (Jvm.Cond.privateMethod ({ cls := "ChurchyardBookModel", name := "numbersOf", desc := "(I)I" } : Jvm.MethodName)) ∈ lw_tbl := lw_at lw_m9 204 rfl
theorem q2211 : (Jvm.Cond.instanceMethod ({ cls := "ChurchyardBookModel", name := "numbersOf", desc := "(I)I" } : Jvm.MethodName)) ∈ lw_all := lw_g (lw_at lw_m9 205 rfl) rfl
theorem q2212 : (Jvm.Cond.code ({ cls := "ChurchyardBookModel", name := "numbersOf", desc := "(I)I" } : Jvm.MethodName) prog_21_method_54_code (2 : Nat) (Option.some Jvm.ClassFile.FieldType.int)) ∈ lw_all := lw_g (lw_at lw_m9 206 rfl) rfl
theorem q2213 : (Jvm.Cond.methodLink "ChurchyardBookModel" (346 : Nat) ({ cls := "ChurchyardBookModel", name := "again", desc := "()V" } : Jvm.MethodName)) ∈ lw_all := lw_g (lw_at lw_m9 207 rfl) rfl
theorem q2214 : (Jvm.Cond.privateMethod ({ cls := "ChurchyardBookModel", name := "again", desc := "()V" } : Jvm.MethodName)) ∈ lw_tbl := lw_at lw_m9 208 rfl
theorem q2215 : (Jvm.Cond.instanceMethod ({ cls := "ChurchyardBookModel", name := "again", desc := "()V" } : Jvm.MethodName)) ∈ lw_all := lw_g (lw_at lw_m9 209 rfl) rfl
theorem q2216 : (Jvm.Cond.code ({ cls := "ChurchyardBookModel", name := "again", desc := "()V" } : Jvm.MethodName) prog_21_method_56_code (3 : Nat) (Option.none : Option Jvm.ClassFile.FieldType)) ∈ lw_all := lw_g (lw_at lw_m9 210 rfl) rfl
theorem q2218 : (Jvm.Cond.instanceMethod ({ cls := "ChurchyardBookModel", name := "load", desc := "()I" } : Jvm.MethodName)) ∈ lw_all := lw_g (lw_at lw_m9 212 rfl) rfl
theorem q2219 : (Jvm.Cond.selects "ChurchyardBookModel" ({ cls := "ChurchyardBookModel", name := "load", desc := "()I" } : Jvm.MethodName) ({ cls := "ChurchyardBookModel", name := "load", desc := "()I" } : Jvm.MethodName)) ∈ lw_all := lw_g (lw_at lw_m9 213 rfl) rfl
theorem q2220 : (Jvm.Cond.code ({ cls := "ChurchyardBookModel", name := "load", desc := "()I" } : Jvm.MethodName) prog_21_method_89_code (3 : Nat) (Option.some Jvm.ClassFile.FieldType.int)) ∈ lw_all := lw_g (lw_at lw_m9 214 rfl) rfl
theorem q2222 : (Jvm.Cond.instanceMethod ({ cls := "ChurchyardBookModel", name := "undo", desc := "()I" } : Jvm.MethodName)) ∈ lw_all := lw_g (lw_at lw_m9 216 rfl) rfl
theorem q2223 : (Jvm.Cond.selects "ChurchyardBookModel" ({ cls := "ChurchyardBookModel", name := "undo", desc := "()I" } : Jvm.MethodName) ({ cls := "ChurchyardBookModel", name := "undo", desc := "()I" } : Jvm.MethodName)) ∈ lw_all := lw_g (lw_at lw_m9 217 rfl) rfl
theorem q2224 : (Jvm.Cond.code ({ cls := "ChurchyardBookModel", name := "undo", desc := "()I" } : Jvm.MethodName) prog_21_method_90_code (1 : Nat) (Option.some Jvm.ClassFile.FieldType.int)) ∈ lw_all := lw_g (lw_at lw_m9 218 rfl) rfl
theorem q2226 : (Jvm.Cond.instanceMethod ({ cls := "ChurchyardBookModel", name := "count", desc := "(I)I" } : Jvm.MethodName)) ∈ lw_all := lw_g (lw_at lw_m9 220 rfl) rfl
theorem q2227 : (Jvm.Cond.selects "ChurchyardBookModel" ({ cls := "ChurchyardBookModel", name := "count", desc := "(I)I" } : Jvm.MethodName) ({ cls := "ChurchyardBookModel", name := "count", desc := "(I)I" } : Jvm.MethodName)) ∈ lw_all := lw_g (lw_at lw_m9 221 rfl) rfl
theorem q2228 : (Jvm.Cond.code ({ cls := "ChurchyardBookModel", name := "count", desc := "(I)I" } : Jvm.MethodName) prog_21_method_93_code (2 : Nat) (Option.some Jvm.ClassFile.FieldType.int)) ∈ lw_all := lw_g (lw_at lw_m9 222 rfl) rfl
theorem q2229 : (Jvm.Cond.methodLink "ChurchyardBookModel" (349 : Nat) ({ cls := "ChurchyardBookModel", name := "inWay", desc := "(I)I" } : Jvm.MethodName)) ∈ lw_all := lw_g (lw_at lw_m9 223 rfl) rfl
theorem q2230 : (Jvm.Cond.privateMethod ({ cls := "ChurchyardBookModel", name := "inWay", desc := "(I)I" } : Jvm.MethodName)) ∈ lw_tbl := lw_at lw_m9 224 rfl
theorem q2231 : (Jvm.Cond.instanceMethod ({ cls := "ChurchyardBookModel", name := "inWay", desc := "(I)I" } : Jvm.MethodName)) ∈ lw_all := lw_g (lw_at lw_m9 225 rfl) rfl
theorem q2232 : (Jvm.Cond.code ({ cls := "ChurchyardBookModel", name := "inWay", desc := "(I)I" } : Jvm.MethodName) prog_21_method_92_code (4 : Nat) (Option.some Jvm.ClassFile.FieldType.int)) ∈ lw_all := lw_g (lw_at lw_m9 226 rfl) rfl
theorem q2233 : (Jvm.Cond.methodLink "ChurchyardBookModel" (352 : Nat) ({ cls := "ChurchyardBookModel", name := "inState", desc := "(I)I" } : Jvm.MethodName)) ∈ lw_all := lw_g (lw_at lw_m9 227 rfl) rfl
theorem q2234 : (Jvm.Cond.privateMethod ({ cls := "ChurchyardBookModel", name := "inState", desc := "(I)I" } : Jvm.MethodName)) ∈ lw_tbl := lw_at lw_m9 228 rfl
theorem q2235 : (Jvm.Cond.instanceMethod ({ cls := "ChurchyardBookModel", name := "inState", desc := "(I)I" } : Jvm.MethodName)) ∈ lw_all := lw_g (lw_at lw_m9 229 rfl) rfl
theorem q2236 : (Jvm.Cond.code ({ cls := "ChurchyardBookModel", name := "inState", desc := "(I)I" } : Jvm.MethodName) prog_21_method_91_code (4 : Nat) (Option.some Jvm.ClassFile.FieldType.int)) ∈ lw_all := lw_g (lw_at lw_m9 230 rfl) rfl
theorem q2265 : (Jvm.Cond.castable "ChurchyardBookModel" "java/lang/Object") ∈ lw_tbl := lw_at lw_m10 19 rfl
theorem in_X6 : ∀ w ∈ wsX60, w ∈ lw_all := lw_in wsX60 [1763, 1765, 1767, 1769, 1771, 1773, 1775, 1777, 1779, 1781, 1783, 1785, 1787, 1789, 1791, 1793, 1795, 1797, 1799, 1801, 1803, 1805, 1807, 1809, 1811, 1813, 1815, 1817, 1819, 1821, 1823, 1825, 1827, 1829, 1831, 1833, 1835, 1837, 1839, 1841, 1843, 1845, 1847, 1849, 1851, 1853, 1855, 1857, 1859, 1861] (by decide +kernel) (by decide +kernel)
