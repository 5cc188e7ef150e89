/-! SharedSheetModel -/
set_option maxRecDepth 100000
def RX6 : String := "SharedSheetModel"
def TX6 : u_T := fun k => match k with
  | 0 => ("SharedSheetModel", "s", "[I", true)
  | 1 => ("SharedSheetModel", "past", "[I", true)
  | 2 => ("SharedSheetModel", "aside", "[I", true)
  | 3 => ("SharedSheetModel", "pasts", "I", false)
  | 4 => ("SharedSheetModel", "text", "[I", true)
  | 5 => ("SharedSheetModel", "typed", "I", false)
  | 6 => ("SharedSheetModel", "thrown", "I", false)
  | 7 => ("SharedSheetModel", "rows", "[I", true)
  | 8 => ("SharedSheetModel", "columns", "[I", true)
  | 9 => ("SharedSheetModel", "rowMany", "I", false)
  | 10 => ("SharedSheetModel", "columnMany", "I", false)
  | 11 => ("SharedSheetModel", "some", "[I", true)
  | 12 => ("SharedSheetModel", "read", "[I", true)
  | 13 => ("SharedSheetModel", "reads", "I", false)
  | 14 => ("SharedSheetModel", "at", "I", false)
  | 15 => ("SharedSheetModel", "formulas", "[I", true)
  | 16 => ("SharedSheetModel", "formulaMany", "I", false)
  | 17 => ("SharedSheetModel", "formulaAt", "[I", true)
  | 18 => ("SharedSheetModel", "values", "[J", true)
  | 19 => ("SharedSheetModel", "errors", "[I", true)
  | 20 => ("SharedSheetModel", "refers", "[Z", true)
  | 21 => ("SharedSheetModel", "cyclic", "[Z", true)
  | 22 => ("SharedSheetModel", "known", "[Z", true)
  | 23 => ("SharedSheetModel", "met", "[Z", true)
  | 24 => ("SharedSheetModel", "waiting", "[I", true)
  | 25 => ("SharedSheetModel", "error", "I", false)
  | 26 => ("SharedSheetModel", "factor", "J", false)
  | 27 => ("SharedSheetModel", "ordered", "[I", true)
  | 28 => ("SharedSheetModel", "picture", "[J", true)
  | 29 => ("SharedSheetModel", "first", "[J", true)
  | _ => ("SharedSheetModel", "h", "J", false)
def tyX6 : Nat → FieldType := fun k => match k with
  | 0 => .array .int
  | 1 => .array .int
  | 2 => .array .int
  | 3 => .int
  | 4 => .array .int
  | 5 => .int
  | 6 => .int
  | 7 => .array .int
  | 8 => .array .int
  | 9 => .int
  | 10 => .int
  | 11 => .array .int
  | 12 => .array .int
  | 13 => .int
  | 14 => .int
  | 15 => .array .int
  | 16 => .int
  | 17 => .array .int
  | 18 => .array .long
  | 19 => .array .int
  | 20 => .array .boolean
  | 21 => .array .boolean
  | 22 => .array .boolean
  | 23 => .array .boolean
  | 24 => .array .int
  | 25 => .int
  | 26 => .long
  | 27 => .array .int
  | 28 => .array .long
  | 29 => .array .long
  | _ => .long
abbrev wsX60 : List Cond := u_ws RX6 TX6 31
set_option maxRecDepth 100000 in
theorem nmX6 : ∀ a, a < 31 → ∀ b, b < 31 → a ≠ b → (TX6 a).2.1 ≠ (TX6 b).2.1 := by decide +kernel
set_option maxRecDepth 100000 in
theorem tyX6_ok : ∀ k, k < 31 → parseFieldDescriptor (TX6 k).2.2.1 = some (tyX6 k) := by decide +kernel
abbrev cX6_init : ByteArray := prog_15_method_1_code
def yX6_init : MethodName := ⟨RX6, "<init>", "()V"⟩
def dkwX6_init_13 : List UInt8 := [132, 2, 1, 167, 255, 226, 132, 1, 1, 167, 255, 115, 177]
abbrev dktX6_init_13 : List UInt8 := dkwX6_init_13 ++ []
def dkwX6_init_12 : List UInt8 := [162, 0, 29, 42, 180, 0, 7, 17, 15, 3, 17, 1, 14, 27, 104, 96, 16, 126, 96, 28, 96, 2, 79]
abbrev dktX6_init_12 : List UInt8 := dkwX6_init_12 ++ dktX6_init_13
def dkwX6_init_11 : List UInt8 := [21, 4, 153, 0, 7, 4, 167, 0, 4, 3, 79, 132, 2, 1, 167, 255, 163, 3, 61, 28, 17, 0, 144]
abbrev dktX6_init_11 : List UInt8 := dkwX6_init_11 ++ dktX6_init_12
def dkwX6_init_10 : List UInt8 := [180, 0, 7, 29, 4, 96, 21, 4, 153, 0, 7, 3, 167, 0, 4, 2, 79, 42, 180, 0, 7, 29, 6, 96]
abbrev dktX6_init_10 : List UInt8 := dkwX6_init_10 ++ dktX6_init_11
def dkwX6_init_9 : List UInt8 := [29, 3, 96, 21, 4, 153, 0, 16, 17, 3, 232, 28, 16, 12, 112, 4, 96, 104, 167, 0, 4, 2, 79, 42]
abbrev dktX6_init_9 : List UInt8 := dkwX6_init_9 ++ dktX6_init_10
def dkwX6_init_8 : List UInt8 := [28, 184, 0, 72, 62, 28, 16, 12, 112, 6, 162, 0, 7, 4, 167, 0, 4, 3, 54, 4, 42, 180, 0, 7]
abbrev dktX6_init_8 : List UInt8 := dkwX6_init_8 ++ dktX6_init_9
def dkwX6_init_7 : List UInt8 := [17, 2, 92, 188, 11, 181, 0, 69, 3, 60, 27, 6, 162, 0, 142, 3, 61, 28, 16, 24, 162, 0, 93, 27]
abbrev dktX6_init_7 : List UInt8 := dkwX6_init_7 ++ dktX6_init_8
def dkwX6_init_6 : List UInt8 := [188, 10, 181, 0, 60, 42, 16, 120, 188, 10, 181, 0, 63, 42, 17, 2, 92, 188, 11, 181, 0, 66, 42]
abbrev dktX6_init_6 : List UInt8 := dkwX6_init_6 ++ dktX6_init_7
def dkwX6_init_5 : List UInt8 := [188, 4, 181, 0, 51, 42, 16, 120, 188, 4, 181, 0, 54, 42, 16, 120, 188, 4, 181, 0, 57, 42, 16, 121]
abbrev dktX6_init_5 : List UInt8 := dkwX6_init_5 ++ dktX6_init_6
def dkwX6_init_4 : List UInt8 := [181, 0, 40, 42, 17, 0, 144, 188, 10, 181, 0, 44, 42, 17, 67, 128, 188, 4, 181, 0, 47, 42, 16, 120]
abbrev dktX6_init_4 : List UInt8 := dkwX6_init_4 ++ dktX6_init_5
def dkwX6_init_3 : List UInt8 := [42, 16, 120, 188, 10, 181, 0, 34, 42, 17, 0, 144, 188, 10, 181, 0, 37, 42, 17, 0, 144, 188, 11]
abbrev dktX6_init_3 : List UInt8 := dkwX6_init_3 ++ dktX6_init_4
def dkwX6_init_2 : List UInt8 := [42, 16, 12, 188, 10, 181, 0, 25, 42, 16, 12, 188, 10, 181, 0, 28, 42, 16, 24, 188, 10, 181, 0, 31]
abbrev dktX6_init_2 : List UInt8 := dkwX6_init_2 ++ dktX6_init_3
def dkwX6_init_1 : List UInt8 := [17, 18, 45, 188, 10, 181, 0, 16, 42, 16, 64, 188, 10, 181, 0, 19, 42, 16, 12, 188, 10, 181, 0, 22]
abbrev dktX6_init_1 : List UInt8 := dkwX6_init_1 ++ dktX6_init_2
def dkwX6_init_0 : List UInt8 := [42, 183, 0, 1, 42, 17, 18, 45, 188, 10, 181, 0, 7, 42, 17, 72, 180, 188, 10, 181, 0, 13, 42]
abbrev dktX6_init_0 : List UInt8 := dkwX6_init_0 ++ dktX6_init_1
theorem dksX6_init_0 : cX6_init.data.toList.drop 0 = dktX6_init_0 := by decide +kernel
theorem dksX6_init_1 : cX6_init.data.toList.drop 23 = dktX6_init_1 := dk_seg dksX6_init_0 23 rfl rfl
theorem dksX6_init_2 : cX6_init.data.toList.drop 47 = dktX6_init_2 := dk_seg dksX6_init_1 24 rfl rfl
theorem dksX6_init_3 : cX6_init.data.toList.drop 71 = dktX6_init_3 := dk_seg dksX6_init_2 24 rfl rfl
theorem dksX6_init_4 : cX6_init.data.toList.drop 94 = dktX6_init_4 := dk_seg dksX6_init_3 23 rfl rfl
theorem dksX6_init_5 : cX6_init.data.toList.drop 118 = dktX6_init_5 := dk_seg dksX6_init_4 24 rfl rfl
theorem dksX6_init_6 : cX6_init.data.toList.drop 142 = dktX6_init_6 := dk_seg dksX6_init_5 24 rfl rfl
theorem dksX6_init_7 : cX6_init.data.toList.drop 165 = dktX6_init_7 := dk_seg dksX6_init_6 23 rfl rfl
theorem dksX6_init_8 : cX6_init.data.toList.drop 189 = dktX6_init_8 := dk_seg dksX6_init_7 24 rfl rfl
theorem dksX6_init_9 : cX6_init.data.toList.drop 213 = dktX6_init_9 := dk_seg dksX6_init_8 24 rfl rfl
theorem dksX6_init_10 : cX6_init.data.toList.drop 237 = dktX6_init_10 := dk_seg dksX6_init_9 24 rfl rfl
theorem dksX6_init_11 : cX6_init.data.toList.drop 261 = dktX6_init_11 := dk_seg dksX6_init_10 24 rfl rfl
theorem dksX6_init_12 : cX6_init.data.toList.drop 284 = dktX6_init_12 := dk_seg dksX6_init_11 23 rfl rfl
theorem dksX6_init_13 : cX6_init.data.toList.drop 307 = dktX6_init_13 := dk_seg dksX6_init_12 23 rfl rfl
theorem dX6_init_0 : decode cX6_init 0 = .ok (.aload_n 0, 1) := dk_42 (dk_at dksX6_init_0 0 rfl rfl)
theorem dX6_init_1 : decode cX6_init 1 = .ok (.invokespecial 1, 3) := dk_183 0 1 (dk_at dksX6_init_0 1 rfl rfl)
theorem dX6_init_4 : decode cX6_init 4 = .ok (.aload_n 0, 1) := dk_42 (dk_at dksX6_init_0 4 rfl rfl)
theorem dX6_init_5 : decode cX6_init 5 = .ok (.sipush 4653, 3) := dk_17 18 45 (dk_at dksX6_init_0 5 rfl rfl)
theorem dX6_init_8 : decode cX6_init 8 = .ok (.newarray .int, 2) := dk_188_10 (dk_at dksX6_init_0 8 rfl rfl)
theorem dX6_init_10 : decode cX6_init 10 = .ok (.putfield 7, 3) := dk_181 0 7 (dk_at dksX6_init_0 10 rfl rfl)
theorem dX6_init_13 : decode cX6_init 13 = .ok (.aload_n 0, 1) := dk_42 (dk_at dksX6_init_0 13 rfl rfl)
theorem dX6_init_14 : decode cX6_init 14 = .ok (.sipush 18612, 3) := dk_17 72 180 (dk_at dksX6_init_0 14 rfl rfl)
theorem dX6_init_17 : decode cX6_init 17 = .ok (.newarray .int, 2) := dk_188_10 (dk_at dksX6_init_0 17 rfl rfl)
theorem dX6_init_19 : decode cX6_init 19 = .ok (.putfield 13, 3) := dk_181 0 13 (dk_at dksX6_init_0 19 rfl rfl)
theorem dX6_init_22 : decode cX6_init 22 = .ok (.aload_n 0, 1) := dk_42 (dk_at dksX6_init_0 22 rfl rfl)
theorem dX6_init_23 : decode cX6_init 23 = .ok (.sipush 4653, 3) := dk_17 18 45 (dk_at dksX6_init_1 0 rfl rfl)
theorem dX6_init_26 : decode cX6_init 26 = .ok (.newarray .int, 2) := dk_188_10 (dk_at dksX6_init_1 3 rfl rfl)
theorem dX6_init_28 : decode cX6_init 28 = .ok (.putfield 16, 3) := dk_181 0 16 (dk_at dksX6_init_1 5 rfl rfl)
theorem dX6_init_31 : decode cX6_init 31 = .ok (.aload_n 0, 1) := dk_42 (dk_at dksX6_init_1 8 rfl rfl)
theorem dX6_init_32 : decode cX6_init 32 = .ok (.bipush 64, 2) := dk_16 64 (dk_at dksX6_init_1 9 rfl rfl)
theorem dX6_init_34 : decode cX6_init 34 = .ok (.newarray .int, 2) := dk_188_10 (dk_at dksX6_init_1 11 rfl rfl)
theorem dX6_init_36 : decode cX6_init 36 = .ok (.putfield 19, 3) := dk_181 0 19 (dk_at dksX6_init_1 13 rfl rfl)
theorem dX6_init_39 : decode cX6_init 39 = .ok (.aload_n 0, 1) := dk_42 (dk_at dksX6_init_1 16 rfl rfl)
theorem dX6_init_40 : decode cX6_init 40 = .ok (.bipush 12, 2) := dk_16 12 (dk_at dksX6_init_1 17 rfl rfl)
theorem dX6_init_42 : decode cX6_init 42 = .ok (.newarray .int, 2) := dk_188_10 (dk_at dksX6_init_1 19 rfl rfl)
theorem dX6_init_44 : decode cX6_init 44 = .ok (.putfield 22, 3) := dk_181 0 22 (dk_at dksX6_init_1 21 rfl rfl)
theorem dX6_init_47 : decode cX6_init 47 = .ok (.aload_n 0, 1) := dk_42 (dk_at dksX6_init_2 0 rfl rfl)
theorem dX6_init_48 : decode cX6_init 48 = .ok (.bipush 12, 2) := dk_16 12 (dk_at dksX6_init_2 1 rfl rfl)
theorem dX6_init_50 : decode cX6_init 50 = .ok (.newarray .int, 2) := dk_188_10 (dk_at dksX6_init_2 3 rfl rfl)
theorem dX6_init_52 : decode cX6_init 52 = .ok (.putfield 25, 3) := dk_181 0 25 (dk_at dksX6_init_2 5 rfl rfl)
theorem dX6_init_55 : decode cX6_init 55 = .ok (.aload_n 0, 1) := dk_42 (dk_at dksX6_init_2 8 rfl rfl)
theorem dX6_init_56 : decode cX6_init 56 = .ok (.bipush 12, 2) := dk_16 12 (dk_at dksX6_init_2 9 rfl rfl)
theorem dX6_init_58 : decode cX6_init 58 = .ok (.newarray .int, 2) := dk_188_10 (dk_at dksX6_init_2 11 rfl rfl)
theorem dX6_init_60 : decode cX6_init 60 = .ok (.putfield 28, 3) := dk_181 0 28 (dk_at dksX6_init_2 13 rfl rfl)
theorem dX6_init_63 : decode cX6_init 63 = .ok (.aload_n 0, 1) := dk_42 (dk_at dksX6_init_2 16 rfl rfl)
theorem dX6_init_64 : decode cX6_init 64 = .ok (.bipush 24, 2) := dk_16 24 (dk_at dksX6_init_2 17 rfl rfl)
theorem dX6_init_66 : decode cX6_init 66 = .ok (.newarray .int, 2) := dk_188_10 (dk_at dksX6_init_2 19 rfl rfl)
theorem dX6_init_68 : decode cX6_init 68 = .ok (.putfield 31, 3) := dk_181 0 31 (dk_at dksX6_init_2 21 rfl rfl)
theorem dX6_init_71 : decode cX6_init 71 = .ok (.aload_n 0, 1) := dk_42 (dk_at dksX6_init_3 0 rfl rfl)
theorem dX6_init_72 : decode cX6_init 72 = .ok (.bipush 120, 2) := dk_16 120 (dk_at dksX6_init_3 1 rfl rfl)
theorem dX6_init_74 : decode cX6_init 74 = .ok (.newarray .int, 2) := dk_188_10 (dk_at dksX6_init_3 3 rfl rfl)
theorem dX6_init_76 : decode cX6_init 76 = .ok (.putfield 34, 3) := dk_181 0 34 (dk_at dksX6_init_3 5 rfl rfl)
theorem dX6_init_79 : decode cX6_init 79 = .ok (.aload_n 0, 1) := dk_42 (dk_at dksX6_init_3 8 rfl rfl)
theorem dX6_init_80 : decode cX6_init 80 = .ok (.sipush 144, 3) := dk_17 0 144 (dk_at dksX6_init_3 9 rfl rfl)
theorem dX6_init_83 : decode cX6_init 83 = .ok (.newarray .int, 2) := dk_188_10 (dk_at dksX6_init_3 12 rfl rfl)
theorem dX6_init_85 : decode cX6_init 85 = .ok (.putfield 37, 3) := dk_181 0 37 (dk_at dksX6_init_3 14 rfl rfl)
theorem dX6_init_88 : decode cX6_init 88 = .ok (.aload_n 0, 1) := dk_42 (dk_at dksX6_init_3 17 rfl rfl)
theorem dX6_init_89 : decode cX6_init 89 = .ok (.sipush 144, 3) := dk_17 0 144 (dk_at dksX6_init_3 18 rfl rfl)
theorem dX6_init_92 : decode cX6_init 92 = .ok (.newarray .long, 2) := dk_188_11 (dk_at dksX6_init_3 21 rfl rfl)
theorem dX6_init_94 : decode cX6_init 94 = .ok (.putfield 40, 3) := dk_181 0 40 (dk_at dksX6_init_4 0 rfl rfl)
theorem dX6_init_97 : decode cX6_init 97 = .ok (.aload_n 0, 1) := dk_42 (dk_at dksX6_init_4 3 rfl rfl)
theorem dX6_init_98 : decode cX6_init 98 = .ok (.sipush 144, 3) := dk_17 0 144 (dk_at dksX6_init_4 4 rfl rfl)
theorem dX6_init_101 : decode cX6_init 101 = .ok (.newarray .int, 2) := dk_188_10 (dk_at dksX6_init_4 7 rfl rfl)
theorem dX6_init_103 : decode cX6_init 103 = .ok (.putfield 44, 3) := dk_181 0 44 (dk_at dksX6_init_4 9 rfl rfl)
theorem dX6_init_106 : decode cX6_init 106 = .ok (.aload_n 0, 1) := dk_42 (dk_at dksX6_init_4 12 rfl rfl)
theorem dX6_init_107 : decode cX6_init 107 = .ok (.sipush 17280, 3) := dk_17 67 128 (dk_at dksX6_init_4 13 rfl rfl)
theorem dX6_init_110 : decode cX6_init 110 = .ok (.newarray .boolean, 2) := dk_188_4 (dk_at dksX6_init_4 16 rfl rfl)
theorem dX6_init_112 : decode cX6_init 112 = .ok (.putfield 47, 3) := dk_181 0 47 (dk_at dksX6_init_4 18 rfl rfl)
theorem dX6_init_115 : decode cX6_init 115 = .ok (.aload_n 0, 1) := dk_42 (dk_at dksX6_init_4 21 rfl rfl)
theorem dX6_init_116 : decode cX6_init 116 = .ok (.bipush 120, 2) := dk_16 120 (dk_at dksX6_init_4 22 rfl rfl)
theorem dX6_init_118 : decode cX6_init 118 = .ok (.newarray .boolean, 2) := dk_188_4 (dk_at dksX6_init_5 0 rfl rfl)
theorem dX6_init_120 : decode cX6_init 120 = .ok (.putfield 51, 3) := dk_181 0 51 (dk_at dksX6_init_5 2 rfl rfl)
theorem dX6_init_123 : decode cX6_init 123 = .ok (.aload_n 0, 1) := dk_42 (dk_at dksX6_init_5 5 rfl rfl)
theorem dX6_init_124 : decode cX6_init 124 = .ok (.bipush 120, 2) := dk_16 120 (dk_at dksX6_init_5 6 rfl rfl)
theorem dX6_init_126 : decode cX6_init 126 = .ok (.newarray .boolean, 2) := dk_188_4 (dk_at dksX6_init_5 8 rfl rfl)
theorem dX6_init_128 : decode cX6_init 128 = .ok (.putfield 54, 3) := dk_181 0 54 (dk_at dksX6_init_5 10 rfl rfl)
theorem dX6_init_131 : decode cX6_init 131 = .ok (.aload_n 0, 1) := dk_42 (dk_at dksX6_init_5 13 rfl rfl)
theorem dX6_init_132 : decode cX6_init 132 = .ok (.bipush 120, 2) := dk_16 120 (dk_at dksX6_init_5 14 rfl rfl)
theorem dX6_init_134 : decode cX6_init 134 = .ok (.newarray .boolean, 2) := dk_188_4 (dk_at dksX6_init_5 16 rfl rfl)
theorem dX6_init_136 : decode cX6_init 136 = .ok (.putfield 57, 3) := dk_181 0 57 (dk_at dksX6_init_5 18 rfl rfl)
theorem dX6_init_139 : decode cX6_init 139 = .ok (.aload_n 0, 1) := dk_42 (dk_at dksX6_init_5 21 rfl rfl)
theorem dX6_init_140 : decode cX6_init 140 = .ok (.bipush 121, 2) := dk_16 121 (dk_at dksX6_init_5 22 rfl rfl)
theorem dX6_init_142 : decode cX6_init 142 = .ok (.newarray .int, 2) := dk_188_10 (dk_at dksX6_init_6 0 rfl rfl)
theorem dX6_init_144 : decode cX6_init 144 = .ok (.putfield 60, 3) := dk_181 0 60 (dk_at dksX6_init_6 2 rfl rfl)
theorem dX6_init_147 : decode cX6_init 147 = .ok (.aload_n 0, 1) := dk_42 (dk_at dksX6_init_6 5 rfl rfl)
theorem dX6_init_148 : decode cX6_init 148 = .ok (.bipush 120, 2) := dk_16 120 (dk_at dksX6_init_6 6 rfl rfl)
theorem dX6_init_150 : decode cX6_init 150 = .ok (.newarray .int, 2) := dk_188_10 (dk_at dksX6_init_6 8 rfl rfl)
theorem dX6_init_152 : decode cX6_init 152 = .ok (.putfield 63, 3) := dk_181 0 63 (dk_at dksX6_init_6 10 rfl rfl)
theorem dX6_init_155 : decode cX6_init 155 = .ok (.aload_n 0, 1) := dk_42 (dk_at dksX6_init_6 13 rfl rfl)
theorem dX6_init_156 : decode cX6_init 156 = .ok (.sipush 604, 3) := dk_17 2 92 (dk_at dksX6_init_6 14 rfl rfl)
theorem dX6_init_159 : decode cX6_init 159 = .ok (.newarray .long, 2) := dk_188_11 (dk_at dksX6_init_6 17 rfl rfl)
theorem dX6_init_161 : decode cX6_init 161 = .ok (.putfield 66, 3) := dk_181 0 66 (dk_at dksX6_init_6 19 rfl rfl)
theorem dX6_init_164 : decode cX6_init 164 = .ok (.aload_n 0, 1) := dk_42 (dk_at dksX6_init_6 22 rfl rfl)
theorem dX6_init_165 : decode cX6_init 165 = .ok (.sipush 604, 3) := dk_17 2 92 (dk_at dksX6_init_7 0 rfl rfl)
theorem dX6_init_168 : decode cX6_init 168 = .ok (.newarray .long, 2) := dk_188_11 (dk_at dksX6_init_7 3 rfl rfl)
theorem dX6_init_170 : decode cX6_init 170 = .ok (.putfield 69, 3) := dk_181 0 69 (dk_at dksX6_init_7 5 rfl rfl)
theorem dX6_init_173 : decode cX6_init 173 = .ok (.iconst 0, 1) := dk_3 (dk_at dksX6_init_7 8 rfl rfl)
theorem dX6_init_174 : decode cX6_init 174 = .ok (.istore_n 1, 1) := dk_60 (dk_at dksX6_init_7 9 rfl rfl)
theorem dX6_init_175 : decode cX6_init 175 = .ok (.iload_n 1, 1) := dk_27 (dk_at dksX6_init_7 10 rfl rfl)
theorem dX6_init_176 : decode cX6_init 176 = .ok (.iconst 3, 1) := dk_6 (dk_at dksX6_init_7 11 rfl rfl)
theorem dX6_init_177 : decode cX6_init 177 = .ok (.if_icmp .ge 142, 3) := dk_162 0 142 (dk_at dksX6_init_7 12 rfl rfl)
theorem dX6_init_180 : decode cX6_init 180 = .ok (.iconst 0, 1) := dk_3 (dk_at dksX6_init_7 15 rfl rfl)
theorem dX6_init_181 : decode cX6_init 181 = .ok (.istore_n 2, 1) := dk_61 (dk_at dksX6_init_7 16 rfl rfl)
theorem dX6_init_182 : decode cX6_init 182 = .ok (.iload_n 2, 1) := dk_28 (dk_at dksX6_init_7 17 rfl rfl)
theorem dX6_init_183 : decode cX6_init 183 = .ok (.bipush 24, 2) := dk_16 24 (dk_at dksX6_init_7 18 rfl rfl)
theorem dX6_init_185 : decode cX6_init 185 = .ok (.if_icmp .ge 93, 3) := dk_162 0 93 (dk_at dksX6_init_7 20 rfl rfl)
theorem dX6_init_188 : decode cX6_init 188 = .ok (.iload_n 1, 1) := dk_27 (dk_at dksX6_init_7 23 rfl rfl)
theorem dX6_init_189 : decode cX6_init 189 = .ok (.iload_n 2, 1) := dk_28 (dk_at dksX6_init_8 0 rfl rfl)
theorem dX6_init_190 : decode cX6_init 190 = .ok (.invokestatic 72, 3) := dk_184 0 72 (dk_at dksX6_init_8 1 rfl rfl)
theorem dX6_init_193 : decode cX6_init 193 = .ok (.istore_n 3, 1) := dk_62 (dk_at dksX6_init_8 4 rfl rfl)
theorem dX6_init_194 : decode cX6_init 194 = .ok (.iload_n 2, 1) := dk_28 (dk_at dksX6_init_8 5 rfl rfl)
theorem dX6_init_195 : decode cX6_init 195 = .ok (.bipush 12, 2) := dk_16 12 (dk_at dksX6_init_8 6 rfl rfl)
theorem dX6_init_197 : decode cX6_init 197 = .ok (.irem, 1) := dk_112 (dk_at dksX6_init_8 8 rfl rfl)
theorem dX6_init_198 : decode cX6_init 198 = .ok (.iconst 3, 1) := dk_6 (dk_at dksX6_init_8 9 rfl rfl)
theorem dX6_init_199 : decode cX6_init 199 = .ok (.if_icmp .ge 7, 3) := dk_162 0 7 (dk_at dksX6_init_8 10 rfl rfl)
theorem dX6_init_202 : decode cX6_init 202 = .ok (.iconst 1, 1) := dk_4 (dk_at dksX6_init_8 13 rfl rfl)
theorem dX6_init_203 : decode cX6_init 203 = .ok (.goto 4, 3) := dk_167 0 4 (dk_at dksX6_init_8 14 rfl rfl)
theorem dX6_init_206 : decode cX6_init 206 = .ok (.iconst 0, 1) := dk_3 (dk_at dksX6_init_8 17 rfl rfl)
theorem dX6_init_207 : decode cX6_init 207 = .ok (.istore 4, 2) := dk_54 4 (dk_at dksX6_init_8 18 rfl rfl)
theorem dX6_init_209 : decode cX6_init 209 = .ok (.aload_n 0, 1) := dk_42 (dk_at dksX6_init_8 20 rfl rfl)
theorem dX6_init_210 : decode cX6_init 210 = .ok (.getfield 7, 3) := dk_180 0 7 (dk_at dksX6_init_8 21 rfl rfl)
theorem dX6_init_213 : decode cX6_init 213 = .ok (.iload_n 3, 1) := dk_29 (dk_at dksX6_init_9 0 rfl rfl)
theorem dX6_init_214 : decode cX6_init 214 = .ok (.iconst 0, 1) := dk_3 (dk_at dksX6_init_9 1 rfl rfl)
theorem dX6_init_215 : decode cX6_init 215 = .ok (.iadd, 1) := dk_96 (dk_at dksX6_init_9 2 rfl rfl)
theorem dX6_init_216 : decode cX6_init 216 = .ok (.iload 4, 2) := dk_21 4 (dk_at dksX6_init_9 3 rfl rfl)
theorem dX6_init_218 : decode cX6_init 218 = .ok (.ifCond .eq 16, 3) := dk_153 0 16 (dk_at dksX6_init_9 5 rfl rfl)
theorem dX6_init_221 : decode cX6_init 221 = .ok (.sipush 1000, 3) := dk_17 3 232 (dk_at dksX6_init_9 8 rfl rfl)
theorem dX6_init_224 : decode cX6_init 224 = .ok (.iload_n 2, 1) := dk_28 (dk_at dksX6_init_9 11 rfl rfl)
theorem dX6_init_225 : decode cX6_init 225 = .ok (.bipush 12, 2) := dk_16 12 (dk_at dksX6_init_9 12 rfl rfl)
theorem dX6_init_227 : decode cX6_init 227 = .ok (.irem, 1) := dk_112 (dk_at dksX6_init_9 14 rfl rfl)
theorem dX6_init_228 : decode cX6_init 228 = .ok (.iconst 1, 1) := dk_4 (dk_at dksX6_init_9 15 rfl rfl)
theorem dX6_init_229 : decode cX6_init 229 = .ok (.iadd, 1) := dk_96 (dk_at dksX6_init_9 16 rfl rfl)
theorem dX6_init_230 : decode cX6_init 230 = .ok (.imul, 1) := dk_104 (dk_at dksX6_init_9 17 rfl rfl)
theorem dX6_init_231 : decode cX6_init 231 = .ok (.goto 4, 3) := dk_167 0 4 (dk_at dksX6_init_9 18 rfl rfl)
theorem dX6_init_234 : decode cX6_init 234 = .ok (.iconst (-1), 1) := dk_2 (dk_at dksX6_init_9 21 rfl rfl)
theorem dX6_init_235 : decode cX6_init 235 = .ok (.iastore, 1) := dk_79 (dk_at dksX6_init_9 22 rfl rfl)
theorem dX6_init_236 : decode cX6_init 236 = .ok (.aload_n 0, 1) := dk_42 (dk_at dksX6_init_9 23 rfl rfl)
theorem dX6_init_237 : decode cX6_init 237 = .ok (.getfield 7, 3) := dk_180 0 7 (dk_at dksX6_init_10 0 rfl rfl)
theorem dX6_init_240 : decode cX6_init 240 = .ok (.iload_n 3, 1) := dk_29 (dk_at dksX6_init_10 3 rfl rfl)
theorem dX6_init_241 : decode cX6_init 241 = .ok (.iconst 1, 1) := dk_4 (dk_at dksX6_init_10 4 rfl rfl)
theorem dX6_init_242 : decode cX6_init 242 = .ok (.iadd, 1) := dk_96 (dk_at dksX6_init_10 5 rfl rfl)
theorem dX6_init_243 : decode cX6_init 243 = .ok (.iload 4, 2) := dk_21 4 (dk_at dksX6_init_10 6 rfl rfl)
theorem dX6_init_245 : decode cX6_init 245 = .ok (.ifCond .eq 7, 3) := dk_153 0 7 (dk_at dksX6_init_10 8 rfl rfl)
theorem dX6_init_248 : decode cX6_init 248 = .ok (.iconst 0, 1) := dk_3 (dk_at dksX6_init_10 11 rfl rfl)
theorem dX6_init_249 : decode cX6_init 249 = .ok (.goto 4, 3) := dk_167 0 4 (dk_at dksX6_init_10 12 rfl rfl)
theorem dX6_init_252 : decode cX6_init 252 = .ok (.iconst (-1), 1) := dk_2 (dk_at dksX6_init_10 15 rfl rfl)
theorem dX6_init_253 : decode cX6_init 253 = .ok (.iastore, 1) := dk_79 (dk_at dksX6_init_10 16 rfl rfl)
theorem dX6_init_254 : decode cX6_init 254 = .ok (.aload_n 0, 1) := dk_42 (dk_at dksX6_init_10 17 rfl rfl)
theorem dX6_init_255 : decode cX6_init 255 = .ok (.getfield 7, 3) := dk_180 0 7 (dk_at dksX6_init_10 18 rfl rfl)
theorem dX6_init_258 : decode cX6_init 258 = .ok (.iload_n 3, 1) := dk_29 (dk_at dksX6_init_10 21 rfl rfl)
theorem dX6_init_259 : decode cX6_init 259 = .ok (.iconst 3, 1) := dk_6 (dk_at dksX6_init_10 22 rfl rfl)
theorem dX6_init_260 : decode cX6_init 260 = .ok (.iadd, 1) := dk_96 (dk_at dksX6_init_10 23 rfl rfl)
theorem dX6_init_261 : decode cX6_init 261 = .ok (.iload 4, 2) := dk_21 4 (dk_at dksX6_init_11 0 rfl rfl)
theorem dX6_init_263 : decode cX6_init 263 = .ok (.ifCond .eq 7, 3) := dk_153 0 7 (dk_at dksX6_init_11 2 rfl rfl)
theorem dX6_init_266 : decode cX6_init 266 = .ok (.iconst 1, 1) := dk_4 (dk_at dksX6_init_11 5 rfl rfl)
theorem dX6_init_267 : decode cX6_init 267 = .ok (.goto 4, 3) := dk_167 0 4 (dk_at dksX6_init_11 6 rfl rfl)
theorem dX6_init_270 : decode cX6_init 270 = .ok (.iconst 0, 1) := dk_3 (dk_at dksX6_init_11 9 rfl rfl)
theorem dX6_init_271 : decode cX6_init 271 = .ok (.iastore, 1) := dk_79 (dk_at dksX6_init_11 10 rfl rfl)
theorem dX6_init_272 : decode cX6_init 272 = .ok (.iinc 2 1, 3) := dk_132 2 1 (dk_at dksX6_init_11 11 rfl rfl)
theorem dX6_init_275 : decode cX6_init 275 = .ok (.goto (-93), 3) := dk_167 255 163 (dk_at dksX6_init_11 14 rfl rfl)
theorem dX6_init_278 : decode cX6_init 278 = .ok (.iconst 0, 1) := dk_3 (dk_at dksX6_init_11 17 rfl rfl)
theorem dX6_init_279 : decode cX6_init 279 = .ok (.istore_n 2, 1) := dk_61 (dk_at dksX6_init_11 18 rfl rfl)
theorem dX6_init_280 : decode cX6_init 280 = .ok (.iload_n 2, 1) := dk_28 (dk_at dksX6_init_11 19 rfl rfl)
theorem dX6_init_281 : decode cX6_init 281 = .ok (.sipush 144, 3) := dk_17 0 144 (dk_at dksX6_init_11 20 rfl rfl)
theorem dX6_init_284 : decode cX6_init 284 = .ok (.if_icmp .ge 29, 3) := dk_162 0 29 (dk_at dksX6_init_12 0 rfl rfl)
theorem dX6_init_287 : decode cX6_init 287 = .ok (.aload_n 0, 1) := dk_42 (dk_at dksX6_init_12 3 rfl rfl)
theorem dX6_init_288 : decode cX6_init 288 = .ok (.getfield 7, 3) := dk_180 0 7 (dk_at dksX6_init_12 4 rfl rfl)
theorem dX6_init_291 : decode cX6_init 291 = .ok (.sipush 3843, 3) := dk_17 15 3 (dk_at dksX6_init_12 7 rfl rfl)
theorem dX6_init_294 : decode cX6_init 294 = .ok (.sipush 270, 3) := dk_17 1 14 (dk_at dksX6_init_12 10 rfl rfl)
theorem dX6_init_297 : decode cX6_init 297 = .ok (.iload_n 1, 1) := dk_27 (dk_at dksX6_init_12 13 rfl rfl)
theorem dX6_init_298 : decode cX6_init 298 = .ok (.imul, 1) := dk_104 (dk_at dksX6_init_12 14 rfl rfl)
theorem dX6_init_299 : decode cX6_init 299 = .ok (.iadd, 1) := dk_96 (dk_at dksX6_init_12 15 rfl rfl)
theorem dX6_init_300 : decode cX6_init 300 = .ok (.bipush 126, 2) := dk_16 126 (dk_at dksX6_init_12 16 rfl rfl)
theorem dX6_init_302 : decode cX6_init 302 = .ok (.iadd, 1) := dk_96 (dk_at dksX6_init_12 18 rfl rfl)
theorem dX6_init_303 : decode cX6_init 303 = .ok (.iload_n 2, 1) := dk_28 (dk_at dksX6_init_12 19 rfl rfl)
theorem dX6_init_304 : decode cX6_init 304 = .ok (.iadd, 1) := dk_96 (dk_at dksX6_init_12 20 rfl rfl)
theorem dX6_init_305 : decode cX6_init 305 = .ok (.iconst (-1), 1) := dk_2 (dk_at dksX6_init_12 21 rfl rfl)
theorem dX6_init_306 : decode cX6_init 306 = .ok (.iastore, 1) := dk_79 (dk_at dksX6_init_12 22 rfl rfl)
theorem dX6_init_307 : decode cX6_init 307 = .ok (.iinc 2 1, 3) := dk_132 2 1 (dk_at dksX6_init_13 0 rfl rfl)
theorem dX6_init_310 : decode cX6_init 310 = .ok (.goto (-30), 3) := dk_167 255 226 (dk_at dksX6_init_13 3 rfl rfl)
theorem dX6_init_313 : decode cX6_init 313 = .ok (.iinc 1 1, 3) := dk_132 1 1 (dk_at dksX6_init_13 6 rfl rfl)
theorem dX6_init_316 : decode cX6_init 316 = .ok (.goto (-141), 3) := dk_167 255 115 (dk_at dksX6_init_13 9 rfl rfl)
theorem dX6_init_319 : decode cX6_init 319 = .ok (.return_, 1) := dk_177 (dk_at dksX6_init_13 12 rfl rfl)
abbrev cX6_lineAt : ByteArray := prog_15_method_9_code
def yX6_lineAt : MethodName := ⟨RX6, "lineAt", "(II)I"⟩
def dkwX6_lineAt_0 : List UInt8 := [17, 15, 3, 17, 1, 14, 26, 104, 96, 16, 6, 96, 8, 27, 104, 96, 172]
abbrev dktX6_lineAt_0 : List UInt8 := dkwX6_lineAt_0 ++ []
theorem dksX6_lineAt_0 : cX6_lineAt.data.toList.drop 0 = dktX6_lineAt_0 := by decide +kernel
theorem dX6_lineAt_0 : decode cX6_lineAt 0 = .ok (.sipush 3843, 3) := dk_17 15 3 (dk_at dksX6_lineAt_0 0 rfl rfl)
theorem dX6_lineAt_3 : decode cX6_lineAt 3 = .ok (.sipush 270, 3) := dk_17 1 14 (dk_at dksX6_lineAt_0 3 rfl rfl)
theorem dX6_lineAt_6 : decode cX6_lineAt 6 = .ok (.iload_n 0, 1) := dk_26 (dk_at dksX6_lineAt_0 6 rfl rfl)
theorem dX6_lineAt_7 : decode cX6_lineAt 7 = .ok (.imul, 1) := dk_104 (dk_at dksX6_lineAt_0 7 rfl rfl)
theorem dX6_lineAt_8 : decode cX6_lineAt 8 = .ok (.iadd, 1) := dk_96 (dk_at dksX6_lineAt_0 8 rfl rfl)
theorem dX6_lineAt_9 : decode cX6_lineAt 9 = .ok (.bipush 6, 2) := dk_16 6 (dk_at dksX6_lineAt_0 9 rfl rfl)
theorem dX6_lineAt_11 : decode cX6_lineAt 11 = .ok (.iadd, 1) := dk_96 (dk_at dksX6_lineAt_0 11 rfl rfl)
theorem dX6_lineAt_12 : decode cX6_lineAt 12 = .ok (.iconst 5, 1) := dk_8 (dk_at dksX6_lineAt_0 12 rfl rfl)
theorem dX6_lineAt_13 : decode cX6_lineAt 13 = .ok (.iload_n 1, 1) := dk_27 (dk_at dksX6_lineAt_0 13 rfl rfl)
theorem dX6_lineAt_14 : decode cX6_lineAt 14 = .ok (.imul, 1) := dk_104 (dk_at dksX6_lineAt_0 14 rfl rfl)
theorem dX6_lineAt_15 : decode cX6_lineAt 15 = .ok (.iadd, 1) := dk_96 (dk_at dksX6_lineAt_0 15 rfl rfl)
theorem dX6_lineAt_16 : decode cX6_lineAt 16 = .ok (.ireturn, 1) := dk_172 (dk_at dksX6_lineAt_0 16 rfl rfl)
abbrev cX6_thrown : ByteArray := prog_15_method_2_code
def yX6_thrown : MethodName := ⟨RX6, "thrown", "()I"⟩
theorem dX6_thrown_0 : decode cX6_thrown 0 = .ok (.aload_n 0, 1) := by decide +kernel
theorem dX6_thrown_1 : decode cX6_thrown 1 = .ok (.getfield 76, 3) := by decide +kernel
theorem dX6_thrown_4 : decode cX6_thrown 4 = .ok (.ireturn, 1) := by decide +kernel
abbrev cX6_make : ByteArray := prog_15_method_23_code
def yX6_make : MethodName := ⟨RX6, "make", "(IZI)I"⟩
def dkwX6_make_6 : List UInt8 := [182, 0, 148, 172]
abbrev dktX6_make_6 : List UInt8 := dkwX6_make_6 ++ []
def dkwX6_make_5 : List UInt8 := [104, 96, 21, 7, 96, 54, 8, 42, 27, 4, 21, 4, 21, 8, 21, 6, 182, 0, 144, 42, 21, 8]
abbrev dktX6_make_5 : List UInt8 := dkwX6_make_5 ++ dktX6_make_6
def dkwX6_make_4 : List UInt8 := [182, 0, 131, 172, 42, 182, 0, 141, 42, 27, 7, 21, 4, 96, 21, 7, 4, 96, 182, 0, 115, 6, 6, 27]
abbrev dktX6_make_4 : List UInt8 := dkwX6_make_4 ++ dktX6_make_5
def dkwX6_make_3 : List UInt8 := [21, 7, 6, 159, 0, 17, 21, 6, 2, 159, 0, 11, 42, 27, 182, 0, 138, 153, 0, 9, 42, 5]
abbrev dktX6_make_3 : List UInt8 := dkwX6_make_3 ++ dktX6_make_4
def dkwX6_make_2 : List UInt8 := [172, 42, 27, 21, 4, 21, 5, 29, 182, 0, 134, 54, 6, 42, 27, 7, 21, 4, 96, 182, 0, 108, 54, 7]
abbrev dktX6_make_2 : List UInt8 := dkwX6_make_2 ++ dktX6_make_3
def dkwX6_make_1 : List UInt8 := [42, 180, 0, 28, 182, 0, 95, 54, 5, 29, 3, 21, 5, 184, 0, 87, 154, 0, 9, 42, 4, 182, 0, 131]
abbrev dktX6_make_1 : List UInt8 := dkwX6_make_1 ++ dktX6_make_2
def dkwX6_make_0 : List UInt8 := [28, 184, 0, 123, 54, 4, 27, 184, 0, 127, 154, 0, 9, 42, 4, 182, 0, 131, 172, 42, 27, 21, 4, 2]
abbrev dktX6_make_0 : List UInt8 := dkwX6_make_0 ++ dktX6_make_1
theorem dksX6_make_0 : cX6_make.data.toList.drop 0 = dktX6_make_0 := by decide +kernel
theorem dksX6_make_1 : cX6_make.data.toList.drop 24 = dktX6_make_1 := dk_seg dksX6_make_0 24 rfl rfl
theorem dksX6_make_2 : cX6_make.data.toList.drop 48 = dktX6_make_2 := dk_seg dksX6_make_1 24 rfl rfl
theorem dksX6_make_3 : cX6_make.data.toList.drop 72 = dktX6_make_3 := dk_seg dksX6_make_2 24 rfl rfl
theorem dksX6_make_4 : cX6_make.data.toList.drop 94 = dktX6_make_4 := dk_seg dksX6_make_3 22 rfl rfl
theorem dksX6_make_5 : cX6_make.data.toList.drop 118 = dktX6_make_5 := dk_seg dksX6_make_4 24 rfl rfl
theorem dksX6_make_6 : cX6_make.data.toList.drop 140 = dktX6_make_6 := dk_seg dksX6_make_5 22 rfl rfl
theorem dX6_make_0 : decode cX6_make 0 = .ok (.iload_n 2, 1) := dk_28 (dk_at dksX6_make_0 0 rfl rfl)
theorem dX6_make_1 : decode cX6_make 1 = .ok (.invokestatic 123, 3) := dk_184 0 123 (dk_at dksX6_make_0 1 rfl rfl)
theorem dX6_make_4 : decode cX6_make 4 = .ok (.istore 4, 2) := dk_54 4 (dk_at dksX6_make_0 4 rfl rfl)
theorem dX6_make_6 : decode cX6_make 6 = .ok (.iload_n 1, 1) := dk_27 (dk_at dksX6_make_0 6 rfl rfl)
theorem dX6_make_7 : decode cX6_make 7 = .ok (.invokestatic 127, 3) := dk_184 0 127 (dk_at dksX6_make_0 7 rfl rfl)
theorem dX6_make_10 : decode cX6_make 10 = .ok (.ifCond .ne 9, 3) := dk_154 0 9 (dk_at dksX6_make_0 10 rfl rfl)
theorem dX6_make_13 : decode cX6_make 13 = .ok (.aload_n 0, 1) := dk_42 (dk_at dksX6_make_0 13 rfl rfl)
theorem dX6_make_14 : decode cX6_make 14 = .ok (.iconst 1, 1) := dk_4 (dk_at dksX6_make_0 14 rfl rfl)
theorem dX6_make_15 : decode cX6_make 15 = .ok (.invokevirtual 131, 3) := dk_182 0 131 (dk_at dksX6_make_0 15 rfl rfl)
theorem dX6_make_18 : decode cX6_make 18 = .ok (.ireturn, 1) := dk_172 (dk_at dksX6_make_0 18 rfl rfl)
theorem dX6_make_19 : decode cX6_make 19 = .ok (.aload_n 0, 1) := dk_42 (dk_at dksX6_make_0 19 rfl rfl)
theorem dX6_make_20 : decode cX6_make 20 = .ok (.iload_n 1, 1) := dk_27 (dk_at dksX6_make_0 20 rfl rfl)
theorem dX6_make_21 : decode cX6_make 21 = .ok (.iload 4, 2) := dk_21 4 (dk_at dksX6_make_0 21 rfl rfl)
theorem dX6_make_23 : decode cX6_make 23 = .ok (.iconst (-1), 1) := dk_2 (dk_at dksX6_make_0 23 rfl rfl)
theorem dX6_make_24 : decode cX6_make 24 = .ok (.aload_n 0, 1) := dk_42 (dk_at dksX6_make_1 0 rfl rfl)
theorem dX6_make_25 : decode cX6_make 25 = .ok (.getfield 28, 3) := dk_180 0 28 (dk_at dksX6_make_1 1 rfl rfl)
theorem dX6_make_28 : decode cX6_make 28 = .ok (.invokevirtual 95, 3) := dk_182 0 95 (dk_at dksX6_make_1 4 rfl rfl)
theorem dX6_make_31 : decode cX6_make 31 = .ok (.istore 5, 2) := dk_54 5 (dk_at dksX6_make_1 7 rfl rfl)
theorem dX6_make_33 : decode cX6_make 33 = .ok (.iload_n 3, 1) := dk_29 (dk_at dksX6_make_1 9 rfl rfl)
theorem dX6_make_34 : decode cX6_make 34 = .ok (.iconst 0, 1) := dk_3 (dk_at dksX6_make_1 10 rfl rfl)
theorem dX6_make_35 : decode cX6_make 35 = .ok (.iload 5, 2) := dk_21 5 (dk_at dksX6_make_1 11 rfl rfl)
theorem dX6_make_37 : decode cX6_make 37 = .ok (.invokestatic 87, 3) := dk_184 0 87 (dk_at dksX6_make_1 13 rfl rfl)
theorem dX6_make_40 : decode cX6_make 40 = .ok (.ifCond .ne 9, 3) := dk_154 0 9 (dk_at dksX6_make_1 16 rfl rfl)
theorem dX6_make_43 : decode cX6_make 43 = .ok (.aload_n 0, 1) := dk_42 (dk_at dksX6_make_1 19 rfl rfl)
theorem dX6_make_44 : decode cX6_make 44 = .ok (.iconst 1, 1) := dk_4 (dk_at dksX6_make_1 20 rfl rfl)
theorem dX6_make_45 : decode cX6_make 45 = .ok (.invokevirtual 131, 3) := dk_182 0 131 (dk_at dksX6_make_1 21 rfl rfl)
theorem dX6_make_48 : decode cX6_make 48 = .ok (.ireturn, 1) := dk_172 (dk_at dksX6_make_2 0 rfl rfl)
theorem dX6_make_49 : decode cX6_make 49 = .ok (.aload_n 0, 1) := dk_42 (dk_at dksX6_make_2 1 rfl rfl)
theorem dX6_make_50 : decode cX6_make 50 = .ok (.iload_n 1, 1) := dk_27 (dk_at dksX6_make_2 2 rfl rfl)
theorem dX6_make_51 : decode cX6_make 51 = .ok (.iload 4, 2) := dk_21 4 (dk_at dksX6_make_2 3 rfl rfl)
theorem dX6_make_53 : decode cX6_make 53 = .ok (.iload 5, 2) := dk_21 5 (dk_at dksX6_make_2 5 rfl rfl)
theorem dX6_make_55 : decode cX6_make 55 = .ok (.iload_n 3, 1) := dk_29 (dk_at dksX6_make_2 7 rfl rfl)
theorem dX6_make_56 : decode cX6_make 56 = .ok (.invokevirtual 134, 3) := dk_182 0 134 (dk_at dksX6_make_2 8 rfl rfl)
theorem dX6_make_59 : decode cX6_make 59 = .ok (.istore 6, 2) := dk_54 6 (dk_at dksX6_make_2 11 rfl rfl)
theorem dX6_make_61 : decode cX6_make 61 = .ok (.aload_n 0, 1) := dk_42 (dk_at dksX6_make_2 13 rfl rfl)
theorem dX6_make_62 : decode cX6_make 62 = .ok (.iload_n 1, 1) := dk_27 (dk_at dksX6_make_2 14 rfl rfl)
theorem dX6_make_63 : decode cX6_make 63 = .ok (.iconst 4, 1) := dk_7 (dk_at dksX6_make_2 15 rfl rfl)
theorem dX6_make_64 : decode cX6_make 64 = .ok (.iload 4, 2) := dk_21 4 (dk_at dksX6_make_2 16 rfl rfl)
theorem dX6_make_66 : decode cX6_make 66 = .ok (.iadd, 1) := dk_96 (dk_at dksX6_make_2 18 rfl rfl)
theorem dX6_make_67 : decode cX6_make 67 = .ok (.invokevirtual 108, 3) := dk_182 0 108 (dk_at dksX6_make_2 19 rfl rfl)
theorem dX6_make_70 : decode cX6_make 70 = .ok (.istore 7, 2) := dk_54 7 (dk_at dksX6_make_2 22 rfl rfl)
theorem dX6_make_72 : decode cX6_make 72 = .ok (.iload 7, 2) := dk_21 7 (dk_at dksX6_make_3 0 rfl rfl)
theorem dX6_make_74 : decode cX6_make 74 = .ok (.iconst 3, 1) := dk_6 (dk_at dksX6_make_3 2 rfl rfl)
theorem dX6_make_75 : decode cX6_make 75 = .ok (.if_icmp .eq 17, 3) := dk_159 0 17 (dk_at dksX6_make_3 3 rfl rfl)
theorem dX6_make_78 : decode cX6_make 78 = .ok (.iload 6, 2) := dk_21 6 (dk_at dksX6_make_3 6 rfl rfl)
theorem dX6_make_80 : decode cX6_make 80 = .ok (.iconst (-1), 1) := dk_2 (dk_at dksX6_make_3 8 rfl rfl)
theorem dX6_make_81 : decode cX6_make 81 = .ok (.if_icmp .eq 11, 3) := dk_159 0 11 (dk_at dksX6_make_3 9 rfl rfl)
theorem dX6_make_84 : decode cX6_make 84 = .ok (.aload_n 0, 1) := dk_42 (dk_at dksX6_make_3 12 rfl rfl)
theorem dX6_make_85 : decode cX6_make 85 = .ok (.iload_n 1, 1) := dk_27 (dk_at dksX6_make_3 13 rfl rfl)
theorem dX6_make_86 : decode cX6_make 86 = .ok (.invokevirtual 138, 3) := dk_182 0 138 (dk_at dksX6_make_3 14 rfl rfl)
theorem dX6_make_89 : decode cX6_make 89 = .ok (.ifCond .eq 9, 3) := dk_153 0 9 (dk_at dksX6_make_3 17 rfl rfl)
theorem dX6_make_92 : decode cX6_make 92 = .ok (.aload_n 0, 1) := dk_42 (dk_at dksX6_make_3 20 rfl rfl)
theorem dX6_make_93 : decode cX6_make 93 = .ok (.iconst 2, 1) := dk_5 (dk_at dksX6_make_3 21 rfl rfl)
theorem dX6_make_94 : decode cX6_make 94 = .ok (.invokevirtual 131, 3) := dk_182 0 131 (dk_at dksX6_make_4 0 rfl rfl)
theorem dX6_make_97 : decode cX6_make 97 = .ok (.ireturn, 1) := dk_172 (dk_at dksX6_make_4 3 rfl rfl)
theorem dX6_make_98 : decode cX6_make 98 = .ok (.aload_n 0, 1) := dk_42 (dk_at dksX6_make_4 4 rfl rfl)
theorem dX6_make_99 : decode cX6_make 99 = .ok (.invokevirtual 141, 3) := dk_182 0 141 (dk_at dksX6_make_4 5 rfl rfl)
theorem dX6_make_102 : decode cX6_make 102 = .ok (.aload_n 0, 1) := dk_42 (dk_at dksX6_make_4 8 rfl rfl)
theorem dX6_make_103 : decode cX6_make 103 = .ok (.iload_n 1, 1) := dk_27 (dk_at dksX6_make_4 9 rfl rfl)
theorem dX6_make_104 : decode cX6_make 104 = .ok (.iconst 4, 1) := dk_7 (dk_at dksX6_make_4 10 rfl rfl)
theorem dX6_make_105 : decode cX6_make 105 = .ok (.iload 4, 2) := dk_21 4 (dk_at dksX6_make_4 11 rfl rfl)
theorem dX6_make_107 : decode cX6_make 107 = .ok (.iadd, 1) := dk_96 (dk_at dksX6_make_4 13 rfl rfl)
theorem dX6_make_108 : decode cX6_make 108 = .ok (.iload 7, 2) := dk_21 7 (dk_at dksX6_make_4 14 rfl rfl)
theorem dX6_make_110 : decode cX6_make 110 = .ok (.iconst 1, 1) := dk_4 (dk_at dksX6_make_4 16 rfl rfl)
theorem dX6_make_111 : decode cX6_make 111 = .ok (.iadd, 1) := dk_96 (dk_at dksX6_make_4 17 rfl rfl)
theorem dX6_make_112 : decode cX6_make 112 = .ok (.invokevirtual 115, 3) := dk_182 0 115 (dk_at dksX6_make_4 18 rfl rfl)
theorem dX6_make_115 : decode cX6_make 115 = .ok (.iconst 3, 1) := dk_6 (dk_at dksX6_make_4 21 rfl rfl)
theorem dX6_make_116 : decode cX6_make 116 = .ok (.iconst 3, 1) := dk_6 (dk_at dksX6_make_4 22 rfl rfl)
theorem dX6_make_117 : decode cX6_make 117 = .ok (.iload_n 1, 1) := dk_27 (dk_at dksX6_make_4 23 rfl rfl)
theorem dX6_make_118 : decode cX6_make 118 = .ok (.imul, 1) := dk_104 (dk_at dksX6_make_5 0 rfl rfl)
theorem dX6_make_119 : decode cX6_make 119 = .ok (.iadd, 1) := dk_96 (dk_at dksX6_make_5 1 rfl rfl)
theorem dX6_make_120 : decode cX6_make 120 = .ok (.iload 7, 2) := dk_21 7 (dk_at dksX6_make_5 2 rfl rfl)
theorem dX6_make_122 : decode cX6_make 122 = .ok (.iadd, 1) := dk_96 (dk_at dksX6_make_5 4 rfl rfl)
theorem dX6_make_123 : decode cX6_make 123 = .ok (.istore 8, 2) := dk_54 8 (dk_at dksX6_make_5 5 rfl rfl)
theorem dX6_make_125 : decode cX6_make 125 = .ok (.aload_n 0, 1) := dk_42 (dk_at dksX6_make_5 7 rfl rfl)
theorem dX6_make_126 : decode cX6_make 126 = .ok (.iload_n 1, 1) := dk_27 (dk_at dksX6_make_5 8 rfl rfl)
theorem dX6_make_127 : decode cX6_make 127 = .ok (.iconst 1, 1) := dk_4 (dk_at dksX6_make_5 9 rfl rfl)
theorem dX6_make_128 : decode cX6_make 128 = .ok (.iload 4, 2) := dk_21 4 (dk_at dksX6_make_5 10 rfl rfl)
theorem dX6_make_130 : decode cX6_make 130 = .ok (.iload 8, 2) := dk_21 8 (dk_at dksX6_make_5 12 rfl rfl)
theorem dX6_make_132 : decode cX6_make 132 = .ok (.iload 6, 2) := dk_21 6 (dk_at dksX6_make_5 14 rfl rfl)
theorem dX6_make_134 : decode cX6_make 134 = .ok (.invokevirtual 144, 3) := dk_182 0 144 (dk_at dksX6_make_5 16 rfl rfl)
theorem dX6_make_137 : decode cX6_make 137 = .ok (.aload_n 0, 1) := dk_42 (dk_at dksX6_make_5 19 rfl rfl)
theorem dX6_make_138 : decode cX6_make 138 = .ok (.iload 8, 2) := dk_21 8 (dk_at dksX6_make_5 20 rfl rfl)
theorem dX6_make_140 : decode cX6_make 140 = .ok (.invokevirtual 148, 3) := dk_182 0 148 (dk_at dksX6_make_6 0 rfl rfl)
theorem dX6_make_143 : decode cX6_make 143 = .ok (.ireturn, 1) := dk_172 (dk_at dksX6_make_6 3 rfl rfl)
abbrev cX6_kindOf : ByteArray := prog_15_method_22_code
def yX6_kindOf : MethodName := ⟨RX6, "kindOf", "(Z)I"⟩
def dkwX6_kindOf_0 : List UInt8 := [26, 153, 0, 7, 4, 167, 0, 4, 3, 172]
abbrev dktX6_kindOf_0 : List UInt8 := dkwX6_kindOf_0 ++ []
theorem dksX6_kindOf_0 : cX6_kindOf.data.toList.drop 0 = dktX6_kindOf_0 := by decide +kernel
theorem dX6_kindOf_0 : decode cX6_kindOf 0 = .ok (.iload_n 0, 1) := dk_26 (dk_at dksX6_kindOf_0 0 rfl rfl)
theorem dX6_kindOf_1 : decode cX6_kindOf 1 = .ok (.ifCond .eq 7, 3) := dk_153 0 7 (dk_at dksX6_kindOf_0 1 rfl rfl)
theorem dX6_kindOf_4 : decode cX6_kindOf 4 = .ok (.iconst 1, 1) := dk_4 (dk_at dksX6_kindOf_0 4 rfl rfl)
theorem dX6_kindOf_5 : decode cX6_kindOf 5 = .ok (.goto 4, 3) := dk_167 0 4 (dk_at dksX6_kindOf_0 5 rfl rfl)
theorem dX6_kindOf_8 : decode cX6_kindOf 8 = .ok (.iconst 0, 1) := dk_3 (dk_at dksX6_kindOf_0 8 rfl rfl)
theorem dX6_kindOf_9 : decode cX6_kindOf 9 = .ok (.ireturn, 1) := dk_172 (dk_at dksX6_kindOf_0 9 rfl rfl)
abbrev cX6_isReplica : ByteArray := prog_15_method_8_code
def yX6_isReplica : MethodName := ⟨RX6, "isReplica", "(I)Z"⟩
def dkwX6_isReplica_0 : List UInt8 := [26, 3, 5, 184, 0, 87, 172]
abbrev dktX6_isReplica_0 : List UInt8 := dkwX6_isReplica_0 ++ []
theorem dksX6_isReplica_0 : cX6_isReplica.data.toList.drop 0 = dktX6_isReplica_0 := by decide +kernel
theorem dX6_isReplica_0 : decode cX6_isReplica 0 = .ok (.iload_n 0, 1) := dk_26 (dk_at dksX6_isReplica_0 0 rfl rfl)
theorem dX6_isReplica_1 : decode cX6_isReplica 1 = .ok (.iconst 0, 1) := dk_3 (dk_at dksX6_isReplica_0 1 rfl rfl)
theorem dX6_isReplica_2 : decode cX6_isReplica 2 = .ok (.iconst 2, 1) := dk_5 (dk_at dksX6_isReplica_0 2 rfl rfl)
theorem dX6_isReplica_3 : decode cX6_isReplica 3 = .ok (.invokestatic 87, 3) := dk_184 0 87 (dk_at dksX6_isReplica_0 3 rfl rfl)
theorem dX6_isReplica_6 : decode cX6_isReplica 6 = .ok (.ireturn, 1) := dk_172 (dk_at dksX6_isReplica_0 6 rfl rfl)
abbrev cX6_in : ByteArray := prog_15_method_3_code
def yX6_in : MethodName := ⟨RX6, "in", "(III)Z"⟩
def dkwX6_in_0 : List UInt8 := [26, 27, 161, 0, 12, 26, 28, 163, 0, 7, 4, 167, 0, 4, 3, 172]
abbrev dktX6_in_0 : List UInt8 := dkwX6_in_0 ++ []
theorem dksX6_in_0 : cX6_in.data.toList.drop 0 = dktX6_in_0 := by decide +kernel
theorem dX6_in_0 : decode cX6_in 0 = .ok (.iload_n 0, 1) := dk_26 (dk_at dksX6_in_0 0 rfl rfl)
theorem dX6_in_1 : decode cX6_in 1 = .ok (.iload_n 1, 1) := dk_27 (dk_at dksX6_in_0 1 rfl rfl)
theorem dX6_in_2 : decode cX6_in 2 = .ok (.if_icmp .lt 12, 3) := dk_161 0 12 (dk_at dksX6_in_0 2 rfl rfl)
theorem dX6_in_5 : decode cX6_in 5 = .ok (.iload_n 0, 1) := dk_26 (dk_at dksX6_in_0 5 rfl rfl)
theorem dX6_in_6 : decode cX6_in 6 = .ok (.iload_n 2, 1) := dk_28 (dk_at dksX6_in_0 6 rfl rfl)
theorem dX6_in_7 : decode cX6_in 7 = .ok (.if_icmp .gt 7, 3) := dk_163 0 7 (dk_at dksX6_in_0 7 rfl rfl)
theorem dX6_in_10 : decode cX6_in 10 = .ok (.iconst 1, 1) := dk_4 (dk_at dksX6_in_0 10 rfl rfl)
theorem dX6_in_11 : decode cX6_in 11 = .ok (.goto 4, 3) := dk_167 0 4 (dk_at dksX6_in_0 11 rfl rfl)
theorem dX6_in_14 : decode cX6_in 14 = .ok (.iconst 0, 1) := dk_3 (dk_at dksX6_in_0 14 rfl rfl)
theorem dX6_in_15 : decode cX6_in 15 = .ok (.ireturn, 1) := dk_172 (dk_at dksX6_in_0 15 rfl rfl)
abbrev cX6_fails : ByteArray := prog_15_method_4_code
def yX6_fails : MethodName := ⟨RX6, "fails", "(I)I"⟩
def dkwX6_fails_0 : List UInt8 := [42, 27, 181, 0, 76, 3, 172]
abbrev dktX6_fails_0 : List UInt8 := dkwX6_fails_0 ++ []
theorem dksX6_fails_0 : cX6_fails.data.toList.drop 0 = dktX6_fails_0 := by decide +kernel
theorem dX6_fails_0 : decode cX6_fails 0 = .ok (.aload_n 0, 1) := dk_42 (dk_at dksX6_fails_0 0 rfl rfl)
theorem dX6_fails_1 : decode cX6_fails 1 = .ok (.iload_n 1, 1) := dk_27 (dk_at dksX6_fails_0 1 rfl rfl)
theorem dX6_fails_2 : decode cX6_fails 2 = .ok (.putfield 76, 3) := dk_181 0 76 (dk_at dksX6_fails_0 2 rfl rfl)
theorem dX6_fails_5 : decode cX6_fails 5 = .ok (.iconst 0, 1) := dk_3 (dk_at dksX6_fails_0 5 rfl rfl)
theorem dX6_fails_6 : decode cX6_fails 6 = .ok (.ireturn, 1) := dk_172 (dk_at dksX6_fails_0 6 rfl rfl)
abbrev cX6_lays : ByteArray := prog_15_method_14_code
def yX6_lays : MethodName := ⟨RX6, "lays", "(III[I)I"⟩
def dkwX6_lays_5 : List UInt8 := [132, 5, 1, 132, 6, 1, 167, 255, 140, 21, 5, 172]
abbrev dktX6_lays_5 : List UInt8 := dkwX6_lays_5 ++ []
def dkwX6_lays_4 : List UInt8 := [21, 8, 25, 4, 21, 8, 4, 100, 46, 79, 132, 8, 255, 167, 255, 208, 25, 4, 21, 8, 21, 6, 79]
abbrev dktX6_lays_4 : List UInt8 := dkwX6_lays_4 ++ dktX6_lays_5
def dkwX6_lays_3 : List UInt8 := [28, 104, 25, 4, 21, 8, 4, 100, 46, 96, 184, 0, 72, 3, 96, 46, 21, 7, 164, 0, 21, 25, 4]
abbrev dktX6_lays_3 : List UInt8 := dkwX6_lays_3 ++ dktX6_lays_4
def dkwX6_lays_2 : List UInt8 := [184, 0, 72, 3, 96, 46, 54, 7, 21, 5, 54, 8, 21, 8, 158, 0, 49, 42, 180, 0, 7, 27, 16, 12]
abbrev dktX6_lays_2 : List UInt8 := dkwX6_lays_2 ++ dktX6_lays_3
def dkwX6_lays_1 : List UInt8 := [182, 0, 91, 153, 0, 94, 21, 6, 29, 159, 0, 88, 42, 180, 0, 7, 27, 16, 12, 28, 104, 21, 6, 96]
abbrev dktX6_lays_1 : List UInt8 := dkwX6_lays_1 ++ dktX6_lays_2
def dkwX6_lays_0 : List UInt8 := [3, 54, 5, 3, 54, 6, 21, 6, 16, 12, 162, 0, 115, 42, 27, 16, 12, 28, 104, 21, 6, 96]
abbrev dktX6_lays_0 : List UInt8 := dkwX6_lays_0 ++ dktX6_lays_1
theorem dksX6_lays_0 : cX6_lays.data.toList.drop 0 = dktX6_lays_0 := by decide +kernel
theorem dksX6_lays_1 : cX6_lays.data.toList.drop 22 = dktX6_lays_1 := dk_seg dksX6_lays_0 22 rfl rfl
theorem dksX6_lays_2 : cX6_lays.data.toList.drop 46 = dktX6_lays_2 := dk_seg dksX6_lays_1 24 rfl rfl
theorem dksX6_lays_3 : cX6_lays.data.toList.drop 70 = dktX6_lays_3 := dk_seg dksX6_lays_2 24 rfl rfl
theorem dksX6_lays_4 : cX6_lays.data.toList.drop 93 = dktX6_lays_4 := dk_seg dksX6_lays_3 23 rfl rfl
theorem dksX6_lays_5 : cX6_lays.data.toList.drop 116 = dktX6_lays_5 := dk_seg dksX6_lays_4 23 rfl rfl
theorem dX6_lays_0 : decode cX6_lays 0 = .ok (.iconst 0, 1) := dk_3 (dk_at dksX6_lays_0 0 rfl rfl)
theorem dX6_lays_1 : decode cX6_lays 1 = .ok (.istore 5, 2) := dk_54 5 (dk_at dksX6_lays_0 1 rfl rfl)
theorem dX6_lays_3 : decode cX6_lays 3 = .ok (.iconst 0, 1) := dk_3 (dk_at dksX6_lays_0 3 rfl rfl)
theorem dX6_lays_4 : decode cX6_lays 4 = .ok (.istore 6, 2) := dk_54 6 (dk_at dksX6_lays_0 4 rfl rfl)
theorem dX6_lays_6 : decode cX6_lays 6 = .ok (.iload 6, 2) := dk_21 6 (dk_at dksX6_lays_0 6 rfl rfl)
theorem dX6_lays_8 : decode cX6_lays 8 = .ok (.bipush 12, 2) := dk_16 12 (dk_at dksX6_lays_0 8 rfl rfl)
theorem dX6_lays_10 : decode cX6_lays 10 = .ok (.if_icmp .ge 115, 3) := dk_162 0 115 (dk_at dksX6_lays_0 10 rfl rfl)
theorem dX6_lays_13 : decode cX6_lays 13 = .ok (.aload_n 0, 1) := dk_42 (dk_at dksX6_lays_0 13 rfl rfl)
theorem dX6_lays_14 : decode cX6_lays 14 = .ok (.iload_n 1, 1) := dk_27 (dk_at dksX6_lays_0 14 rfl rfl)
theorem dX6_lays_15 : decode cX6_lays 15 = .ok (.bipush 12, 2) := dk_16 12 (dk_at dksX6_lays_0 15 rfl rfl)
theorem dX6_lays_17 : decode cX6_lays 17 = .ok (.iload_n 2, 1) := dk_28 (dk_at dksX6_lays_0 17 rfl rfl)
theorem dX6_lays_18 : decode cX6_lays 18 = .ok (.imul, 1) := dk_104 (dk_at dksX6_lays_0 18 rfl rfl)
theorem dX6_lays_19 : decode cX6_lays 19 = .ok (.iload 6, 2) := dk_21 6 (dk_at dksX6_lays_0 19 rfl rfl)
theorem dX6_lays_21 : decode cX6_lays 21 = .ok (.iadd, 1) := dk_96 (dk_at dksX6_lays_0 21 rfl rfl)
theorem dX6_lays_22 : decode cX6_lays 22 = .ok (.invokevirtual 91, 3) := dk_182 0 91 (dk_at dksX6_lays_1 0 rfl rfl)
theorem dX6_lays_25 : decode cX6_lays 25 = .ok (.ifCond .eq 94, 3) := dk_153 0 94 (dk_at dksX6_lays_1 3 rfl rfl)
theorem dX6_lays_28 : decode cX6_lays 28 = .ok (.iload 6, 2) := dk_21 6 (dk_at dksX6_lays_1 6 rfl rfl)
theorem dX6_lays_30 : decode cX6_lays 30 = .ok (.iload_n 3, 1) := dk_29 (dk_at dksX6_lays_1 8 rfl rfl)
theorem dX6_lays_31 : decode cX6_lays 31 = .ok (.if_icmp .eq 88, 3) := dk_159 0 88 (dk_at dksX6_lays_1 9 rfl rfl)
theorem dX6_lays_34 : decode cX6_lays 34 = .ok (.aload_n 0, 1) := dk_42 (dk_at dksX6_lays_1 12 rfl rfl)
theorem dX6_lays_35 : decode cX6_lays 35 = .ok (.getfield 7, 3) := dk_180 0 7 (dk_at dksX6_lays_1 13 rfl rfl)
theorem dX6_lays_38 : decode cX6_lays 38 = .ok (.iload_n 1, 1) := dk_27 (dk_at dksX6_lays_1 16 rfl rfl)
theorem dX6_lays_39 : decode cX6_lays 39 = .ok (.bipush 12, 2) := dk_16 12 (dk_at dksX6_lays_1 17 rfl rfl)
theorem dX6_lays_41 : decode cX6_lays 41 = .ok (.iload_n 2, 1) := dk_28 (dk_at dksX6_lays_1 19 rfl rfl)
theorem dX6_lays_42 : decode cX6_lays 42 = .ok (.imul, 1) := dk_104 (dk_at dksX6_lays_1 20 rfl rfl)
theorem dX6_lays_43 : decode cX6_lays 43 = .ok (.iload 6, 2) := dk_21 6 (dk_at dksX6_lays_1 21 rfl rfl)
theorem dX6_lays_45 : decode cX6_lays 45 = .ok (.iadd, 1) := dk_96 (dk_at dksX6_lays_1 23 rfl rfl)
theorem dX6_lays_46 : decode cX6_lays 46 = .ok (.invokestatic 72, 3) := dk_184 0 72 (dk_at dksX6_lays_2 0 rfl rfl)
theorem dX6_lays_49 : decode cX6_lays 49 = .ok (.iconst 0, 1) := dk_3 (dk_at dksX6_lays_2 3 rfl rfl)
theorem dX6_lays_50 : decode cX6_lays 50 = .ok (.iadd, 1) := dk_96 (dk_at dksX6_lays_2 4 rfl rfl)
theorem dX6_lays_51 : decode cX6_lays 51 = .ok (.iaload, 1) := dk_46 (dk_at dksX6_lays_2 5 rfl rfl)
theorem dX6_lays_52 : decode cX6_lays 52 = .ok (.istore 7, 2) := dk_54 7 (dk_at dksX6_lays_2 6 rfl rfl)
theorem dX6_lays_54 : decode cX6_lays 54 = .ok (.iload 5, 2) := dk_21 5 (dk_at dksX6_lays_2 8 rfl rfl)
theorem dX6_lays_56 : decode cX6_lays 56 = .ok (.istore 8, 2) := dk_54 8 (dk_at dksX6_lays_2 10 rfl rfl)
theorem dX6_lays_58 : decode cX6_lays 58 = .ok (.iload 8, 2) := dk_21 8 (dk_at dksX6_lays_2 12 rfl rfl)
theorem dX6_lays_60 : decode cX6_lays 60 = .ok (.ifCond .le 49, 3) := dk_158 0 49 (dk_at dksX6_lays_2 14 rfl rfl)
theorem dX6_lays_63 : decode cX6_lays 63 = .ok (.aload_n 0, 1) := dk_42 (dk_at dksX6_lays_2 17 rfl rfl)
theorem dX6_lays_64 : decode cX6_lays 64 = .ok (.getfield 7, 3) := dk_180 0 7 (dk_at dksX6_lays_2 18 rfl rfl)
theorem dX6_lays_67 : decode cX6_lays 67 = .ok (.iload_n 1, 1) := dk_27 (dk_at dksX6_lays_2 21 rfl rfl)
theorem dX6_lays_68 : decode cX6_lays 68 = .ok (.bipush 12, 2) := dk_16 12 (dk_at dksX6_lays_2 22 rfl rfl)
theorem dX6_lays_70 : decode cX6_lays 70 = .ok (.iload_n 2, 1) := dk_28 (dk_at dksX6_lays_3 0 rfl rfl)
theorem dX6_lays_71 : decode cX6_lays 71 = .ok (.imul, 1) := dk_104 (dk_at dksX6_lays_3 1 rfl rfl)
theorem dX6_lays_72 : decode cX6_lays 72 = .ok (.aload 4, 2) := dk_25 4 (dk_at dksX6_lays_3 2 rfl rfl)
theorem dX6_lays_74 : decode cX6_lays 74 = .ok (.iload 8, 2) := dk_21 8 (dk_at dksX6_lays_3 4 rfl rfl)
theorem dX6_lays_76 : decode cX6_lays 76 = .ok (.iconst 1, 1) := dk_4 (dk_at dksX6_lays_3 6 rfl rfl)
theorem dX6_lays_77 : decode cX6_lays 77 = .ok (.isub, 1) := dk_100 (dk_at dksX6_lays_3 7 rfl rfl)
theorem dX6_lays_78 : decode cX6_lays 78 = .ok (.iaload, 1) := dk_46 (dk_at dksX6_lays_3 8 rfl rfl)
theorem dX6_lays_79 : decode cX6_lays 79 = .ok (.iadd, 1) := dk_96 (dk_at dksX6_lays_3 9 rfl rfl)
theorem dX6_lays_80 : decode cX6_lays 80 = .ok (.invokestatic 72, 3) := dk_184 0 72 (dk_at dksX6_lays_3 10 rfl rfl)
theorem dX6_lays_83 : decode cX6_lays 83 = .ok (.iconst 0, 1) := dk_3 (dk_at dksX6_lays_3 13 rfl rfl)
theorem dX6_lays_84 : decode cX6_lays 84 = .ok (.iadd, 1) := dk_96 (dk_at dksX6_lays_3 14 rfl rfl)
theorem dX6_lays_85 : decode cX6_lays 85 = .ok (.iaload, 1) := dk_46 (dk_at dksX6_lays_3 15 rfl rfl)
theorem dX6_lays_86 : decode cX6_lays 86 = .ok (.iload 7, 2) := dk_21 7 (dk_at dksX6_lays_3 16 rfl rfl)
theorem dX6_lays_88 : decode cX6_lays 88 = .ok (.if_icmp .le 21, 3) := dk_164 0 21 (dk_at dksX6_lays_3 18 rfl rfl)
theorem dX6_lays_91 : decode cX6_lays 91 = .ok (.aload 4, 2) := dk_25 4 (dk_at dksX6_lays_3 21 rfl rfl)
theorem dX6_lays_93 : decode cX6_lays 93 = .ok (.iload 8, 2) := dk_21 8 (dk_at dksX6_lays_4 0 rfl rfl)
theorem dX6_lays_95 : decode cX6_lays 95 = .ok (.aload 4, 2) := dk_25 4 (dk_at dksX6_lays_4 2 rfl rfl)
theorem dX6_lays_97 : decode cX6_lays 97 = .ok (.iload 8, 2) := dk_21 8 (dk_at dksX6_lays_4 4 rfl rfl)
theorem dX6_lays_99 : decode cX6_lays 99 = .ok (.iconst 1, 1) := dk_4 (dk_at dksX6_lays_4 6 rfl rfl)
theorem dX6_lays_100 : decode cX6_lays 100 = .ok (.isub, 1) := dk_100 (dk_at dksX6_lays_4 7 rfl rfl)
theorem dX6_lays_101 : decode cX6_lays 101 = .ok (.iaload, 1) := dk_46 (dk_at dksX6_lays_4 8 rfl rfl)
theorem dX6_lays_102 : decode cX6_lays 102 = .ok (.iastore, 1) := dk_79 (dk_at dksX6_lays_4 9 rfl rfl)
theorem dX6_lays_103 : decode cX6_lays 103 = .ok (.iinc 8 (-1), 3) := dk_132 8 255 (dk_at dksX6_lays_4 10 rfl rfl)
theorem dX6_lays_106 : decode cX6_lays 106 = .ok (.goto (-48), 3) := dk_167 255 208 (dk_at dksX6_lays_4 13 rfl rfl)
theorem dX6_lays_109 : decode cX6_lays 109 = .ok (.aload 4, 2) := dk_25 4 (dk_at dksX6_lays_4 16 rfl rfl)
theorem dX6_lays_111 : decode cX6_lays 111 = .ok (.iload 8, 2) := dk_21 8 (dk_at dksX6_lays_4 18 rfl rfl)
theorem dX6_lays_113 : decode cX6_lays 113 = .ok (.iload 6, 2) := dk_21 6 (dk_at dksX6_lays_4 20 rfl rfl)
theorem dX6_lays_115 : decode cX6_lays 115 = .ok (.iastore, 1) := dk_79 (dk_at dksX6_lays_4 22 rfl rfl)
theorem dX6_lays_116 : decode cX6_lays 116 = .ok (.iinc 5 1, 3) := dk_132 5 1 (dk_at dksX6_lays_5 0 rfl rfl)
theorem dX6_lays_119 : decode cX6_lays 119 = .ok (.iinc 6 1, 3) := dk_132 6 1 (dk_at dksX6_lays_5 3 rfl rfl)
theorem dX6_lays_122 : decode cX6_lays 122 = .ok (.goto (-116), 3) := dk_167 255 140 (dk_at dksX6_lays_5 6 rfl rfl)
theorem dX6_lays_125 : decode cX6_lays 125 = .ok (.iload 5, 2) := dk_21 5 (dk_at dksX6_lays_5 9 rfl rfl)
theorem dX6_lays_127 : decode cX6_lays 127 = .ok (.ireturn, 1) := dk_172 (dk_at dksX6_lays_5 11 rfl rfl)
abbrev cX6_isShown : ByteArray := prog_15_method_13_code
def yX6_isShown : MethodName := ⟨RX6, "isShown", "(II)Z"⟩
def dkwX6_isShown_1 : List UInt8 := [184, 0, 72, 7, 96, 46, 154, 0, 7, 4, 167, 0, 4, 3, 172]
abbrev dktX6_isShown_1 : List UInt8 := dkwX6_isShown_1 ++ []
def dkwX6_isShown_0 : List UInt8 := [42, 180, 0, 7, 27, 28, 184, 0, 72, 6, 96, 46, 4, 160, 0, 22, 42, 180, 0, 7, 27, 28]
abbrev dktX6_isShown_0 : List UInt8 := dkwX6_isShown_0 ++ dktX6_isShown_1
theorem dksX6_isShown_0 : cX6_isShown.data.toList.drop 0 = dktX6_isShown_0 := by decide +kernel
theorem dksX6_isShown_1 : cX6_isShown.data.toList.drop 22 = dktX6_isShown_1 := dk_seg dksX6_isShown_0 22 rfl rfl
theorem dX6_isShown_0 : decode cX6_isShown 0 = .ok (.aload_n 0, 1) := dk_42 (dk_at dksX6_isShown_0 0 rfl rfl)
theorem dX6_isShown_1 : decode cX6_isShown 1 = .ok (.getfield 7, 3) := dk_180 0 7 (dk_at dksX6_isShown_0 1 rfl rfl)
theorem dX6_isShown_4 : decode cX6_isShown 4 = .ok (.iload_n 1, 1) := dk_27 (dk_at dksX6_isShown_0 4 rfl rfl)
theorem dX6_isShown_5 : decode cX6_isShown 5 = .ok (.iload_n 2, 1) := dk_28 (dk_at dksX6_isShown_0 5 rfl rfl)
theorem dX6_isShown_6 : decode cX6_isShown 6 = .ok (.invokestatic 72, 3) := dk_184 0 72 (dk_at dksX6_isShown_0 6 rfl rfl)
theorem dX6_isShown_9 : decode cX6_isShown 9 = .ok (.iconst 3, 1) := dk_6 (dk_at dksX6_isShown_0 9 rfl rfl)
theorem dX6_isShown_10 : decode cX6_isShown 10 = .ok (.iadd, 1) := dk_96 (dk_at dksX6_isShown_0 10 rfl rfl)
theorem dX6_isShown_11 : decode cX6_isShown 11 = .ok (.iaload, 1) := dk_46 (dk_at dksX6_isShown_0 11 rfl rfl)
theorem dX6_isShown_12 : decode cX6_isShown 12 = .ok (.iconst 1, 1) := dk_4 (dk_at dksX6_isShown_0 12 rfl rfl)
theorem dX6_isShown_13 : decode cX6_isShown 13 = .ok (.if_icmp .ne 22, 3) := dk_160 0 22 (dk_at dksX6_isShown_0 13 rfl rfl)
theorem dX6_isShown_16 : decode cX6_isShown 16 = .ok (.aload_n 0, 1) := dk_42 (dk_at dksX6_isShown_0 16 rfl rfl)
theorem dX6_isShown_17 : decode cX6_isShown 17 = .ok (.getfield 7, 3) := dk_180 0 7 (dk_at dksX6_isShown_0 17 rfl rfl)
theorem dX6_isShown_20 : decode cX6_isShown 20 = .ok (.iload_n 1, 1) := dk_27 (dk_at dksX6_isShown_0 20 rfl rfl)
theorem dX6_isShown_21 : decode cX6_isShown 21 = .ok (.iload_n 2, 1) := dk_28 (dk_at dksX6_isShown_0 21 rfl rfl)
theorem dX6_isShown_22 : decode cX6_isShown 22 = .ok (.invokestatic 72, 3) := dk_184 0 72 (dk_at dksX6_isShown_1 0 rfl rfl)
theorem dX6_isShown_25 : decode cX6_isShown 25 = .ok (.iconst 4, 1) := dk_7 (dk_at dksX6_isShown_1 3 rfl rfl)
theorem dX6_isShown_26 : decode cX6_isShown 26 = .ok (.iadd, 1) := dk_96 (dk_at dksX6_isShown_1 4 rfl rfl)
theorem dX6_isShown_27 : decode cX6_isShown 27 = .ok (.iaload, 1) := dk_46 (dk_at dksX6_isShown_1 5 rfl rfl)
theorem dX6_isShown_28 : decode cX6_isShown 28 = .ok (.ifCond .ne 7, 3) := dk_154 0 7 (dk_at dksX6_isShown_1 6 rfl rfl)
theorem dX6_isShown_31 : decode cX6_isShown 31 = .ok (.iconst 1, 1) := dk_4 (dk_at dksX6_isShown_1 9 rfl rfl)
theorem dX6_isShown_32 : decode cX6_isShown 32 = .ok (.goto 4, 3) := dk_167 0 4 (dk_at dksX6_isShown_1 10 rfl rfl)
theorem dX6_isShown_35 : decode cX6_isShown 35 = .ok (.iconst 0, 1) := dk_3 (dk_at dksX6_isShown_1 13 rfl rfl)
theorem dX6_isShown_36 : decode cX6_isShown 36 = .ok (.ireturn, 1) := dk_172 (dk_at dksX6_isShown_1 14 rfl rfl)
abbrev cX6_between : ByteArray := prog_15_method_17_code
def yX6_between : MethodName := ⟨RX6, "between", "(IIII)I"⟩
def dkwX6_between_4 : List UInt8 := [167, 0, 4, 2, 172]
abbrev dktX6_between_4 : List UInt8 := dkwX6_between_4 ++ []
def dkwX6_between_3 : List UInt8 := [96, 46, 54, 6, 21, 5, 21, 6, 96, 5, 108, 54, 7, 21, 7, 21, 5, 164, 0, 8, 21, 7]
abbrev dktX6_between_3 : List UInt8 := dkwX6_between_3 ++ dktX6_between_4
def dkwX6_between_2 : List UInt8 := [167, 0, 26, 42, 180, 0, 7, 27, 16, 12, 28, 104, 42, 180, 0, 28, 21, 4, 46, 96, 184, 0, 72, 3]
abbrev dktX6_between_2 : List UInt8 := dkwX6_between_2 ++ dktX6_between_3
def dkwX6_between_1 : List UInt8 := [4, 100, 46, 96, 184, 0, 72, 3, 96, 46, 54, 5, 21, 4, 29, 160, 0, 12, 21, 5, 17, 7, 208, 96]
abbrev dktX6_between_1 : List UInt8 := dkwX6_between_1 ++ dktX6_between_2
def dkwX6_between_0 : List UInt8 := [21, 4, 154, 0, 7, 3, 167, 0, 28, 42, 180, 0, 7, 27, 16, 12, 28, 104, 42, 180, 0, 28, 21, 4]
abbrev dktX6_between_0 : List UInt8 := dkwX6_between_0 ++ dktX6_between_1
theorem dksX6_between_0 : cX6_between.data.toList.drop 0 = dktX6_between_0 := by decide +kernel
theorem dksX6_between_1 : cX6_between.data.toList.drop 24 = dktX6_between_1 := dk_seg dksX6_between_0 24 rfl rfl
theorem dksX6_between_2 : cX6_between.data.toList.drop 48 = dktX6_between_2 := dk_seg dksX6_between_1 24 rfl rfl
theorem dksX6_between_3 : cX6_between.data.toList.drop 72 = dktX6_between_3 := dk_seg dksX6_between_2 24 rfl rfl
theorem dksX6_between_4 : cX6_between.data.toList.drop 94 = dktX6_between_4 := dk_seg dksX6_between_3 22 rfl rfl
theorem dX6_between_0 : decode cX6_between 0 = .ok (.iload 4, 2) := dk_21 4 (dk_at dksX6_between_0 0 rfl rfl)
theorem dX6_between_2 : decode cX6_between 2 = .ok (.ifCond .ne 7, 3) := dk_154 0 7 (dk_at dksX6_between_0 2 rfl rfl)
theorem dX6_between_5 : decode cX6_between 5 = .ok (.iconst 0, 1) := dk_3 (dk_at dksX6_between_0 5 rfl rfl)
theorem dX6_between_6 : decode cX6_between 6 = .ok (.goto 28, 3) := dk_167 0 28 (dk_at dksX6_between_0 6 rfl rfl)
theorem dX6_between_9 : decode cX6_between 9 = .ok (.aload_n 0, 1) := dk_42 (dk_at dksX6_between_0 9 rfl rfl)
theorem dX6_between_10 : decode cX6_between 10 = .ok (.getfield 7, 3) := dk_180 0 7 (dk_at dksX6_between_0 10 rfl rfl)
theorem dX6_between_13 : decode cX6_between 13 = .ok (.iload_n 1, 1) := dk_27 (dk_at dksX6_between_0 13 rfl rfl)
theorem dX6_between_14 : decode cX6_between 14 = .ok (.bipush 12, 2) := dk_16 12 (dk_at dksX6_between_0 14 rfl rfl)
theorem dX6_between_16 : decode cX6_between 16 = .ok (.iload_n 2, 1) := dk_28 (dk_at dksX6_between_0 16 rfl rfl)
theorem dX6_between_17 : decode cX6_between 17 = .ok (.imul, 1) := dk_104 (dk_at dksX6_between_0 17 rfl rfl)
theorem dX6_between_18 : decode cX6_between 18 = .ok (.aload_n 0, 1) := dk_42 (dk_at dksX6_between_0 18 rfl rfl)
theorem dX6_between_19 : decode cX6_between 19 = .ok (.getfield 28, 3) := dk_180 0 28 (dk_at dksX6_between_0 19 rfl rfl)
theorem dX6_between_22 : decode cX6_between 22 = .ok (.iload 4, 2) := dk_21 4 (dk_at dksX6_between_0 22 rfl rfl)
theorem dX6_between_24 : decode cX6_between 24 = .ok (.iconst 1, 1) := dk_4 (dk_at dksX6_between_1 0 rfl rfl)
theorem dX6_between_25 : decode cX6_between 25 = .ok (.isub, 1) := dk_100 (dk_at dksX6_between_1 1 rfl rfl)
theorem dX6_between_26 : decode cX6_between 26 = .ok (.iaload, 1) := dk_46 (dk_at dksX6_between_1 2 rfl rfl)
theorem dX6_between_27 : decode cX6_between 27 = .ok (.iadd, 1) := dk_96 (dk_at dksX6_between_1 3 rfl rfl)
theorem dX6_between_28 : decode cX6_between 28 = .ok (.invokestatic 72, 3) := dk_184 0 72 (dk_at dksX6_between_1 4 rfl rfl)
theorem dX6_between_31 : decode cX6_between 31 = .ok (.iconst 0, 1) := dk_3 (dk_at dksX6_between_1 7 rfl rfl)
theorem dX6_between_32 : decode cX6_between 32 = .ok (.iadd, 1) := dk_96 (dk_at dksX6_between_1 8 rfl rfl)
theorem dX6_between_33 : decode cX6_between 33 = .ok (.iaload, 1) := dk_46 (dk_at dksX6_between_1 9 rfl rfl)
theorem dX6_between_34 : decode cX6_between 34 = .ok (.istore 5, 2) := dk_54 5 (dk_at dksX6_between_1 10 rfl rfl)
theorem dX6_between_36 : decode cX6_between 36 = .ok (.iload 4, 2) := dk_21 4 (dk_at dksX6_between_1 12 rfl rfl)
theorem dX6_between_38 : decode cX6_between 38 = .ok (.iload_n 3, 1) := dk_29 (dk_at dksX6_between_1 14 rfl rfl)
theorem dX6_between_39 : decode cX6_between 39 = .ok (.if_icmp .ne 12, 3) := dk_160 0 12 (dk_at dksX6_between_1 15 rfl rfl)
theorem dX6_between_42 : decode cX6_between 42 = .ok (.iload 5, 2) := dk_21 5 (dk_at dksX6_between_1 18 rfl rfl)
theorem dX6_between_44 : decode cX6_between 44 = .ok (.sipush 2000, 3) := dk_17 7 208 (dk_at dksX6_between_1 20 rfl rfl)
theorem dX6_between_47 : decode cX6_between 47 = .ok (.iadd, 1) := dk_96 (dk_at dksX6_between_1 23 rfl rfl)
theorem dX6_between_48 : decode cX6_between 48 = .ok (.goto 26, 3) := dk_167 0 26 (dk_at dksX6_between_2 0 rfl rfl)
theorem dX6_between_51 : decode cX6_between 51 = .ok (.aload_n 0, 1) := dk_42 (dk_at dksX6_between_2 3 rfl rfl)
theorem dX6_between_52 : decode cX6_between 52 = .ok (.getfield 7, 3) := dk_180 0 7 (dk_at dksX6_between_2 4 rfl rfl)
theorem dX6_between_55 : decode cX6_between 55 = .ok (.iload_n 1, 1) := dk_27 (dk_at dksX6_between_2 7 rfl rfl)
theorem dX6_between_56 : decode cX6_between 56 = .ok (.bipush 12, 2) := dk_16 12 (dk_at dksX6_between_2 8 rfl rfl)
theorem dX6_between_58 : decode cX6_between 58 = .ok (.iload_n 2, 1) := dk_28 (dk_at dksX6_between_2 10 rfl rfl)
theorem dX6_between_59 : decode cX6_between 59 = .ok (.imul, 1) := dk_104 (dk_at dksX6_between_2 11 rfl rfl)
theorem dX6_between_60 : decode cX6_between 60 = .ok (.aload_n 0, 1) := dk_42 (dk_at dksX6_between_2 12 rfl rfl)
theorem dX6_between_61 : decode cX6_between 61 = .ok (.getfield 28, 3) := dk_180 0 28 (dk_at dksX6_between_2 13 rfl rfl)
theorem dX6_between_64 : decode cX6_between 64 = .ok (.iload 4, 2) := dk_21 4 (dk_at dksX6_between_2 16 rfl rfl)
theorem dX6_between_66 : decode cX6_between 66 = .ok (.iaload, 1) := dk_46 (dk_at dksX6_between_2 18 rfl rfl)
theorem dX6_between_67 : decode cX6_between 67 = .ok (.iadd, 1) := dk_96 (dk_at dksX6_between_2 19 rfl rfl)
theorem dX6_between_68 : decode cX6_between 68 = .ok (.invokestatic 72, 3) := dk_184 0 72 (dk_at dksX6_between_2 20 rfl rfl)
theorem dX6_between_71 : decode cX6_between 71 = .ok (.iconst 0, 1) := dk_3 (dk_at dksX6_between_2 23 rfl rfl)
theorem dX6_between_72 : decode cX6_between 72 = .ok (.iadd, 1) := dk_96 (dk_at dksX6_between_3 0 rfl rfl)
theorem dX6_between_73 : decode cX6_between 73 = .ok (.iaload, 1) := dk_46 (dk_at dksX6_between_3 1 rfl rfl)
theorem dX6_between_74 : decode cX6_between 74 = .ok (.istore 6, 2) := dk_54 6 (dk_at dksX6_between_3 2 rfl rfl)
theorem dX6_between_76 : decode cX6_between 76 = .ok (.iload 5, 2) := dk_21 5 (dk_at dksX6_between_3 4 rfl rfl)
theorem dX6_between_78 : decode cX6_between 78 = .ok (.iload 6, 2) := dk_21 6 (dk_at dksX6_between_3 6 rfl rfl)
theorem dX6_between_80 : decode cX6_between 80 = .ok (.iadd, 1) := dk_96 (dk_at dksX6_between_3 8 rfl rfl)
theorem dX6_between_81 : decode cX6_between 81 = .ok (.iconst 2, 1) := dk_5 (dk_at dksX6_between_3 9 rfl rfl)
theorem dX6_between_82 : decode cX6_between 82 = .ok (.idiv, 1) := dk_108 (dk_at dksX6_between_3 10 rfl rfl)
theorem dX6_between_83 : decode cX6_between 83 = .ok (.istore 7, 2) := dk_54 7 (dk_at dksX6_between_3 11 rfl rfl)
theorem dX6_between_85 : decode cX6_between 85 = .ok (.iload 7, 2) := dk_21 7 (dk_at dksX6_between_3 13 rfl rfl)
theorem dX6_between_87 : decode cX6_between 87 = .ok (.iload 5, 2) := dk_21 5 (dk_at dksX6_between_3 15 rfl rfl)
theorem dX6_between_89 : decode cX6_between 89 = .ok (.if_icmp .le 8, 3) := dk_164 0 8 (dk_at dksX6_between_3 17 rfl rfl)
theorem dX6_between_92 : decode cX6_between 92 = .ok (.iload 7, 2) := dk_21 7 (dk_at dksX6_between_3 20 rfl rfl)
theorem dX6_between_94 : decode cX6_between 94 = .ok (.goto 4, 3) := dk_167 0 4 (dk_at dksX6_between_4 0 rfl rfl)
theorem dX6_between_97 : decode cX6_between 97 = .ok (.iconst (-1), 1) := dk_2 (dk_at dksX6_between_4 3 rfl rfl)
theorem dX6_between_98 : decode cX6_between 98 = .ok (.ireturn, 1) := dk_172 (dk_at dksX6_between_4 4 rfl rfl)
abbrev cX6_of : ByteArray := prog_15_method_10_code
def yX6_of : MethodName := ⟨RX6, "of", "(II)I"⟩
def dkwX6_of_0 : List UInt8 := [42, 180, 0, 7, 17, 15, 3, 17, 1, 14, 27, 104, 96, 28, 96, 46, 172]
abbrev dktX6_of_0 : List UInt8 := dkwX6_of_0 ++ []
theorem dksX6_of_0 : cX6_of.data.toList.drop 0 = dktX6_of_0 := by decide +kernel
theorem dX6_of_0 : decode cX6_of 0 = .ok (.aload_n 0, 1) := dk_42 (dk_at dksX6_of_0 0 rfl rfl)
theorem dX6_of_1 : decode cX6_of 1 = .ok (.getfield 7, 3) := dk_180 0 7 (dk_at dksX6_of_0 1 rfl rfl)
theorem dX6_of_4 : decode cX6_of 4 = .ok (.sipush 3843, 3) := dk_17 15 3 (dk_at dksX6_of_0 4 rfl rfl)
theorem dX6_of_7 : decode cX6_of 7 = .ok (.sipush 270, 3) := dk_17 1 14 (dk_at dksX6_of_0 7 rfl rfl)
theorem dX6_of_10 : decode cX6_of 10 = .ok (.iload_n 1, 1) := dk_27 (dk_at dksX6_of_0 10 rfl rfl)
theorem dX6_of_11 : decode cX6_of 11 = .ok (.imul, 1) := dk_104 (dk_at dksX6_of_0 11 rfl rfl)
theorem dX6_of_12 : decode cX6_of 12 = .ok (.iadd, 1) := dk_96 (dk_at dksX6_of_0 12 rfl rfl)
theorem dX6_of_13 : decode cX6_of 13 = .ok (.iload_n 2, 1) := dk_28 (dk_at dksX6_of_0 13 rfl rfl)
theorem dX6_of_14 : decode cX6_of 14 = .ok (.iadd, 1) := dk_96 (dk_at dksX6_of_0 14 rfl rfl)
theorem dX6_of_15 : decode cX6_of 15 = .ok (.iaload, 1) := dk_46 (dk_at dksX6_of_0 15 rfl rfl)
theorem dX6_of_16 : decode cX6_of 16 = .ok (.ireturn, 1) := dk_172 (dk_at dksX6_of_0 16 rfl rfl)
abbrev cX6_isFull : ByteArray := prog_15_method_19_code
def yX6_isFull : MethodName := ⟨RX6, "isFull", "(I)Z"⟩
def dkwX6_isFull_0 : List UInt8 := [42, 180, 0, 7, 27, 46, 16, 40, 160, 0, 7, 4, 167, 0, 4, 3, 172]
abbrev dktX6_isFull_0 : List UInt8 := dkwX6_isFull_0 ++ []
theorem dksX6_isFull_0 : cX6_isFull.data.toList.drop 0 = dktX6_isFull_0 := by decide +kernel
theorem dX6_isFull_0 : decode cX6_isFull 0 = .ok (.aload_n 0, 1) := dk_42 (dk_at dksX6_isFull_0 0 rfl rfl)
theorem dX6_isFull_1 : decode cX6_isFull 1 = .ok (.getfield 7, 3) := dk_180 0 7 (dk_at dksX6_isFull_0 1 rfl rfl)
theorem dX6_isFull_4 : decode cX6_isFull 4 = .ok (.iload_n 1, 1) := dk_27 (dk_at dksX6_isFull_0 4 rfl rfl)
theorem dX6_isFull_5 : decode cX6_isFull 5 = .ok (.iaload, 1) := dk_46 (dk_at dksX6_isFull_0 5 rfl rfl)
theorem dX6_isFull_6 : decode cX6_isFull 6 = .ok (.bipush 40, 2) := dk_16 40 (dk_at dksX6_isFull_0 6 rfl rfl)
theorem dX6_isFull_8 : decode cX6_isFull 8 = .ok (.if_icmp .ne 7, 3) := dk_160 0 7 (dk_at dksX6_isFull_0 8 rfl rfl)
theorem dX6_isFull_11 : decode cX6_isFull 11 = .ok (.iconst 1, 1) := dk_4 (dk_at dksX6_isFull_0 11 rfl rfl)
theorem dX6_isFull_12 : decode cX6_isFull 12 = .ok (.goto 4, 3) := dk_167 0 4 (dk_at dksX6_isFull_0 12 rfl rfl)
theorem dX6_isFull_15 : decode cX6_isFull 15 = .ok (.iconst 0, 1) := dk_3 (dk_at dksX6_isFull_0 15 rfl rfl)
theorem dX6_isFull_16 : decode cX6_isFull 16 = .ok (.ireturn, 1) := dk_172 (dk_at dksX6_isFull_0 16 rfl rfl)
abbrev cX6_hold : ByteArray := prog_15_method_6_code
def yX6_hold : MethodName := ⟨RX6, "hold", "()V"⟩
def dkwX6_hold_1 : List UInt8 := [167, 255, 234, 177]
abbrev dktX6_hold_1 : List UInt8 := dkwX6_hold_1 ++ []
def dkwX6_hold_0 : List UInt8 := [3, 60, 27, 17, 18, 45, 162, 0, 21, 42, 180, 0, 16, 27, 42, 180, 0, 7, 27, 46, 79, 132, 1, 1]
abbrev dktX6_hold_0 : List UInt8 := dkwX6_hold_0 ++ dktX6_hold_1
theorem dksX6_hold_0 : cX6_hold.data.toList.drop 0 = dktX6_hold_0 := by decide +kernel
theorem dksX6_hold_1 : cX6_hold.data.toList.drop 24 = dktX6_hold_1 := dk_seg dksX6_hold_0 24 rfl rfl
theorem dX6_hold_0 : decode cX6_hold 0 = .ok (.iconst 0, 1) := dk_3 (dk_at dksX6_hold_0 0 rfl rfl)
theorem dX6_hold_1 : decode cX6_hold 1 = .ok (.istore_n 1, 1) := dk_60 (dk_at dksX6_hold_0 1 rfl rfl)
theorem dX6_hold_2 : decode cX6_hold 2 = .ok (.iload_n 1, 1) := dk_27 (dk_at dksX6_hold_0 2 rfl rfl)
theorem dX6_hold_3 : decode cX6_hold 3 = .ok (.sipush 4653, 3) := dk_17 18 45 (dk_at dksX6_hold_0 3 rfl rfl)
theorem dX6_hold_6 : decode cX6_hold 6 = .ok (.if_icmp .ge 21, 3) := dk_162 0 21 (dk_at dksX6_hold_0 6 rfl rfl)
theorem dX6_hold_9 : decode cX6_hold 9 = .ok (.aload_n 0, 1) := dk_42 (dk_at dksX6_hold_0 9 rfl rfl)
theorem dX6_hold_10 : decode cX6_hold 10 = .ok (.getfield 16, 3) := dk_180 0 16 (dk_at dksX6_hold_0 10 rfl rfl)
theorem dX6_hold_13 : decode cX6_hold 13 = .ok (.iload_n 1, 1) := dk_27 (dk_at dksX6_hold_0 13 rfl rfl)
theorem dX6_hold_14 : decode cX6_hold 14 = .ok (.aload_n 0, 1) := dk_42 (dk_at dksX6_hold_0 14 rfl rfl)
theorem dX6_hold_15 : decode cX6_hold 15 = .ok (.getfield 7, 3) := dk_180 0 7 (dk_at dksX6_hold_0 15 rfl rfl)
theorem dX6_hold_18 : decode cX6_hold 18 = .ok (.iload_n 1, 1) := dk_27 (dk_at dksX6_hold_0 18 rfl rfl)
theorem dX6_hold_19 : decode cX6_hold 19 = .ok (.iaload, 1) := dk_46 (dk_at dksX6_hold_0 19 rfl rfl)
theorem dX6_hold_20 : decode cX6_hold 20 = .ok (.iastore, 1) := dk_79 (dk_at dksX6_hold_0 20 rfl rfl)
theorem dX6_hold_21 : decode cX6_hold 21 = .ok (.iinc 1 1, 3) := dk_132 1 1 (dk_at dksX6_hold_0 21 rfl rfl)
theorem dX6_hold_24 : decode cX6_hold 24 = .ok (.goto (-22), 3) := dk_167 255 234 (dk_at dksX6_hold_1 0 rfl rfl)
theorem dX6_hold_27 : decode cX6_hold 27 = .ok (.return_, 1) := dk_177 (dk_at dksX6_hold_1 3 rfl rfl)
abbrev cX6_puts : ByteArray := prog_15_method_11_code
def yX6_puts : MethodName := ⟨RX6, "puts", "(III)V"⟩
def dkwX6_puts_0 : List UInt8 := [42, 180, 0, 7, 17, 15, 3, 17, 1, 14, 27, 104, 96, 28, 96, 29, 79, 177]
abbrev dktX6_puts_0 : List UInt8 := dkwX6_puts_0 ++ []
theorem dksX6_puts_0 : cX6_puts.data.toList.drop 0 = dktX6_puts_0 := by decide +kernel
theorem dX6_puts_0 : decode cX6_puts 0 = .ok (.aload_n 0, 1) := dk_42 (dk_at dksX6_puts_0 0 rfl rfl)
theorem dX6_puts_1 : decode cX6_puts 1 = .ok (.getfield 7, 3) := dk_180 0 7 (dk_at dksX6_puts_0 1 rfl rfl)
theorem dX6_puts_4 : decode cX6_puts 4 = .ok (.sipush 3843, 3) := dk_17 15 3 (dk_at dksX6_puts_0 4 rfl rfl)
theorem dX6_puts_7 : decode cX6_puts 7 = .ok (.sipush 270, 3) := dk_17 1 14 (dk_at dksX6_puts_0 7 rfl rfl)
theorem dX6_puts_10 : decode cX6_puts 10 = .ok (.iload_n 1, 1) := dk_27 (dk_at dksX6_puts_0 10 rfl rfl)
theorem dX6_puts_11 : decode cX6_puts 11 = .ok (.imul, 1) := dk_104 (dk_at dksX6_puts_0 11 rfl rfl)
theorem dX6_puts_12 : decode cX6_puts 12 = .ok (.iadd, 1) := dk_96 (dk_at dksX6_puts_0 12 rfl rfl)
theorem dX6_puts_13 : decode cX6_puts 13 = .ok (.iload_n 2, 1) := dk_28 (dk_at dksX6_puts_0 13 rfl rfl)
theorem dX6_puts_14 : decode cX6_puts 14 = .ok (.iadd, 1) := dk_96 (dk_at dksX6_puts_0 14 rfl rfl)
theorem dX6_puts_15 : decode cX6_puts 15 = .ok (.iload_n 3, 1) := dk_29 (dk_at dksX6_puts_0 15 rfl rfl)
theorem dX6_puts_16 : decode cX6_puts 16 = .ok (.iastore, 1) := dk_79 (dk_at dksX6_puts_0 16 rfl rfl)
theorem dX6_puts_17 : decode cX6_puts 17 = .ok (.return_, 1) := dk_177 (dk_at dksX6_puts_0 17 rfl rfl)
abbrev cX6_makes : ByteArray := prog_15_method_21_code
def yX6_makes : MethodName := ⟨RX6, "makes", "(IIIII)V"⟩
def dkwX6_makes_4 : List UInt8 := [180, 0, 7, 27, 92, 46, 4, 96, 79, 42, 27, 21, 6, 182, 0, 119, 177]
abbrev dktX6_makes_4 : List UInt8 := dkwX6_makes_4 ++ []
def dkwX6_makes_3 : List UInt8 := [42, 180, 0, 7, 21, 7, 6, 96, 21, 4, 79, 42, 180, 0, 7, 21, 7, 7, 96, 21, 5, 79, 42]
abbrev dktX6_makes_3 : List UInt8 := dkwX6_makes_3 ++ dktX6_makes_4
def dkwX6_makes_2 : List UInt8 := [180, 0, 7, 21, 7, 4, 96, 42, 27, 3, 182, 0, 108, 79, 42, 180, 0, 7, 21, 7, 5, 96, 29, 79]
abbrev dktX6_makes_2 : List UInt8 := dkwX6_makes_2 ++ dktX6_makes_3
def dkwX6_makes_1 : List UInt8 := [3, 42, 27, 3, 182, 0, 108, 4, 96, 182, 0, 115, 42, 180, 0, 7, 21, 7, 3, 96, 28, 79, 42]
abbrev dktX6_makes_1 : List UInt8 := dkwX6_makes_1 ++ dktX6_makes_2
def dkwX6_makes_0 : List UInt8 := [16, 40, 27, 104, 42, 180, 0, 7, 27, 46, 96, 54, 6, 6, 16, 32, 21, 6, 104, 96, 54, 7, 42, 27]
abbrev dktX6_makes_0 : List UInt8 := dkwX6_makes_0 ++ dktX6_makes_1
theorem dksX6_makes_0 : cX6_makes.data.toList.drop 0 = dktX6_makes_0 := by decide +kernel
theorem dksX6_makes_1 : cX6_makes.data.toList.drop 24 = dktX6_makes_1 := dk_seg dksX6_makes_0 24 rfl rfl
theorem dksX6_makes_2 : cX6_makes.data.toList.drop 47 = dktX6_makes_2 := dk_seg dksX6_makes_1 23 rfl rfl
theorem dksX6_makes_3 : cX6_makes.data.toList.drop 71 = dktX6_makes_3 := dk_seg dksX6_makes_2 24 rfl rfl
theorem dksX6_makes_4 : cX6_makes.data.toList.drop 94 = dktX6_makes_4 := dk_seg dksX6_makes_3 23 rfl rfl
theorem dX6_makes_0 : decode cX6_makes 0 = .ok (.bipush 40, 2) := dk_16 40 (dk_at dksX6_makes_0 0 rfl rfl)
theorem dX6_makes_2 : decode cX6_makes 2 = .ok (.iload_n 1, 1) := dk_27 (dk_at dksX6_makes_0 2 rfl rfl)
theorem dX6_makes_3 : decode cX6_makes 3 = .ok (.imul, 1) := dk_104 (dk_at dksX6_makes_0 3 rfl rfl)
theorem dX6_makes_4 : decode cX6_makes 4 = .ok (.aload_n 0, 1) := dk_42 (dk_at dksX6_makes_0 4 rfl rfl)
theorem dX6_makes_5 : decode cX6_makes 5 = .ok (.getfield 7, 3) := dk_180 0 7 (dk_at dksX6_makes_0 5 rfl rfl)
theorem dX6_makes_8 : decode cX6_makes 8 = .ok (.iload_n 1, 1) := dk_27 (dk_at dksX6_makes_0 8 rfl rfl)
theorem dX6_makes_9 : decode cX6_makes 9 = .ok (.iaload, 1) := dk_46 (dk_at dksX6_makes_0 9 rfl rfl)
theorem dX6_makes_10 : decode cX6_makes 10 = .ok (.iadd, 1) := dk_96 (dk_at dksX6_makes_0 10 rfl rfl)
theorem dX6_makes_11 : decode cX6_makes 11 = .ok (.istore 6, 2) := dk_54 6 (dk_at dksX6_makes_0 11 rfl rfl)
theorem dX6_makes_13 : decode cX6_makes 13 = .ok (.iconst 3, 1) := dk_6 (dk_at dksX6_makes_0 13 rfl rfl)
theorem dX6_makes_14 : decode cX6_makes 14 = .ok (.bipush 32, 2) := dk_16 32 (dk_at dksX6_makes_0 14 rfl rfl)
theorem dX6_makes_16 : decode cX6_makes 16 = .ok (.iload 6, 2) := dk_21 6 (dk_at dksX6_makes_0 16 rfl rfl)
theorem dX6_makes_18 : decode cX6_makes 18 = .ok (.imul, 1) := dk_104 (dk_at dksX6_makes_0 18 rfl rfl)
theorem dX6_makes_19 : decode cX6_makes 19 = .ok (.iadd, 1) := dk_96 (dk_at dksX6_makes_0 19 rfl rfl)
theorem dX6_makes_20 : decode cX6_makes 20 = .ok (.istore 7, 2) := dk_54 7 (dk_at dksX6_makes_0 20 rfl rfl)
theorem dX6_makes_22 : decode cX6_makes 22 = .ok (.aload_n 0, 1) := dk_42 (dk_at dksX6_makes_0 22 rfl rfl)
theorem dX6_makes_23 : decode cX6_makes 23 = .ok (.iload_n 1, 1) := dk_27 (dk_at dksX6_makes_0 23 rfl rfl)
theorem dX6_makes_24 : decode cX6_makes 24 = .ok (.iconst 0, 1) := dk_3 (dk_at dksX6_makes_1 0 rfl rfl)
theorem dX6_makes_25 : decode cX6_makes 25 = .ok (.aload_n 0, 1) := dk_42 (dk_at dksX6_makes_1 1 rfl rfl)
theorem dX6_makes_26 : decode cX6_makes 26 = .ok (.iload_n 1, 1) := dk_27 (dk_at dksX6_makes_1 2 rfl rfl)
theorem dX6_makes_27 : decode cX6_makes 27 = .ok (.iconst 0, 1) := dk_3 (dk_at dksX6_makes_1 3 rfl rfl)
theorem dX6_makes_28 : decode cX6_makes 28 = .ok (.invokevirtual 108, 3) := dk_182 0 108 (dk_at dksX6_makes_1 4 rfl rfl)
theorem dX6_makes_31 : decode cX6_makes 31 = .ok (.iconst 1, 1) := dk_4 (dk_at dksX6_makes_1 7 rfl rfl)
theorem dX6_makes_32 : decode cX6_makes 32 = .ok (.iadd, 1) := dk_96 (dk_at dksX6_makes_1 8 rfl rfl)
theorem dX6_makes_33 : decode cX6_makes 33 = .ok (.invokevirtual 115, 3) := dk_182 0 115 (dk_at dksX6_makes_1 9 rfl rfl)
theorem dX6_makes_36 : decode cX6_makes 36 = .ok (.aload_n 0, 1) := dk_42 (dk_at dksX6_makes_1 12 rfl rfl)
theorem dX6_makes_37 : decode cX6_makes 37 = .ok (.getfield 7, 3) := dk_180 0 7 (dk_at dksX6_makes_1 13 rfl rfl)
theorem dX6_makes_40 : decode cX6_makes 40 = .ok (.iload 7, 2) := dk_21 7 (dk_at dksX6_makes_1 16 rfl rfl)
theorem dX6_makes_42 : decode cX6_makes 42 = .ok (.iconst 0, 1) := dk_3 (dk_at dksX6_makes_1 18 rfl rfl)
theorem dX6_makes_43 : decode cX6_makes 43 = .ok (.iadd, 1) := dk_96 (dk_at dksX6_makes_1 19 rfl rfl)
theorem dX6_makes_44 : decode cX6_makes 44 = .ok (.iload_n 2, 1) := dk_28 (dk_at dksX6_makes_1 20 rfl rfl)
theorem dX6_makes_45 : decode cX6_makes 45 = .ok (.iastore, 1) := dk_79 (dk_at dksX6_makes_1 21 rfl rfl)
theorem dX6_makes_46 : decode cX6_makes 46 = .ok (.aload_n 0, 1) := dk_42 (dk_at dksX6_makes_1 22 rfl rfl)
theorem dX6_makes_47 : decode cX6_makes 47 = .ok (.getfield 7, 3) := dk_180 0 7 (dk_at dksX6_makes_2 0 rfl rfl)
theorem dX6_makes_50 : decode cX6_makes 50 = .ok (.iload 7, 2) := dk_21 7 (dk_at dksX6_makes_2 3 rfl rfl)
theorem dX6_makes_52 : decode cX6_makes 52 = .ok (.iconst 1, 1) := dk_4 (dk_at dksX6_makes_2 5 rfl rfl)
theorem dX6_makes_53 : decode cX6_makes 53 = .ok (.iadd, 1) := dk_96 (dk_at dksX6_makes_2 6 rfl rfl)
theorem dX6_makes_54 : decode cX6_makes 54 = .ok (.aload_n 0, 1) := dk_42 (dk_at dksX6_makes_2 7 rfl rfl)
theorem dX6_makes_55 : decode cX6_makes 55 = .ok (.iload_n 1, 1) := dk_27 (dk_at dksX6_makes_2 8 rfl rfl)
theorem dX6_makes_56 : decode cX6_makes 56 = .ok (.iconst 0, 1) := dk_3 (dk_at dksX6_makes_2 9 rfl rfl)
theorem dX6_makes_57 : decode cX6_makes 57 = .ok (.invokevirtual 108, 3) := dk_182 0 108 (dk_at dksX6_makes_2 10 rfl rfl)
theorem dX6_makes_60 : decode cX6_makes 60 = .ok (.iastore, 1) := dk_79 (dk_at dksX6_makes_2 13 rfl rfl)
theorem dX6_makes_61 : decode cX6_makes 61 = .ok (.aload_n 0, 1) := dk_42 (dk_at dksX6_makes_2 14 rfl rfl)
theorem dX6_makes_62 : decode cX6_makes 62 = .ok (.getfield 7, 3) := dk_180 0 7 (dk_at dksX6_makes_2 15 rfl rfl)
theorem dX6_makes_65 : decode cX6_makes 65 = .ok (.iload 7, 2) := dk_21 7 (dk_at dksX6_makes_2 18 rfl rfl)
theorem dX6_makes_67 : decode cX6_makes 67 = .ok (.iconst 2, 1) := dk_5 (dk_at dksX6_makes_2 20 rfl rfl)
theorem dX6_makes_68 : decode cX6_makes 68 = .ok (.iadd, 1) := dk_96 (dk_at dksX6_makes_2 21 rfl rfl)
theorem dX6_makes_69 : decode cX6_makes 69 = .ok (.iload_n 3, 1) := dk_29 (dk_at dksX6_makes_2 22 rfl rfl)
theorem dX6_makes_70 : decode cX6_makes 70 = .ok (.iastore, 1) := dk_79 (dk_at dksX6_makes_2 23 rfl rfl)
theorem dX6_makes_71 : decode cX6_makes 71 = .ok (.aload_n 0, 1) := dk_42 (dk_at dksX6_makes_3 0 rfl rfl)
theorem dX6_makes_72 : decode cX6_makes 72 = .ok (.getfield 7, 3) := dk_180 0 7 (dk_at dksX6_makes_3 1 rfl rfl)
theorem dX6_makes_75 : decode cX6_makes 75 = .ok (.iload 7, 2) := dk_21 7 (dk_at dksX6_makes_3 4 rfl rfl)
theorem dX6_makes_77 : decode cX6_makes 77 = .ok (.iconst 3, 1) := dk_6 (dk_at dksX6_makes_3 6 rfl rfl)
theorem dX6_makes_78 : decode cX6_makes 78 = .ok (.iadd, 1) := dk_96 (dk_at dksX6_makes_3 7 rfl rfl)
theorem dX6_makes_79 : decode cX6_makes 79 = .ok (.iload 4, 2) := dk_21 4 (dk_at dksX6_makes_3 8 rfl rfl)
theorem dX6_makes_81 : decode cX6_makes 81 = .ok (.iastore, 1) := dk_79 (dk_at dksX6_makes_3 10 rfl rfl)
theorem dX6_makes_82 : decode cX6_makes 82 = .ok (.aload_n 0, 1) := dk_42 (dk_at dksX6_makes_3 11 rfl rfl)
theorem dX6_makes_83 : decode cX6_makes 83 = .ok (.getfield 7, 3) := dk_180 0 7 (dk_at dksX6_makes_3 12 rfl rfl)
theorem dX6_makes_86 : decode cX6_makes 86 = .ok (.iload 7, 2) := dk_21 7 (dk_at dksX6_makes_3 15 rfl rfl)
theorem dX6_makes_88 : decode cX6_makes 88 = .ok (.iconst 4, 1) := dk_7 (dk_at dksX6_makes_3 17 rfl rfl)
theorem dX6_makes_89 : decode cX6_makes 89 = .ok (.iadd, 1) := dk_96 (dk_at dksX6_makes_3 18 rfl rfl)
theorem dX6_makes_90 : decode cX6_makes 90 = .ok (.iload 5, 2) := dk_21 5 (dk_at dksX6_makes_3 19 rfl rfl)
theorem dX6_makes_92 : decode cX6_makes 92 = .ok (.iastore, 1) := dk_79 (dk_at dksX6_makes_3 21 rfl rfl)
theorem dX6_makes_93 : decode cX6_makes 93 = .ok (.aload_n 0, 1) := dk_42 (dk_at dksX6_makes_3 22 rfl rfl)
theorem dX6_makes_94 : decode cX6_makes 94 = .ok (.getfield 7, 3) := dk_180 0 7 (dk_at dksX6_makes_4 0 rfl rfl)
theorem dX6_makes_97 : decode cX6_makes 97 = .ok (.iload_n 1, 1) := dk_27 (dk_at dksX6_makes_4 3 rfl rfl)
theorem dX6_makes_98 : decode cX6_makes 98 = .ok (.dup2, 1) := dk_92 (dk_at dksX6_makes_4 4 rfl rfl)
theorem dX6_makes_99 : decode cX6_makes 99 = .ok (.iaload, 1) := dk_46 (dk_at dksX6_makes_4 5 rfl rfl)
theorem dX6_makes_100 : decode cX6_makes 100 = .ok (.iconst 1, 1) := dk_4 (dk_at dksX6_makes_4 6 rfl rfl)
theorem dX6_makes_101 : decode cX6_makes 101 = .ok (.iadd, 1) := dk_96 (dk_at dksX6_makes_4 7 rfl rfl)
theorem dX6_makes_102 : decode cX6_makes 102 = .ok (.iastore, 1) := dk_79 (dk_at dksX6_makes_4 8 rfl rfl)
theorem dX6_makes_103 : decode cX6_makes 103 = .ok (.aload_n 0, 1) := dk_42 (dk_at dksX6_makes_4 9 rfl rfl)
theorem dX6_makes_104 : decode cX6_makes 104 = .ok (.iload_n 1, 1) := dk_27 (dk_at dksX6_makes_4 10 rfl rfl)
theorem dX6_makes_105 : decode cX6_makes 105 = .ok (.iload 6, 2) := dk_21 6 (dk_at dksX6_makes_4 11 rfl rfl)
theorem dX6_makes_107 : decode cX6_makes 107 = .ok (.invokevirtual 119, 3) := dk_182 0 119 (dk_at dksX6_makes_4 13 rfl rfl)
theorem dX6_makes_110 : decode cX6_makes 110 = .ok (.return_, 1) := dk_177 (dk_at dksX6_makes_4 16 rfl rfl)
abbrev cX6_carries : ByteArray := prog_15_method_20_code
def yX6_carries : MethodName := ⟨RX6, "carries", "(II)V"⟩
def dkwX6_carries_9 : List UInt8 := [96, 21, 4, 79, 177]
abbrev dktX6_carries_9 : List UInt8 := dkwX6_carries_9 ++ []
def dkwX6_carries_8 : List UInt8 := [42, 28, 7, 182, 0, 105, 79, 42, 180, 0, 7, 21, 5, 4, 96, 29, 79, 42, 180, 0, 7, 21, 5, 5]
abbrev dktX6_carries_8 : List UInt8 := dkwX6_carries_8 ++ dktX6_carries_9
def dkwX6_carries_7 : List UInt8 := [46, 42, 180, 0, 7, 21, 5, 5, 96, 46, 184, 0, 111, 153, 0, 39, 42, 180, 0, 7, 21, 5, 3, 96]
abbrev dktX6_carries_7 : List UInt8 := dkwX6_carries_7 ++ dktX6_carries_8
def dkwX6_carries_6 : List UInt8 := [160, 0, 13, 42, 180, 0, 7, 21, 5, 6, 96, 4, 79, 29, 21, 4, 42, 180, 0, 7, 21, 5, 4, 96]
abbrev dktX6_carries_6 : List UInt8 := dkwX6_carries_6 ++ dktX6_carries_7
def dkwX6_carries_5 : List UInt8 := [6, 160, 0, 14, 42, 180, 0, 7, 21, 5, 7, 96, 4, 79, 177, 42, 28, 3, 182, 0, 105, 4]
abbrev dktX6_carries_5 : List UInt8 := dkwX6_carries_5 ++ dktX6_carries_6
def dkwX6_carries_4 : List UInt8 := [28, 5, 182, 0, 105, 104, 42, 28, 6, 182, 0, 105, 96, 184, 0, 72, 54, 5, 42, 28, 3, 182, 0, 105]
abbrev dktX6_carries_4 : List UInt8 := dkwX6_carries_4 ++ dktX6_carries_5
def dkwX6_carries_3 : List UInt8 := [21, 6, 16, 40, 108, 184, 0, 111, 153, 0, 11, 42, 27, 21, 5, 28, 182, 0, 115, 177, 27, 16, 12, 42]
abbrev dktX6_carries_3 : List UInt8 := dkwX6_carries_3 ++ dktX6_carries_4
def dkwX6_carries_2 : List UInt8 := [21, 5, 182, 0, 108, 54, 6, 21, 6, 2, 159, 0, 24, 29, 21, 4, 42, 21, 6, 4, 182, 0, 105]
abbrev dktX6_carries_2 : List UInt8 := dkwX6_carries_2 ++ dktX6_carries_3
def dkwX6_carries_1 : List UInt8 := [16, 126, 16, 12, 42, 28, 6, 182, 0, 105, 104, 96, 42, 28, 7, 182, 0, 105, 96, 54, 5, 42, 27]
abbrev dktX6_carries_1 : List UInt8 := dkwX6_carries_1 ++ dktX6_carries_2
def dkwX6_carries_0 : List UInt8 := [42, 28, 4, 182, 0, 105, 62, 28, 16, 40, 108, 54, 4, 42, 28, 3, 182, 0, 105, 7, 160, 0, 69]
abbrev dktX6_carries_0 : List UInt8 := dkwX6_carries_0 ++ dktX6_carries_1
theorem dksX6_carries_0 : cX6_carries.data.toList.drop 0 = dktX6_carries_0 := by decide +kernel
theorem dksX6_carries_1 : cX6_carries.data.toList.drop 23 = dktX6_carries_1 := dk_seg dksX6_carries_0 23 rfl rfl
theorem dksX6_carries_2 : cX6_carries.data.toList.drop 46 = dktX6_carries_2 := dk_seg dksX6_carries_1 23 rfl rfl
theorem dksX6_carries_3 : cX6_carries.data.toList.drop 69 = dktX6_carries_3 := dk_seg dksX6_carries_2 23 rfl rfl
theorem dksX6_carries_4 : cX6_carries.data.toList.drop 93 = dktX6_carries_4 := dk_seg dksX6_carries_3 24 rfl rfl
theorem dksX6_carries_5 : cX6_carries.data.toList.drop 117 = dktX6_carries_5 := dk_seg dksX6_carries_4 24 rfl rfl
theorem dksX6_carries_6 : cX6_carries.data.toList.drop 139 = dktX6_carries_6 := dk_seg dksX6_carries_5 22 rfl rfl
theorem dksX6_carries_7 : cX6_carries.data.toList.drop 163 = dktX6_carries_7 := dk_seg dksX6_carries_6 24 rfl rfl
theorem dksX6_carries_8 : cX6_carries.data.toList.drop 187 = dktX6_carries_8 := dk_seg dksX6_carries_7 24 rfl rfl
theorem dksX6_carries_9 : cX6_carries.data.toList.drop 211 = dktX6_carries_9 := dk_seg dksX6_carries_8 24 rfl rfl
theorem dX6_carries_0 : decode cX6_carries 0 = .ok (.aload_n 0, 1) := dk_42 (dk_at dksX6_carries_0 0 rfl rfl)
theorem dX6_carries_1 : decode cX6_carries 1 = .ok (.iload_n 2, 1) := dk_28 (dk_at dksX6_carries_0 1 rfl rfl)
theorem dX6_carries_2 : decode cX6_carries 2 = .ok (.iconst 1, 1) := dk_4 (dk_at dksX6_carries_0 2 rfl rfl)
theorem dX6_carries_3 : decode cX6_carries 3 = .ok (.invokevirtual 105, 3) := dk_182 0 105 (dk_at dksX6_carries_0 3 rfl rfl)
theorem dX6_carries_6 : decode cX6_carries 6 = .ok (.istore_n 3, 1) := dk_62 (dk_at dksX6_carries_0 6 rfl rfl)
theorem dX6_carries_7 : decode cX6_carries 7 = .ok (.iload_n 2, 1) := dk_28 (dk_at dksX6_carries_0 7 rfl rfl)
theorem dX6_carries_8 : decode cX6_carries 8 = .ok (.bipush 40, 2) := dk_16 40 (dk_at dksX6_carries_0 8 rfl rfl)
theorem dX6_carries_10 : decode cX6_carries 10 = .ok (.idiv, 1) := dk_108 (dk_at dksX6_carries_0 10 rfl rfl)
theorem dX6_carries_11 : decode cX6_carries 11 = .ok (.istore 4, 2) := dk_54 4 (dk_at dksX6_carries_0 11 rfl rfl)
theorem dX6_carries_13 : decode cX6_carries 13 = .ok (.aload_n 0, 1) := dk_42 (dk_at dksX6_carries_0 13 rfl rfl)
theorem dX6_carries_14 : decode cX6_carries 14 = .ok (.iload_n 2, 1) := dk_28 (dk_at dksX6_carries_0 14 rfl rfl)
theorem dX6_carries_15 : decode cX6_carries 15 = .ok (.iconst 0, 1) := dk_3 (dk_at dksX6_carries_0 15 rfl rfl)
theorem dX6_carries_16 : decode cX6_carries 16 = .ok (.invokevirtual 105, 3) := dk_182 0 105 (dk_at dksX6_carries_0 16 rfl rfl)
theorem dX6_carries_19 : decode cX6_carries 19 = .ok (.iconst 4, 1) := dk_7 (dk_at dksX6_carries_0 19 rfl rfl)
theorem dX6_carries_20 : decode cX6_carries 20 = .ok (.if_icmp .ne 69, 3) := dk_160 0 69 (dk_at dksX6_carries_0 20 rfl rfl)
theorem dX6_carries_23 : decode cX6_carries 23 = .ok (.bipush 126, 2) := dk_16 126 (dk_at dksX6_carries_1 0 rfl rfl)
theorem dX6_carries_25 : decode cX6_carries 25 = .ok (.bipush 12, 2) := dk_16 12 (dk_at dksX6_carries_1 2 rfl rfl)
theorem dX6_carries_27 : decode cX6_carries 27 = .ok (.aload_n 0, 1) := dk_42 (dk_at dksX6_carries_1 4 rfl rfl)
theorem dX6_carries_28 : decode cX6_carries 28 = .ok (.iload_n 2, 1) := dk_28 (dk_at dksX6_carries_1 5 rfl rfl)
theorem dX6_carries_29 : decode cX6_carries 29 = .ok (.iconst 3, 1) := dk_6 (dk_at dksX6_carries_1 6 rfl rfl)
theorem dX6_carries_30 : decode cX6_carries 30 = .ok (.invokevirtual 105, 3) := dk_182 0 105 (dk_at dksX6_carries_1 7 rfl rfl)
theorem dX6_carries_33 : decode cX6_carries 33 = .ok (.imul, 1) := dk_104 (dk_at dksX6_carries_1 10 rfl rfl)
theorem dX6_carries_34 : decode cX6_carries 34 = .ok (.iadd, 1) := dk_96 (dk_at dksX6_carries_1 11 rfl rfl)
theorem dX6_carries_35 : decode cX6_carries 35 = .ok (.aload_n 0, 1) := dk_42 (dk_at dksX6_carries_1 12 rfl rfl)
theorem dX6_carries_36 : decode cX6_carries 36 = .ok (.iload_n 2, 1) := dk_28 (dk_at dksX6_carries_1 13 rfl rfl)
theorem dX6_carries_37 : decode cX6_carries 37 = .ok (.iconst 4, 1) := dk_7 (dk_at dksX6_carries_1 14 rfl rfl)
theorem dX6_carries_38 : decode cX6_carries 38 = .ok (.invokevirtual 105, 3) := dk_182 0 105 (dk_at dksX6_carries_1 15 rfl rfl)
theorem dX6_carries_41 : decode cX6_carries 41 = .ok (.iadd, 1) := dk_96 (dk_at dksX6_carries_1 18 rfl rfl)
theorem dX6_carries_42 : decode cX6_carries 42 = .ok (.istore 5, 2) := dk_54 5 (dk_at dksX6_carries_1 19 rfl rfl)
theorem dX6_carries_44 : decode cX6_carries 44 = .ok (.aload_n 0, 1) := dk_42 (dk_at dksX6_carries_1 21 rfl rfl)
theorem dX6_carries_45 : decode cX6_carries 45 = .ok (.iload_n 1, 1) := dk_27 (dk_at dksX6_carries_1 22 rfl rfl)
theorem dX6_carries_46 : decode cX6_carries 46 = .ok (.iload 5, 2) := dk_21 5 (dk_at dksX6_carries_2 0 rfl rfl)
theorem dX6_carries_48 : decode cX6_carries 48 = .ok (.invokevirtual 108, 3) := dk_182 0 108 (dk_at dksX6_carries_2 2 rfl rfl)
theorem dX6_carries_51 : decode cX6_carries 51 = .ok (.istore 6, 2) := dk_54 6 (dk_at dksX6_carries_2 5 rfl rfl)
theorem dX6_carries_53 : decode cX6_carries 53 = .ok (.iload 6, 2) := dk_21 6 (dk_at dksX6_carries_2 7 rfl rfl)
theorem dX6_carries_55 : decode cX6_carries 55 = .ok (.iconst (-1), 1) := dk_2 (dk_at dksX6_carries_2 9 rfl rfl)
theorem dX6_carries_56 : decode cX6_carries 56 = .ok (.if_icmp .eq 24, 3) := dk_159 0 24 (dk_at dksX6_carries_2 10 rfl rfl)
theorem dX6_carries_59 : decode cX6_carries 59 = .ok (.iload_n 3, 1) := dk_29 (dk_at dksX6_carries_2 13 rfl rfl)
theorem dX6_carries_60 : decode cX6_carries 60 = .ok (.iload 4, 2) := dk_21 4 (dk_at dksX6_carries_2 14 rfl rfl)
theorem dX6_carries_62 : decode cX6_carries 62 = .ok (.aload_n 0, 1) := dk_42 (dk_at dksX6_carries_2 16 rfl rfl)
theorem dX6_carries_63 : decode cX6_carries 63 = .ok (.iload 6, 2) := dk_21 6 (dk_at dksX6_carries_2 17 rfl rfl)
theorem dX6_carries_65 : decode cX6_carries 65 = .ok (.iconst 1, 1) := dk_4 (dk_at dksX6_carries_2 19 rfl rfl)
theorem dX6_carries_66 : decode cX6_carries 66 = .ok (.invokevirtual 105, 3) := dk_182 0 105 (dk_at dksX6_carries_2 20 rfl rfl)
theorem dX6_carries_69 : decode cX6_carries 69 = .ok (.iload 6, 2) := dk_21 6 (dk_at dksX6_carries_3 0 rfl rfl)
theorem dX6_carries_71 : decode cX6_carries 71 = .ok (.bipush 40, 2) := dk_16 40 (dk_at dksX6_carries_3 2 rfl rfl)
theorem dX6_carries_73 : decode cX6_carries 73 = .ok (.idiv, 1) := dk_108 (dk_at dksX6_carries_3 4 rfl rfl)
theorem dX6_carries_74 : decode cX6_carries 74 = .ok (.invokestatic 111, 3) := dk_184 0 111 (dk_at dksX6_carries_3 5 rfl rfl)
theorem dX6_carries_77 : decode cX6_carries 77 = .ok (.ifCond .eq 11, 3) := dk_153 0 11 (dk_at dksX6_carries_3 8 rfl rfl)
theorem dX6_carries_80 : decode cX6_carries 80 = .ok (.aload_n 0, 1) := dk_42 (dk_at dksX6_carries_3 11 rfl rfl)
theorem dX6_carries_81 : decode cX6_carries 81 = .ok (.iload_n 1, 1) := dk_27 (dk_at dksX6_carries_3 12 rfl rfl)
theorem dX6_carries_82 : decode cX6_carries 82 = .ok (.iload 5, 2) := dk_21 5 (dk_at dksX6_carries_3 13 rfl rfl)
theorem dX6_carries_84 : decode cX6_carries 84 = .ok (.iload_n 2, 1) := dk_28 (dk_at dksX6_carries_3 15 rfl rfl)
theorem dX6_carries_85 : decode cX6_carries 85 = .ok (.invokevirtual 115, 3) := dk_182 0 115 (dk_at dksX6_carries_3 16 rfl rfl)
theorem dX6_carries_88 : decode cX6_carries 88 = .ok (.return_, 1) := dk_177 (dk_at dksX6_carries_3 19 rfl rfl)
theorem dX6_carries_89 : decode cX6_carries 89 = .ok (.iload_n 1, 1) := dk_27 (dk_at dksX6_carries_3 20 rfl rfl)
theorem dX6_carries_90 : decode cX6_carries 90 = .ok (.bipush 12, 2) := dk_16 12 (dk_at dksX6_carries_3 21 rfl rfl)
theorem dX6_carries_92 : decode cX6_carries 92 = .ok (.aload_n 0, 1) := dk_42 (dk_at dksX6_carries_3 23 rfl rfl)
theorem dX6_carries_93 : decode cX6_carries 93 = .ok (.iload_n 2, 1) := dk_28 (dk_at dksX6_carries_4 0 rfl rfl)
theorem dX6_carries_94 : decode cX6_carries 94 = .ok (.iconst 2, 1) := dk_5 (dk_at dksX6_carries_4 1 rfl rfl)
theorem dX6_carries_95 : decode cX6_carries 95 = .ok (.invokevirtual 105, 3) := dk_182 0 105 (dk_at dksX6_carries_4 2 rfl rfl)
theorem dX6_carries_98 : decode cX6_carries 98 = .ok (.imul, 1) := dk_104 (dk_at dksX6_carries_4 5 rfl rfl)
theorem dX6_carries_99 : decode cX6_carries 99 = .ok (.aload_n 0, 1) := dk_42 (dk_at dksX6_carries_4 6 rfl rfl)
theorem dX6_carries_100 : decode cX6_carries 100 = .ok (.iload_n 2, 1) := dk_28 (dk_at dksX6_carries_4 7 rfl rfl)
theorem dX6_carries_101 : decode cX6_carries 101 = .ok (.iconst 3, 1) := dk_6 (dk_at dksX6_carries_4 8 rfl rfl)
theorem dX6_carries_102 : decode cX6_carries 102 = .ok (.invokevirtual 105, 3) := dk_182 0 105 (dk_at dksX6_carries_4 9 rfl rfl)
theorem dX6_carries_105 : decode cX6_carries 105 = .ok (.iadd, 1) := dk_96 (dk_at dksX6_carries_4 12 rfl rfl)
theorem dX6_carries_106 : decode cX6_carries 106 = .ok (.invokestatic 72, 3) := dk_184 0 72 (dk_at dksX6_carries_4 13 rfl rfl)
theorem dX6_carries_109 : decode cX6_carries 109 = .ok (.istore 5, 2) := dk_54 5 (dk_at dksX6_carries_4 16 rfl rfl)
theorem dX6_carries_111 : decode cX6_carries 111 = .ok (.aload_n 0, 1) := dk_42 (dk_at dksX6_carries_4 18 rfl rfl)
theorem dX6_carries_112 : decode cX6_carries 112 = .ok (.iload_n 2, 1) := dk_28 (dk_at dksX6_carries_4 19 rfl rfl)
theorem dX6_carries_113 : decode cX6_carries 113 = .ok (.iconst 0, 1) := dk_3 (dk_at dksX6_carries_4 20 rfl rfl)
theorem dX6_carries_114 : decode cX6_carries 114 = .ok (.invokevirtual 105, 3) := dk_182 0 105 (dk_at dksX6_carries_4 21 rfl rfl)
theorem dX6_carries_117 : decode cX6_carries 117 = .ok (.iconst 3, 1) := dk_6 (dk_at dksX6_carries_5 0 rfl rfl)
theorem dX6_carries_118 : decode cX6_carries 118 = .ok (.if_icmp .ne 14, 3) := dk_160 0 14 (dk_at dksX6_carries_5 1 rfl rfl)
theorem dX6_carries_121 : decode cX6_carries 121 = .ok (.aload_n 0, 1) := dk_42 (dk_at dksX6_carries_5 4 rfl rfl)
theorem dX6_carries_122 : decode cX6_carries 122 = .ok (.getfield 7, 3) := dk_180 0 7 (dk_at dksX6_carries_5 5 rfl rfl)
theorem dX6_carries_125 : decode cX6_carries 125 = .ok (.iload 5, 2) := dk_21 5 (dk_at dksX6_carries_5 8 rfl rfl)
theorem dX6_carries_127 : decode cX6_carries 127 = .ok (.iconst 4, 1) := dk_7 (dk_at dksX6_carries_5 10 rfl rfl)
theorem dX6_carries_128 : decode cX6_carries 128 = .ok (.iadd, 1) := dk_96 (dk_at dksX6_carries_5 11 rfl rfl)
theorem dX6_carries_129 : decode cX6_carries 129 = .ok (.iconst 1, 1) := dk_4 (dk_at dksX6_carries_5 12 rfl rfl)
theorem dX6_carries_130 : decode cX6_carries 130 = .ok (.iastore, 1) := dk_79 (dk_at dksX6_carries_5 13 rfl rfl)
theorem dX6_carries_131 : decode cX6_carries 131 = .ok (.return_, 1) := dk_177 (dk_at dksX6_carries_5 14 rfl rfl)
theorem dX6_carries_132 : decode cX6_carries 132 = .ok (.aload_n 0, 1) := dk_42 (dk_at dksX6_carries_5 15 rfl rfl)
theorem dX6_carries_133 : decode cX6_carries 133 = .ok (.iload_n 2, 1) := dk_28 (dk_at dksX6_carries_5 16 rfl rfl)
theorem dX6_carries_134 : decode cX6_carries 134 = .ok (.iconst 0, 1) := dk_3 (dk_at dksX6_carries_5 17 rfl rfl)
theorem dX6_carries_135 : decode cX6_carries 135 = .ok (.invokevirtual 105, 3) := dk_182 0 105 (dk_at dksX6_carries_5 18 rfl rfl)
theorem dX6_carries_138 : decode cX6_carries 138 = .ok (.iconst 1, 1) := dk_4 (dk_at dksX6_carries_5 21 rfl rfl)
theorem dX6_carries_139 : decode cX6_carries 139 = .ok (.if_icmp .ne 13, 3) := dk_160 0 13 (dk_at dksX6_carries_6 0 rfl rfl)
theorem dX6_carries_142 : decode cX6_carries 142 = .ok (.aload_n 0, 1) := dk_42 (dk_at dksX6_carries_6 3 rfl rfl)
theorem dX6_carries_143 : decode cX6_carries 143 = .ok (.getfield 7, 3) := dk_180 0 7 (dk_at dksX6_carries_6 4 rfl rfl)
theorem dX6_carries_146 : decode cX6_carries 146 = .ok (.iload 5, 2) := dk_21 5 (dk_at dksX6_carries_6 7 rfl rfl)
theorem dX6_carries_148 : decode cX6_carries 148 = .ok (.iconst 3, 1) := dk_6 (dk_at dksX6_carries_6 9 rfl rfl)
theorem dX6_carries_149 : decode cX6_carries 149 = .ok (.iadd, 1) := dk_96 (dk_at dksX6_carries_6 10 rfl rfl)
theorem dX6_carries_150 : decode cX6_carries 150 = .ok (.iconst 1, 1) := dk_4 (dk_at dksX6_carries_6 11 rfl rfl)
theorem dX6_carries_151 : decode cX6_carries 151 = .ok (.iastore, 1) := dk_79 (dk_at dksX6_carries_6 12 rfl rfl)
theorem dX6_carries_152 : decode cX6_carries 152 = .ok (.iload_n 3, 1) := dk_29 (dk_at dksX6_carries_6 13 rfl rfl)
theorem dX6_carries_153 : decode cX6_carries 153 = .ok (.iload 4, 2) := dk_21 4 (dk_at dksX6_carries_6 14 rfl rfl)
theorem dX6_carries_155 : decode cX6_carries 155 = .ok (.aload_n 0, 1) := dk_42 (dk_at dksX6_carries_6 16 rfl rfl)
theorem dX6_carries_156 : decode cX6_carries 156 = .ok (.getfield 7, 3) := dk_180 0 7 (dk_at dksX6_carries_6 17 rfl rfl)
theorem dX6_carries_159 : decode cX6_carries 159 = .ok (.iload 5, 2) := dk_21 5 (dk_at dksX6_carries_6 20 rfl rfl)
theorem dX6_carries_161 : decode cX6_carries 161 = .ok (.iconst 1, 1) := dk_4 (dk_at dksX6_carries_6 22 rfl rfl)
theorem dX6_carries_162 : decode cX6_carries 162 = .ok (.iadd, 1) := dk_96 (dk_at dksX6_carries_6 23 rfl rfl)
theorem dX6_carries_163 : decode cX6_carries 163 = .ok (.iaload, 1) := dk_46 (dk_at dksX6_carries_7 0 rfl rfl)
theorem dX6_carries_164 : decode cX6_carries 164 = .ok (.aload_n 0, 1) := dk_42 (dk_at dksX6_carries_7 1 rfl rfl)
theorem dX6_carries_165 : decode cX6_carries 165 = .ok (.getfield 7, 3) := dk_180 0 7 (dk_at dksX6_carries_7 2 rfl rfl)
theorem dX6_carries_168 : decode cX6_carries 168 = .ok (.iload 5, 2) := dk_21 5 (dk_at dksX6_carries_7 5 rfl rfl)
theorem dX6_carries_170 : decode cX6_carries 170 = .ok (.iconst 2, 1) := dk_5 (dk_at dksX6_carries_7 7 rfl rfl)
theorem dX6_carries_171 : decode cX6_carries 171 = .ok (.iadd, 1) := dk_96 (dk_at dksX6_carries_7 8 rfl rfl)
theorem dX6_carries_172 : decode cX6_carries 172 = .ok (.iaload, 1) := dk_46 (dk_at dksX6_carries_7 9 rfl rfl)
theorem dX6_carries_173 : decode cX6_carries 173 = .ok (.invokestatic 111, 3) := dk_184 0 111 (dk_at dksX6_carries_7 10 rfl rfl)
theorem dX6_carries_176 : decode cX6_carries 176 = .ok (.ifCond .eq 39, 3) := dk_153 0 39 (dk_at dksX6_carries_7 13 rfl rfl)
theorem dX6_carries_179 : decode cX6_carries 179 = .ok (.aload_n 0, 1) := dk_42 (dk_at dksX6_carries_7 16 rfl rfl)
theorem dX6_carries_180 : decode cX6_carries 180 = .ok (.getfield 7, 3) := dk_180 0 7 (dk_at dksX6_carries_7 17 rfl rfl)
theorem dX6_carries_183 : decode cX6_carries 183 = .ok (.iload 5, 2) := dk_21 5 (dk_at dksX6_carries_7 20 rfl rfl)
theorem dX6_carries_185 : decode cX6_carries 185 = .ok (.iconst 0, 1) := dk_3 (dk_at dksX6_carries_7 22 rfl rfl)
theorem dX6_carries_186 : decode cX6_carries 186 = .ok (.iadd, 1) := dk_96 (dk_at dksX6_carries_7 23 rfl rfl)
theorem dX6_carries_187 : decode cX6_carries 187 = .ok (.aload_n 0, 1) := dk_42 (dk_at dksX6_carries_8 0 rfl rfl)
theorem dX6_carries_188 : decode cX6_carries 188 = .ok (.iload_n 2, 1) := dk_28 (dk_at dksX6_carries_8 1 rfl rfl)
theorem dX6_carries_189 : decode cX6_carries 189 = .ok (.iconst 4, 1) := dk_7 (dk_at dksX6_carries_8 2 rfl rfl)
theorem dX6_carries_190 : decode cX6_carries 190 = .ok (.invokevirtual 105, 3) := dk_182 0 105 (dk_at dksX6_carries_8 3 rfl rfl)
theorem dX6_carries_193 : decode cX6_carries 193 = .ok (.iastore, 1) := dk_79 (dk_at dksX6_carries_8 6 rfl rfl)
theorem dX6_carries_194 : decode cX6_carries 194 = .ok (.aload_n 0, 1) := dk_42 (dk_at dksX6_carries_8 7 rfl rfl)
theorem dX6_carries_195 : decode cX6_carries 195 = .ok (.getfield 7, 3) := dk_180 0 7 (dk_at dksX6_carries_8 8 rfl rfl)
theorem dX6_carries_198 : decode cX6_carries 198 = .ok (.iload 5, 2) := dk_21 5 (dk_at dksX6_carries_8 11 rfl rfl)
theorem dX6_carries_200 : decode cX6_carries 200 = .ok (.iconst 1, 1) := dk_4 (dk_at dksX6_carries_8 13 rfl rfl)
theorem dX6_carries_201 : decode cX6_carries 201 = .ok (.iadd, 1) := dk_96 (dk_at dksX6_carries_8 14 rfl rfl)
theorem dX6_carries_202 : decode cX6_carries 202 = .ok (.iload_n 3, 1) := dk_29 (dk_at dksX6_carries_8 15 rfl rfl)
theorem dX6_carries_203 : decode cX6_carries 203 = .ok (.iastore, 1) := dk_79 (dk_at dksX6_carries_8 16 rfl rfl)
theorem dX6_carries_204 : decode cX6_carries 204 = .ok (.aload_n 0, 1) := dk_42 (dk_at dksX6_carries_8 17 rfl rfl)
theorem dX6_carries_205 : decode cX6_carries 205 = .ok (.getfield 7, 3) := dk_180 0 7 (dk_at dksX6_carries_8 18 rfl rfl)
theorem dX6_carries_208 : decode cX6_carries 208 = .ok (.iload 5, 2) := dk_21 5 (dk_at dksX6_carries_8 21 rfl rfl)
theorem dX6_carries_210 : decode cX6_carries 210 = .ok (.iconst 2, 1) := dk_5 (dk_at dksX6_carries_8 23 rfl rfl)
theorem dX6_carries_211 : decode cX6_carries 211 = .ok (.iadd, 1) := dk_96 (dk_at dksX6_carries_9 0 rfl rfl)
theorem dX6_carries_212 : decode cX6_carries 212 = .ok (.iload 4, 2) := dk_21 4 (dk_at dksX6_carries_9 1 rfl rfl)
theorem dX6_carries_214 : decode cX6_carries 214 = .ok (.iastore, 1) := dk_79 (dk_at dksX6_carries_9 3 rfl rfl)
theorem dX6_carries_215 : decode cX6_carries 215 = .ok (.return_, 1) := dk_177 (dk_at dksX6_carries_9 4 rfl rfl)
abbrev cX6_op : ByteArray := prog_15_method_12_code
def yX6_op : MethodName := ⟨RX6, "op", "(II)I"⟩
def dkwX6_op_0 : List UInt8 := [42, 180, 0, 7, 6, 16, 32, 27, 104, 96, 28, 96, 46, 172]
abbrev dktX6_op_0 : List UInt8 := dkwX6_op_0 ++ []
theorem dksX6_op_0 : cX6_op.data.toList.drop 0 = dktX6_op_0 := by decide +kernel
theorem dX6_op_0 : decode cX6_op 0 = .ok (.aload_n 0, 1) := dk_42 (dk_at dksX6_op_0 0 rfl rfl)
theorem dX6_op_1 : decode cX6_op 1 = .ok (.getfield 7, 3) := dk_180 0 7 (dk_at dksX6_op_0 1 rfl rfl)
theorem dX6_op_4 : decode cX6_op 4 = .ok (.iconst 3, 1) := dk_6 (dk_at dksX6_op_0 4 rfl rfl)
theorem dX6_op_5 : decode cX6_op 5 = .ok (.bipush 32, 2) := dk_16 32 (dk_at dksX6_op_0 5 rfl rfl)
theorem dX6_op_7 : decode cX6_op 7 = .ok (.iload_n 1, 1) := dk_27 (dk_at dksX6_op_0 7 rfl rfl)
theorem dX6_op_8 : decode cX6_op 8 = .ok (.imul, 1) := dk_104 (dk_at dksX6_op_0 8 rfl rfl)
theorem dX6_op_9 : decode cX6_op 9 = .ok (.iadd, 1) := dk_96 (dk_at dksX6_op_0 9 rfl rfl)
theorem dX6_op_10 : decode cX6_op 10 = .ok (.iload_n 2, 1) := dk_28 (dk_at dksX6_op_0 10 rfl rfl)
theorem dX6_op_11 : decode cX6_op 11 = .ok (.iadd, 1) := dk_96 (dk_at dksX6_op_0 11 rfl rfl)
theorem dX6_op_12 : decode cX6_op 12 = .ok (.iaload, 1) := dk_46 (dk_at dksX6_op_0 12 rfl rfl)
theorem dX6_op_13 : decode cX6_op 13 = .ok (.ireturn, 1) := dk_172 (dk_at dksX6_op_0 13 rfl rfl)
abbrev cX6_isLater : ByteArray := prog_15_method_18_code
def yX6_isLater : MethodName := ⟨RX6, "isLater", "(IIII)Z"⟩
def dkwX6_isLater_0 : List UInt8 := [26, 28, 163, 0, 13, 26, 28, 160, 0, 12, 27, 29, 164, 0, 7, 4, 167, 0, 4, 3, 172]
abbrev dktX6_isLater_0 : List UInt8 := dkwX6_isLater_0 ++ []
theorem dksX6_isLater_0 : cX6_isLater.data.toList.drop 0 = dktX6_isLater_0 := by decide +kernel
theorem dX6_isLater_0 : decode cX6_isLater 0 = .ok (.iload_n 0, 1) := dk_26 (dk_at dksX6_isLater_0 0 rfl rfl)
theorem dX6_isLater_1 : decode cX6_isLater 1 = .ok (.iload_n 2, 1) := dk_28 (dk_at dksX6_isLater_0 1 rfl rfl)
theorem dX6_isLater_2 : decode cX6_isLater 2 = .ok (.if_icmp .gt 13, 3) := dk_163 0 13 (dk_at dksX6_isLater_0 2 rfl rfl)
theorem dX6_isLater_5 : decode cX6_isLater 5 = .ok (.iload_n 0, 1) := dk_26 (dk_at dksX6_isLater_0 5 rfl rfl)
theorem dX6_isLater_6 : decode cX6_isLater 6 = .ok (.iload_n 2, 1) := dk_28 (dk_at dksX6_isLater_0 6 rfl rfl)
theorem dX6_isLater_7 : decode cX6_isLater 7 = .ok (.if_icmp .ne 12, 3) := dk_160 0 12 (dk_at dksX6_isLater_0 7 rfl rfl)
theorem dX6_isLater_10 : decode cX6_isLater 10 = .ok (.iload_n 1, 1) := dk_27 (dk_at dksX6_isLater_0 10 rfl rfl)
theorem dX6_isLater_11 : decode cX6_isLater 11 = .ok (.iload_n 3, 1) := dk_29 (dk_at dksX6_isLater_0 11 rfl rfl)
theorem dX6_isLater_12 : decode cX6_isLater 12 = .ok (.if_icmp .le 7, 3) := dk_164 0 7 (dk_at dksX6_isLater_0 12 rfl rfl)
theorem dX6_isLater_15 : decode cX6_isLater 15 = .ok (.iconst 1, 1) := dk_4 (dk_at dksX6_isLater_0 15 rfl rfl)
theorem dX6_isLater_16 : decode cX6_isLater 16 = .ok (.goto 4, 3) := dk_167 0 4 (dk_at dksX6_isLater_0 16 rfl rfl)
theorem dX6_isLater_19 : decode cX6_isLater 19 = .ok (.iconst 0, 1) := dk_3 (dk_at dksX6_isLater_0 19 rfl rfl)
theorem dX6_isLater_20 : decode cX6_isLater 20 = .ok (.ireturn, 1) := dk_172 (dk_at dksX6_isLater_0 20 rfl rfl)
abbrev cX6_ends : ByteArray := prog_15_method_7_code
def yX6_ends : MethodName := ⟨RX6, "ends", "(I)I"⟩
def dkwX6_ends_4 : List UInt8 := [181, 0, 80, 42, 27, 182, 0, 83, 172]
abbrev dktX6_ends_4 : List UInt8 := dkwX6_ends_4 ++ []
def dkwX6_ends_3 : List UInt8 := [28, 96, 42, 180, 0, 16, 28, 46, 79, 132, 2, 1, 167, 255, 225, 42, 89, 180, 0, 80, 4, 96]
abbrev dktX6_ends_3 : List UInt8 := dkwX6_ends_3 ++ dktX6_ends_4
def dkwX6_ends_2 : List UInt8 := [181, 0, 80, 3, 61, 28, 17, 18, 45, 162, 0, 30, 42, 180, 0, 13, 17, 18, 45, 42, 180, 0, 80, 104]
abbrev dktX6_ends_2 : List UInt8 := dkwX6_ends_2 ++ dktX6_ends_3
def dkwX6_ends_1 : List UInt8 := [180, 0, 13, 28, 17, 18, 45, 96, 46, 79, 132, 2, 1, 167, 255, 230, 42, 89, 180, 0, 80, 4, 100]
abbrev dktX6_ends_1 : List UInt8 := dkwX6_ends_1 ++ dktX6_ends_2
def dkwX6_ends_0 : List UInt8 := [42, 180, 0, 80, 7, 160, 0, 44, 3, 61, 28, 17, 54, 135, 162, 0, 25, 42, 180, 0, 13, 28, 42]
abbrev dktX6_ends_0 : List UInt8 := dkwX6_ends_0 ++ dktX6_ends_1
theorem dksX6_ends_0 : cX6_ends.data.toList.drop 0 = dktX6_ends_0 := by decide +kernel
theorem dksX6_ends_1 : cX6_ends.data.toList.drop 23 = dktX6_ends_1 := dk_seg dksX6_ends_0 23 rfl rfl
theorem dksX6_ends_2 : cX6_ends.data.toList.drop 46 = dktX6_ends_2 := dk_seg dksX6_ends_1 23 rfl rfl
theorem dksX6_ends_3 : cX6_ends.data.toList.drop 70 = dktX6_ends_3 := dk_seg dksX6_ends_2 24 rfl rfl
theorem dksX6_ends_4 : cX6_ends.data.toList.drop 92 = dktX6_ends_4 := dk_seg dksX6_ends_3 22 rfl rfl
theorem dX6_ends_0 : decode cX6_ends 0 = .ok (.aload_n 0, 1) := dk_42 (dk_at dksX6_ends_0 0 rfl rfl)
theorem dX6_ends_1 : decode cX6_ends 1 = .ok (.getfield 80, 3) := dk_180 0 80 (dk_at dksX6_ends_0 1 rfl rfl)
theorem dX6_ends_4 : decode cX6_ends 4 = .ok (.iconst 4, 1) := dk_7 (dk_at dksX6_ends_0 4 rfl rfl)
theorem dX6_ends_5 : decode cX6_ends 5 = .ok (.if_icmp .ne 44, 3) := dk_160 0 44 (dk_at dksX6_ends_0 5 rfl rfl)
theorem dX6_ends_8 : decode cX6_ends 8 = .ok (.iconst 0, 1) := dk_3 (dk_at dksX6_ends_0 8 rfl rfl)
theorem dX6_ends_9 : decode cX6_ends 9 = .ok (.istore_n 2, 1) := dk_61 (dk_at dksX6_ends_0 9 rfl rfl)
theorem dX6_ends_10 : decode cX6_ends 10 = .ok (.iload_n 2, 1) := dk_28 (dk_at dksX6_ends_0 10 rfl rfl)
theorem dX6_ends_11 : decode cX6_ends 11 = .ok (.sipush 13959, 3) := dk_17 54 135 (dk_at dksX6_ends_0 11 rfl rfl)
theorem dX6_ends_14 : decode cX6_ends 14 = .ok (.if_icmp .ge 25, 3) := dk_162 0 25 (dk_at dksX6_ends_0 14 rfl rfl)
theorem dX6_ends_17 : decode cX6_ends 17 = .ok (.aload_n 0, 1) := dk_42 (dk_at dksX6_ends_0 17 rfl rfl)
theorem dX6_ends_18 : decode cX6_ends 18 = .ok (.getfield 13, 3) := dk_180 0 13 (dk_at dksX6_ends_0 18 rfl rfl)
theorem dX6_ends_21 : decode cX6_ends 21 = .ok (.iload_n 2, 1) := dk_28 (dk_at dksX6_ends_0 21 rfl rfl)
theorem dX6_ends_22 : decode cX6_ends 22 = .ok (.aload_n 0, 1) := dk_42 (dk_at dksX6_ends_0 22 rfl rfl)
theorem dX6_ends_23 : decode cX6_ends 23 = .ok (.getfield 13, 3) := dk_180 0 13 (dk_at dksX6_ends_1 0 rfl rfl)
theorem dX6_ends_26 : decode cX6_ends 26 = .ok (.iload_n 2, 1) := dk_28 (dk_at dksX6_ends_1 3 rfl rfl)
theorem dX6_ends_27 : decode cX6_ends 27 = .ok (.sipush 4653, 3) := dk_17 18 45 (dk_at dksX6_ends_1 4 rfl rfl)
theorem dX6_ends_30 : decode cX6_ends 30 = .ok (.iadd, 1) := dk_96 (dk_at dksX6_ends_1 7 rfl rfl)
theorem dX6_ends_31 : decode cX6_ends 31 = .ok (.iaload, 1) := dk_46 (dk_at dksX6_ends_1 8 rfl rfl)
theorem dX6_ends_32 : decode cX6_ends 32 = .ok (.iastore, 1) := dk_79 (dk_at dksX6_ends_1 9 rfl rfl)
theorem dX6_ends_33 : decode cX6_ends 33 = .ok (.iinc 2 1, 3) := dk_132 2 1 (dk_at dksX6_ends_1 10 rfl rfl)
theorem dX6_ends_36 : decode cX6_ends 36 = .ok (.goto (-26), 3) := dk_167 255 230 (dk_at dksX6_ends_1 13 rfl rfl)
theorem dX6_ends_39 : decode cX6_ends 39 = .ok (.aload_n 0, 1) := dk_42 (dk_at dksX6_ends_1 16 rfl rfl)
theorem dX6_ends_40 : decode cX6_ends 40 = .ok (.dup, 1) := dk_89 (dk_at dksX6_ends_1 17 rfl rfl)
theorem dX6_ends_41 : decode cX6_ends 41 = .ok (.getfield 80, 3) := dk_180 0 80 (dk_at dksX6_ends_1 18 rfl rfl)
theorem dX6_ends_44 : decode cX6_ends 44 = .ok (.iconst 1, 1) := dk_4 (dk_at dksX6_ends_1 21 rfl rfl)
theorem dX6_ends_45 : decode cX6_ends 45 = .ok (.isub, 1) := dk_100 (dk_at dksX6_ends_1 22 rfl rfl)
theorem dX6_ends_46 : decode cX6_ends 46 = .ok (.putfield 80, 3) := dk_181 0 80 (dk_at dksX6_ends_2 0 rfl rfl)
theorem dX6_ends_49 : decode cX6_ends 49 = .ok (.iconst 0, 1) := dk_3 (dk_at dksX6_ends_2 3 rfl rfl)
theorem dX6_ends_50 : decode cX6_ends 50 = .ok (.istore_n 2, 1) := dk_61 (dk_at dksX6_ends_2 4 rfl rfl)
theorem dX6_ends_51 : decode cX6_ends 51 = .ok (.iload_n 2, 1) := dk_28 (dk_at dksX6_ends_2 5 rfl rfl)
theorem dX6_ends_52 : decode cX6_ends 52 = .ok (.sipush 4653, 3) := dk_17 18 45 (dk_at dksX6_ends_2 6 rfl rfl)
theorem dX6_ends_55 : decode cX6_ends 55 = .ok (.if_icmp .ge 30, 3) := dk_162 0 30 (dk_at dksX6_ends_2 9 rfl rfl)
theorem dX6_ends_58 : decode cX6_ends 58 = .ok (.aload_n 0, 1) := dk_42 (dk_at dksX6_ends_2 12 rfl rfl)
theorem dX6_ends_59 : decode cX6_ends 59 = .ok (.getfield 13, 3) := dk_180 0 13 (dk_at dksX6_ends_2 13 rfl rfl)
theorem dX6_ends_62 : decode cX6_ends 62 = .ok (.sipush 4653, 3) := dk_17 18 45 (dk_at dksX6_ends_2 16 rfl rfl)
theorem dX6_ends_65 : decode cX6_ends 65 = .ok (.aload_n 0, 1) := dk_42 (dk_at dksX6_ends_2 19 rfl rfl)
theorem dX6_ends_66 : decode cX6_ends 66 = .ok (.getfield 80, 3) := dk_180 0 80 (dk_at dksX6_ends_2 20 rfl rfl)
theorem dX6_ends_69 : decode cX6_ends 69 = .ok (.imul, 1) := dk_104 (dk_at dksX6_ends_2 23 rfl rfl)
theorem dX6_ends_70 : decode cX6_ends 70 = .ok (.iload_n 2, 1) := dk_28 (dk_at dksX6_ends_3 0 rfl rfl)
theorem dX6_ends_71 : decode cX6_ends 71 = .ok (.iadd, 1) := dk_96 (dk_at dksX6_ends_3 1 rfl rfl)
theorem dX6_ends_72 : decode cX6_ends 72 = .ok (.aload_n 0, 1) := dk_42 (dk_at dksX6_ends_3 2 rfl rfl)
theorem dX6_ends_73 : decode cX6_ends 73 = .ok (.getfield 16, 3) := dk_180 0 16 (dk_at dksX6_ends_3 3 rfl rfl)
theorem dX6_ends_76 : decode cX6_ends 76 = .ok (.iload_n 2, 1) := dk_28 (dk_at dksX6_ends_3 6 rfl rfl)
theorem dX6_ends_77 : decode cX6_ends 77 = .ok (.iaload, 1) := dk_46 (dk_at dksX6_ends_3 7 rfl rfl)
theorem dX6_ends_78 : decode cX6_ends 78 = .ok (.iastore, 1) := dk_79 (dk_at dksX6_ends_3 8 rfl rfl)
theorem dX6_ends_79 : decode cX6_ends 79 = .ok (.iinc 2 1, 3) := dk_132 2 1 (dk_at dksX6_ends_3 9 rfl rfl)
theorem dX6_ends_82 : decode cX6_ends 82 = .ok (.goto (-31), 3) := dk_167 255 225 (dk_at dksX6_ends_3 12 rfl rfl)
theorem dX6_ends_85 : decode cX6_ends 85 = .ok (.aload_n 0, 1) := dk_42 (dk_at dksX6_ends_3 15 rfl rfl)
theorem dX6_ends_86 : decode cX6_ends 86 = .ok (.dup, 1) := dk_89 (dk_at dksX6_ends_3 16 rfl rfl)
theorem dX6_ends_87 : decode cX6_ends 87 = .ok (.getfield 80, 3) := dk_180 0 80 (dk_at dksX6_ends_3 17 rfl rfl)
theorem dX6_ends_90 : decode cX6_ends 90 = .ok (.iconst 1, 1) := dk_4 (dk_at dksX6_ends_3 20 rfl rfl)
theorem dX6_ends_91 : decode cX6_ends 91 = .ok (.iadd, 1) := dk_96 (dk_at dksX6_ends_3 21 rfl rfl)
theorem dX6_ends_92 : decode cX6_ends 92 = .ok (.putfield 80, 3) := dk_181 0 80 (dk_at dksX6_ends_4 0 rfl rfl)
theorem dX6_ends_95 : decode cX6_ends 95 = .ok (.aload_n 0, 1) := dk_42 (dk_at dksX6_ends_4 3 rfl rfl)
theorem dX6_ends_96 : decode cX6_ends 96 = .ok (.iload_n 1, 1) := dk_27 (dk_at dksX6_ends_4 4 rfl rfl)
theorem dX6_ends_97 : decode cX6_ends 97 = .ok (.invokevirtual 83, 3) := dk_182 0 83 (dk_at dksX6_ends_4 5 rfl rfl)
theorem dX6_ends_100 : decode cX6_ends 100 = .ok (.ireturn, 1) := dk_172 (dk_at dksX6_ends_4 8 rfl rfl)
abbrev cX6_tells : ByteArray := prog_15_method_5_code
def yX6_tells : MethodName := ⟨RX6, "tells", "(I)I"⟩
def dkwX6_tells_0 : List UInt8 := [42, 3, 181, 0, 76, 27, 172]
abbrev dktX6_tells_0 : List UInt8 := dkwX6_tells_0 ++ []
theorem dksX6_tells_0 : cX6_tells.data.toList.drop 0 = dktX6_tells_0 := by decide +kernel
theorem dX6_tells_0 : decode cX6_tells 0 = .ok (.aload_n 0, 1) := dk_42 (dk_at dksX6_tells_0 0 rfl rfl)
theorem dX6_tells_1 : decode cX6_tells 1 = .ok (.iconst 0, 1) := dk_3 (dk_at dksX6_tells_0 1 rfl rfl)
theorem dX6_tells_2 : decode cX6_tells 2 = .ok (.putfield 76, 3) := dk_181 0 76 (dk_at dksX6_tells_0 2 rfl rfl)
theorem dX6_tells_5 : decode cX6_tells 5 = .ok (.iload_n 1, 1) := dk_27 (dk_at dksX6_tells_0 5 rfl rfl)
theorem dX6_tells_6 : decode cX6_tells 6 = .ok (.ireturn, 1) := dk_172 (dk_at dksX6_tells_0 6 rfl rfl)
abbrev cX6_move : ByteArray := prog_15_method_24_code
def yX6_move : MethodName := ⟨RX6, "move", "(IZII)I"⟩
def dkwX6_move_6 : List UInt8 := [182, 0, 151, 182, 0, 148, 172]
abbrev dktX6_move_6 : List UInt8 := dkwX6_move_6 ++ []
def dkwX6_move_5 : List UInt8 := [172, 42, 182, 0, 141, 42, 27, 5, 21, 5, 21, 7, 21, 9, 182, 0, 144, 42, 42, 27, 21, 5, 21, 7]
abbrev dktX6_move_5 : List UInt8 := dkwX6_move_5 ++ dktX6_move_6
def dkwX6_move_4 : List UInt8 := [182, 0, 134, 54, 9, 21, 9, 2, 159, 0, 11, 42, 27, 182, 0, 138, 153, 0, 9, 42, 5, 182, 0, 131]
abbrev dktX6_move_4 : List UInt8 := dkwX6_move_4 ++ dktX6_move_5
def dkwX6_move_3 : List UInt8 := [42, 27, 21, 5, 21, 7, 42, 180, 0, 28, 182, 0, 95, 54, 8, 42, 27, 21, 5, 21, 8, 21, 4]
abbrev dktX6_move_3 : List UInt8 := dkwX6_move_3 ++ dktX6_move_4
def dkwX6_move_2 : List UInt8 := [21, 6, 4, 100, 184, 0, 87, 154, 0, 9, 42, 4, 182, 0, 131, 172, 42, 180, 0, 28, 29, 46, 54, 7]
abbrev dktX6_move_2 : List UInt8 := dkwX6_move_2 ++ dktX6_move_3
def dkwX6_move_1 : List UInt8 := [42, 180, 0, 28, 182, 0, 95, 54, 6, 29, 3, 21, 6, 4, 100, 184, 0, 87, 153, 0, 16, 21, 4, 3]
abbrev dktX6_move_1 : List UInt8 := dkwX6_move_1 ++ dktX6_move_2
def dkwX6_move_0 : List UInt8 := [28, 184, 0, 123, 54, 5, 27, 184, 0, 127, 154, 0, 9, 42, 4, 182, 0, 131, 172, 42, 27, 21, 5, 2]
abbrev dktX6_move_0 : List UInt8 := dkwX6_move_0 ++ dktX6_move_1
theorem dksX6_move_0 : cX6_move.data.toList.drop 0 = dktX6_move_0 := by decide +kernel
theorem dksX6_move_1 : cX6_move.data.toList.drop 24 = dktX6_move_1 := dk_seg dksX6_move_0 24 rfl rfl
theorem dksX6_move_2 : cX6_move.data.toList.drop 48 = dktX6_move_2 := dk_seg dksX6_move_1 24 rfl rfl
theorem dksX6_move_3 : cX6_move.data.toList.drop 72 = dktX6_move_3 := dk_seg dksX6_move_2 24 rfl rfl
theorem dksX6_move_4 : cX6_move.data.toList.drop 95 = dktX6_move_4 := dk_seg dksX6_move_3 23 rfl rfl
theorem dksX6_move_5 : cX6_move.data.toList.drop 119 = dktX6_move_5 := dk_seg dksX6_move_4 24 rfl rfl
theorem dksX6_move_6 : cX6_move.data.toList.drop 143 = dktX6_move_6 := dk_seg dksX6_move_5 24 rfl rfl
theorem dX6_move_0 : decode cX6_move 0 = .ok (.iload_n 2, 1) := dk_28 (dk_at dksX6_move_0 0 rfl rfl)
theorem dX6_move_1 : decode cX6_move 1 = .ok (.invokestatic 123, 3) := dk_184 0 123 (dk_at dksX6_move_0 1 rfl rfl)
theorem dX6_move_4 : decode cX6_move 4 = .ok (.istore 5, 2) := dk_54 5 (dk_at dksX6_move_0 4 rfl rfl)
theorem dX6_move_6 : decode cX6_move 6 = .ok (.iload_n 1, 1) := dk_27 (dk_at dksX6_move_0 6 rfl rfl)
theorem dX6_move_7 : decode cX6_move 7 = .ok (.invokestatic 127, 3) := dk_184 0 127 (dk_at dksX6_move_0 7 rfl rfl)
theorem dX6_move_10 : decode cX6_move 10 = .ok (.ifCond .ne 9, 3) := dk_154 0 9 (dk_at dksX6_move_0 10 rfl rfl)
theorem dX6_move_13 : decode cX6_move 13 = .ok (.aload_n 0, 1) := dk_42 (dk_at dksX6_move_0 13 rfl rfl)
theorem dX6_move_14 : decode cX6_move 14 = .ok (.iconst 1, 1) := dk_4 (dk_at dksX6_move_0 14 rfl rfl)
theorem dX6_move_15 : decode cX6_move 15 = .ok (.invokevirtual 131, 3) := dk_182 0 131 (dk_at dksX6_move_0 15 rfl rfl)
theorem dX6_move_18 : decode cX6_move 18 = .ok (.ireturn, 1) := dk_172 (dk_at dksX6_move_0 18 rfl rfl)
theorem dX6_move_19 : decode cX6_move 19 = .ok (.aload_n 0, 1) := dk_42 (dk_at dksX6_move_0 19 rfl rfl)
theorem dX6_move_20 : decode cX6_move 20 = .ok (.iload_n 1, 1) := dk_27 (dk_at dksX6_move_0 20 rfl rfl)
theorem dX6_move_21 : decode cX6_move 21 = .ok (.iload 5, 2) := dk_21 5 (dk_at dksX6_move_0 21 rfl rfl)
theorem dX6_move_23 : decode cX6_move 23 = .ok (.iconst (-1), 1) := dk_2 (dk_at dksX6_move_0 23 rfl rfl)
theorem dX6_move_24 : decode cX6_move 24 = .ok (.aload_n 0, 1) := dk_42 (dk_at dksX6_move_1 0 rfl rfl)
theorem dX6_move_25 : decode cX6_move 25 = .ok (.getfield 28, 3) := dk_180 0 28 (dk_at dksX6_move_1 1 rfl rfl)
theorem dX6_move_28 : decode cX6_move 28 = .ok (.invokevirtual 95, 3) := dk_182 0 95 (dk_at dksX6_move_1 4 rfl rfl)
theorem dX6_move_31 : decode cX6_move 31 = .ok (.istore 6, 2) := dk_54 6 (dk_at dksX6_move_1 7 rfl rfl)
theorem dX6_move_33 : decode cX6_move 33 = .ok (.iload_n 3, 1) := dk_29 (dk_at dksX6_move_1 9 rfl rfl)
theorem dX6_move_34 : decode cX6_move 34 = .ok (.iconst 0, 1) := dk_3 (dk_at dksX6_move_1 10 rfl rfl)
theorem dX6_move_35 : decode cX6_move 35 = .ok (.iload 6, 2) := dk_21 6 (dk_at dksX6_move_1 11 rfl rfl)
theorem dX6_move_37 : decode cX6_move 37 = .ok (.iconst 1, 1) := dk_4 (dk_at dksX6_move_1 13 rfl rfl)
theorem dX6_move_38 : decode cX6_move 38 = .ok (.isub, 1) := dk_100 (dk_at dksX6_move_1 14 rfl rfl)
theorem dX6_move_39 : decode cX6_move 39 = .ok (.invokestatic 87, 3) := dk_184 0 87 (dk_at dksX6_move_1 15 rfl rfl)
theorem dX6_move_42 : decode cX6_move 42 = .ok (.ifCond .eq 16, 3) := dk_153 0 16 (dk_at dksX6_move_1 18 rfl rfl)
theorem dX6_move_45 : decode cX6_move 45 = .ok (.iload 4, 2) := dk_21 4 (dk_at dksX6_move_1 21 rfl rfl)
theorem dX6_move_47 : decode cX6_move 47 = .ok (.iconst 0, 1) := dk_3 (dk_at dksX6_move_1 23 rfl rfl)
theorem dX6_move_48 : decode cX6_move 48 = .ok (.iload 6, 2) := dk_21 6 (dk_at dksX6_move_2 0 rfl rfl)
theorem dX6_move_50 : decode cX6_move 50 = .ok (.iconst 1, 1) := dk_4 (dk_at dksX6_move_2 2 rfl rfl)
theorem dX6_move_51 : decode cX6_move 51 = .ok (.isub, 1) := dk_100 (dk_at dksX6_move_2 3 rfl rfl)
theorem dX6_move_52 : decode cX6_move 52 = .ok (.invokestatic 87, 3) := dk_184 0 87 (dk_at dksX6_move_2 4 rfl rfl)
theorem dX6_move_55 : decode cX6_move 55 = .ok (.ifCond .ne 9, 3) := dk_154 0 9 (dk_at dksX6_move_2 7 rfl rfl)
theorem dX6_move_58 : decode cX6_move 58 = .ok (.aload_n 0, 1) := dk_42 (dk_at dksX6_move_2 10 rfl rfl)
theorem dX6_move_59 : decode cX6_move 59 = .ok (.iconst 1, 1) := dk_4 (dk_at dksX6_move_2 11 rfl rfl)
theorem dX6_move_60 : decode cX6_move 60 = .ok (.invokevirtual 131, 3) := dk_182 0 131 (dk_at dksX6_move_2 12 rfl rfl)
theorem dX6_move_63 : decode cX6_move 63 = .ok (.ireturn, 1) := dk_172 (dk_at dksX6_move_2 15 rfl rfl)
theorem dX6_move_64 : decode cX6_move 64 = .ok (.aload_n 0, 1) := dk_42 (dk_at dksX6_move_2 16 rfl rfl)
theorem dX6_move_65 : decode cX6_move 65 = .ok (.getfield 28, 3) := dk_180 0 28 (dk_at dksX6_move_2 17 rfl rfl)
theorem dX6_move_68 : decode cX6_move 68 = .ok (.iload_n 3, 1) := dk_29 (dk_at dksX6_move_2 20 rfl rfl)
theorem dX6_move_69 : decode cX6_move 69 = .ok (.iaload, 1) := dk_46 (dk_at dksX6_move_2 21 rfl rfl)
theorem dX6_move_70 : decode cX6_move 70 = .ok (.istore 7, 2) := dk_54 7 (dk_at dksX6_move_2 22 rfl rfl)
theorem dX6_move_72 : decode cX6_move 72 = .ok (.aload_n 0, 1) := dk_42 (dk_at dksX6_move_3 0 rfl rfl)
theorem dX6_move_73 : decode cX6_move 73 = .ok (.iload_n 1, 1) := dk_27 (dk_at dksX6_move_3 1 rfl rfl)
theorem dX6_move_74 : decode cX6_move 74 = .ok (.iload 5, 2) := dk_21 5 (dk_at dksX6_move_3 2 rfl rfl)
theorem dX6_move_76 : decode cX6_move 76 = .ok (.iload 7, 2) := dk_21 7 (dk_at dksX6_move_3 4 rfl rfl)
theorem dX6_move_78 : decode cX6_move 78 = .ok (.aload_n 0, 1) := dk_42 (dk_at dksX6_move_3 6 rfl rfl)
theorem dX6_move_79 : decode cX6_move 79 = .ok (.getfield 28, 3) := dk_180 0 28 (dk_at dksX6_move_3 7 rfl rfl)
theorem dX6_move_82 : decode cX6_move 82 = .ok (.invokevirtual 95, 3) := dk_182 0 95 (dk_at dksX6_move_3 10 rfl rfl)
theorem dX6_move_85 : decode cX6_move 85 = .ok (.istore 8, 2) := dk_54 8 (dk_at dksX6_move_3 13 rfl rfl)
theorem dX6_move_87 : decode cX6_move 87 = .ok (.aload_n 0, 1) := dk_42 (dk_at dksX6_move_3 15 rfl rfl)
theorem dX6_move_88 : decode cX6_move 88 = .ok (.iload_n 1, 1) := dk_27 (dk_at dksX6_move_3 16 rfl rfl)
theorem dX6_move_89 : decode cX6_move 89 = .ok (.iload 5, 2) := dk_21 5 (dk_at dksX6_move_3 17 rfl rfl)
theorem dX6_move_91 : decode cX6_move 91 = .ok (.iload 8, 2) := dk_21 8 (dk_at dksX6_move_3 19 rfl rfl)
theorem dX6_move_93 : decode cX6_move 93 = .ok (.iload 4, 2) := dk_21 4 (dk_at dksX6_move_3 21 rfl rfl)
theorem dX6_move_95 : decode cX6_move 95 = .ok (.invokevirtual 134, 3) := dk_182 0 134 (dk_at dksX6_move_4 0 rfl rfl)
theorem dX6_move_98 : decode cX6_move 98 = .ok (.istore 9, 2) := dk_54 9 (dk_at dksX6_move_4 3 rfl rfl)
theorem dX6_move_100 : decode cX6_move 100 = .ok (.iload 9, 2) := dk_21 9 (dk_at dksX6_move_4 5 rfl rfl)
theorem dX6_move_102 : decode cX6_move 102 = .ok (.iconst (-1), 1) := dk_2 (dk_at dksX6_move_4 7 rfl rfl)
theorem dX6_move_103 : decode cX6_move 103 = .ok (.if_icmp .eq 11, 3) := dk_159 0 11 (dk_at dksX6_move_4 8 rfl rfl)
theorem dX6_move_106 : decode cX6_move 106 = .ok (.aload_n 0, 1) := dk_42 (dk_at dksX6_move_4 11 rfl rfl)
theorem dX6_move_107 : decode cX6_move 107 = .ok (.iload_n 1, 1) := dk_27 (dk_at dksX6_move_4 12 rfl rfl)
theorem dX6_move_108 : decode cX6_move 108 = .ok (.invokevirtual 138, 3) := dk_182 0 138 (dk_at dksX6_move_4 13 rfl rfl)
theorem dX6_move_111 : decode cX6_move 111 = .ok (.ifCond .eq 9, 3) := dk_153 0 9 (dk_at dksX6_move_4 16 rfl rfl)
theorem dX6_move_114 : decode cX6_move 114 = .ok (.aload_n 0, 1) := dk_42 (dk_at dksX6_move_4 19 rfl rfl)
theorem dX6_move_115 : decode cX6_move 115 = .ok (.iconst 2, 1) := dk_5 (dk_at dksX6_move_4 20 rfl rfl)
theorem dX6_move_116 : decode cX6_move 116 = .ok (.invokevirtual 131, 3) := dk_182 0 131 (dk_at dksX6_move_4 21 rfl rfl)
theorem dX6_move_119 : decode cX6_move 119 = .ok (.ireturn, 1) := dk_172 (dk_at dksX6_move_5 0 rfl rfl)
theorem dX6_move_120 : decode cX6_move 120 = .ok (.aload_n 0, 1) := dk_42 (dk_at dksX6_move_5 1 rfl rfl)
theorem dX6_move_121 : decode cX6_move 121 = .ok (.invokevirtual 141, 3) := dk_182 0 141 (dk_at dksX6_move_5 2 rfl rfl)
theorem dX6_move_124 : decode cX6_move 124 = .ok (.aload_n 0, 1) := dk_42 (dk_at dksX6_move_5 5 rfl rfl)
theorem dX6_move_125 : decode cX6_move 125 = .ok (.iload_n 1, 1) := dk_27 (dk_at dksX6_move_5 6 rfl rfl)
theorem dX6_move_126 : decode cX6_move 126 = .ok (.iconst 2, 1) := dk_5 (dk_at dksX6_move_5 7 rfl rfl)
theorem dX6_move_127 : decode cX6_move 127 = .ok (.iload 5, 2) := dk_21 5 (dk_at dksX6_move_5 8 rfl rfl)
theorem dX6_move_129 : decode cX6_move 129 = .ok (.iload 7, 2) := dk_21 7 (dk_at dksX6_move_5 10 rfl rfl)
theorem dX6_move_131 : decode cX6_move 131 = .ok (.iload 9, 2) := dk_21 9 (dk_at dksX6_move_5 12 rfl rfl)
theorem dX6_move_133 : decode cX6_move 133 = .ok (.invokevirtual 144, 3) := dk_182 0 144 (dk_at dksX6_move_5 14 rfl rfl)
theorem dX6_move_136 : decode cX6_move 136 = .ok (.aload_n 0, 1) := dk_42 (dk_at dksX6_move_5 17 rfl rfl)
theorem dX6_move_137 : decode cX6_move 137 = .ok (.aload_n 0, 1) := dk_42 (dk_at dksX6_move_5 18 rfl rfl)
theorem dX6_move_138 : decode cX6_move 138 = .ok (.iload_n 1, 1) := dk_27 (dk_at dksX6_move_5 19 rfl rfl)
theorem dX6_move_139 : decode cX6_move 139 = .ok (.iload 5, 2) := dk_21 5 (dk_at dksX6_move_5 20 rfl rfl)
theorem dX6_move_141 : decode cX6_move 141 = .ok (.iload 7, 2) := dk_21 7 (dk_at dksX6_move_5 22 rfl rfl)
theorem dX6_move_143 : decode cX6_move 143 = .ok (.invokevirtual 151, 3) := dk_182 0 151 (dk_at dksX6_move_6 0 rfl rfl)
theorem dX6_move_146 : decode cX6_move 146 = .ok (.invokevirtual 148, 3) := dk_182 0 148 (dk_at dksX6_move_6 3 rfl rfl)
theorem dX6_move_149 : decode cX6_move 149 = .ok (.ireturn, 1) := dk_172 (dk_at dksX6_move_6 6 rfl rfl)
abbrev cX6_positionOf : ByteArray := prog_15_method_16_code
def yX6_positionOf : MethodName := ⟨RX6, "positionOf", "(III)I"⟩
def dkwX6_positionOf_1 : List UInt8 := [180, 0, 28, 21, 5, 46, 29, 160, 0, 6, 21, 5, 172, 132, 5, 1, 167, 255, 232, 2, 172]
abbrev dktX6_positionOf_1 : List UInt8 := dkwX6_positionOf_1 ++ []
def dkwX6_positionOf_0 : List UInt8 := [42, 27, 28, 2, 42, 180, 0, 28, 182, 0, 95, 54, 4, 3, 54, 5, 21, 5, 21, 4, 162, 0, 23, 42]
abbrev dktX6_positionOf_0 : List UInt8 := dkwX6_positionOf_0 ++ dktX6_positionOf_1
theorem dksX6_positionOf_0 : cX6_positionOf.data.toList.drop 0 = dktX6_positionOf_0 := by decide +kernel
theorem dksX6_positionOf_1 : cX6_positionOf.data.toList.drop 24 = dktX6_positionOf_1 := dk_seg dksX6_positionOf_0 24 rfl rfl
theorem dX6_positionOf_0 : decode cX6_positionOf 0 = .ok (.aload_n 0, 1) := dk_42 (dk_at dksX6_positionOf_0 0 rfl rfl)
theorem dX6_positionOf_1 : decode cX6_positionOf 1 = .ok (.iload_n 1, 1) := dk_27 (dk_at dksX6_positionOf_0 1 rfl rfl)
theorem dX6_positionOf_2 : decode cX6_positionOf 2 = .ok (.iload_n 2, 1) := dk_28 (dk_at dksX6_positionOf_0 2 rfl rfl)
theorem dX6_positionOf_3 : decode cX6_positionOf 3 = .ok (.iconst (-1), 1) := dk_2 (dk_at dksX6_positionOf_0 3 rfl rfl)
theorem dX6_positionOf_4 : decode cX6_positionOf 4 = .ok (.aload_n 0, 1) := dk_42 (dk_at dksX6_positionOf_0 4 rfl rfl)
theorem dX6_positionOf_5 : decode cX6_positionOf 5 = .ok (.getfield 28, 3) := dk_180 0 28 (dk_at dksX6_positionOf_0 5 rfl rfl)
theorem dX6_positionOf_8 : decode cX6_positionOf 8 = .ok (.invokevirtual 95, 3) := dk_182 0 95 (dk_at dksX6_positionOf_0 8 rfl rfl)
theorem dX6_positionOf_11 : decode cX6_positionOf 11 = .ok (.istore 4, 2) := dk_54 4 (dk_at dksX6_positionOf_0 11 rfl rfl)
theorem dX6_positionOf_13 : decode cX6_positionOf 13 = .ok (.iconst 0, 1) := dk_3 (dk_at dksX6_positionOf_0 13 rfl rfl)
theorem dX6_positionOf_14 : decode cX6_positionOf 14 = .ok (.istore 5, 2) := dk_54 5 (dk_at dksX6_positionOf_0 14 rfl rfl)
theorem dX6_positionOf_16 : decode cX6_positionOf 16 = .ok (.iload 5, 2) := dk_21 5 (dk_at dksX6_positionOf_0 16 rfl rfl)
theorem dX6_positionOf_18 : decode cX6_positionOf 18 = .ok (.iload 4, 2) := dk_21 4 (dk_at dksX6_positionOf_0 18 rfl rfl)
theorem dX6_positionOf_20 : decode cX6_positionOf 20 = .ok (.if_icmp .ge 23, 3) := dk_162 0 23 (dk_at dksX6_positionOf_0 20 rfl rfl)
theorem dX6_positionOf_23 : decode cX6_positionOf 23 = .ok (.aload_n 0, 1) := dk_42 (dk_at dksX6_positionOf_0 23 rfl rfl)
theorem dX6_positionOf_24 : decode cX6_positionOf 24 = .ok (.getfield 28, 3) := dk_180 0 28 (dk_at dksX6_positionOf_1 0 rfl rfl)
theorem dX6_positionOf_27 : decode cX6_positionOf 27 = .ok (.iload 5, 2) := dk_21 5 (dk_at dksX6_positionOf_1 3 rfl rfl)
theorem dX6_positionOf_29 : decode cX6_positionOf 29 = .ok (.iaload, 1) := dk_46 (dk_at dksX6_positionOf_1 5 rfl rfl)
theorem dX6_positionOf_30 : decode cX6_positionOf 30 = .ok (.iload_n 3, 1) := dk_29 (dk_at dksX6_positionOf_1 6 rfl rfl)
theorem dX6_positionOf_31 : decode cX6_positionOf 31 = .ok (.if_icmp .ne 6, 3) := dk_160 0 6 (dk_at dksX6_positionOf_1 7 rfl rfl)
theorem dX6_positionOf_34 : decode cX6_positionOf 34 = .ok (.iload 5, 2) := dk_21 5 (dk_at dksX6_positionOf_1 10 rfl rfl)
theorem dX6_positionOf_36 : decode cX6_positionOf 36 = .ok (.ireturn, 1) := dk_172 (dk_at dksX6_positionOf_1 12 rfl rfl)
theorem dX6_positionOf_37 : decode cX6_positionOf 37 = .ok (.iinc 5 1, 3) := dk_132 5 1 (dk_at dksX6_positionOf_1 13 rfl rfl)
theorem dX6_positionOf_40 : decode cX6_positionOf 40 = .ok (.goto (-24), 3) := dk_167 255 232 (dk_at dksX6_positionOf_1 16 rfl rfl)
theorem dX6_positionOf_43 : decode cX6_positionOf 43 = .ok (.iconst (-1), 1) := dk_2 (dk_at dksX6_positionOf_1 19 rfl rfl)
theorem dX6_positionOf_44 : decode cX6_positionOf 44 = .ok (.ireturn, 1) := dk_172 (dk_at dksX6_positionOf_1 20 rfl rfl)
abbrev cX6_remove : ByteArray := prog_15_method_25_code
def yX6_remove : MethodName := ⟨RX6, "remove", "(IZI)I"⟩
def dkwX6_remove_3 : List UInt8 := [6, 21, 4, 42, 180, 0, 28, 29, 46, 2, 182, 0, 144, 42, 21, 5, 4, 100, 182, 0, 148, 172]
abbrev dktX6_remove_3 : List UInt8 := dkwX6_remove_3 ++ []
def dkwX6_remove_2 : List UInt8 := [182, 0, 131, 172, 42, 27, 182, 0, 138, 153, 0, 9, 42, 5, 182, 0, 131, 172, 42, 182, 0, 141, 42, 27]
abbrev dktX6_remove_2 : List UInt8 := dkwX6_remove_2 ++ dktX6_remove_3
def dkwX6_remove_1 : List UInt8 := [42, 180, 0, 28, 182, 0, 95, 54, 5, 29, 3, 21, 5, 4, 100, 184, 0, 87, 154, 0, 9, 42, 4]
abbrev dktX6_remove_1 : List UInt8 := dkwX6_remove_1 ++ dktX6_remove_2
def dkwX6_remove_0 : List UInt8 := [28, 184, 0, 123, 54, 4, 27, 184, 0, 127, 154, 0, 9, 42, 4, 182, 0, 131, 172, 42, 27, 21, 4, 2]
abbrev dktX6_remove_0 : List UInt8 := dkwX6_remove_0 ++ dktX6_remove_1
theorem dksX6_remove_0 : cX6_remove.data.toList.drop 0 = dktX6_remove_0 := by decide +kernel
theorem dksX6_remove_1 : cX6_remove.data.toList.drop 24 = dktX6_remove_1 := dk_seg dksX6_remove_0 24 rfl rfl
theorem dksX6_remove_2 : cX6_remove.data.toList.drop 47 = dktX6_remove_2 := dk_seg dksX6_remove_1 23 rfl rfl
theorem dksX6_remove_3 : cX6_remove.data.toList.drop 71 = dktX6_remove_3 := dk_seg dksX6_remove_2 24 rfl rfl
theorem dX6_remove_0 : decode cX6_remove 0 = .ok (.iload_n 2, 1) := dk_28 (dk_at dksX6_remove_0 0 rfl rfl)
theorem dX6_remove_1 : decode cX6_remove 1 = .ok (.invokestatic 123, 3) := dk_184 0 123 (dk_at dksX6_remove_0 1 rfl rfl)
theorem dX6_remove_4 : decode cX6_remove 4 = .ok (.istore 4, 2) := dk_54 4 (dk_at dksX6_remove_0 4 rfl rfl)
theorem dX6_remove_6 : decode cX6_remove 6 = .ok (.iload_n 1, 1) := dk_27 (dk_at dksX6_remove_0 6 rfl rfl)
theorem dX6_remove_7 : decode cX6_remove 7 = .ok (.invokestatic 127, 3) := dk_184 0 127 (dk_at dksX6_remove_0 7 rfl rfl)
theorem dX6_remove_10 : decode cX6_remove 10 = .ok (.ifCond .ne 9, 3) := dk_154 0 9 (dk_at dksX6_remove_0 10 rfl rfl)
theorem dX6_remove_13 : decode cX6_remove 13 = .ok (.aload_n 0, 1) := dk_42 (dk_at dksX6_remove_0 13 rfl rfl)
theorem dX6_remove_14 : decode cX6_remove 14 = .ok (.iconst 1, 1) := dk_4 (dk_at dksX6_remove_0 14 rfl rfl)
theorem dX6_remove_15 : decode cX6_remove 15 = .ok (.invokevirtual 131, 3) := dk_182 0 131 (dk_at dksX6_remove_0 15 rfl rfl)
theorem dX6_remove_18 : decode cX6_remove 18 = .ok (.ireturn, 1) := dk_172 (dk_at dksX6_remove_0 18 rfl rfl)
theorem dX6_remove_19 : decode cX6_remove 19 = .ok (.aload_n 0, 1) := dk_42 (dk_at dksX6_remove_0 19 rfl rfl)
theorem dX6_remove_20 : decode cX6_remove 20 = .ok (.iload_n 1, 1) := dk_27 (dk_at dksX6_remove_0 20 rfl rfl)
theorem dX6_remove_21 : decode cX6_remove 21 = .ok (.iload 4, 2) := dk_21 4 (dk_at dksX6_remove_0 21 rfl rfl)
theorem dX6_remove_23 : decode cX6_remove 23 = .ok (.iconst (-1), 1) := dk_2 (dk_at dksX6_remove_0 23 rfl rfl)
theorem dX6_remove_24 : decode cX6_remove 24 = .ok (.aload_n 0, 1) := dk_42 (dk_at dksX6_remove_1 0 rfl rfl)
theorem dX6_remove_25 : decode cX6_remove 25 = .ok (.getfield 28, 3) := dk_180 0 28 (dk_at dksX6_remove_1 1 rfl rfl)
theorem dX6_remove_28 : decode cX6_remove 28 = .ok (.invokevirtual 95, 3) := dk_182 0 95 (dk_at dksX6_remove_1 4 rfl rfl)
theorem dX6_remove_31 : decode cX6_remove 31 = .ok (.istore 5, 2) := dk_54 5 (dk_at dksX6_remove_1 7 rfl rfl)
theorem dX6_remove_33 : decode cX6_remove 33 = .ok (.iload_n 3, 1) := dk_29 (dk_at dksX6_remove_1 9 rfl rfl)
theorem dX6_remove_34 : decode cX6_remove 34 = .ok (.iconst 0, 1) := dk_3 (dk_at dksX6_remove_1 10 rfl rfl)
theorem dX6_remove_35 : decode cX6_remove 35 = .ok (.iload 5, 2) := dk_21 5 (dk_at dksX6_remove_1 11 rfl rfl)
theorem dX6_remove_37 : decode cX6_remove 37 = .ok (.iconst 1, 1) := dk_4 (dk_at dksX6_remove_1 13 rfl rfl)
theorem dX6_remove_38 : decode cX6_remove 38 = .ok (.isub, 1) := dk_100 (dk_at dksX6_remove_1 14 rfl rfl)
theorem dX6_remove_39 : decode cX6_remove 39 = .ok (.invokestatic 87, 3) := dk_184 0 87 (dk_at dksX6_remove_1 15 rfl rfl)
theorem dX6_remove_42 : decode cX6_remove 42 = .ok (.ifCond .ne 9, 3) := dk_154 0 9 (dk_at dksX6_remove_1 18 rfl rfl)
theorem dX6_remove_45 : decode cX6_remove 45 = .ok (.aload_n 0, 1) := dk_42 (dk_at dksX6_remove_1 21 rfl rfl)
theorem dX6_remove_46 : decode cX6_remove 46 = .ok (.iconst 1, 1) := dk_4 (dk_at dksX6_remove_1 22 rfl rfl)
theorem dX6_remove_47 : decode cX6_remove 47 = .ok (.invokevirtual 131, 3) := dk_182 0 131 (dk_at dksX6_remove_2 0 rfl rfl)
theorem dX6_remove_50 : decode cX6_remove 50 = .ok (.ireturn, 1) := dk_172 (dk_at dksX6_remove_2 3 rfl rfl)
theorem dX6_remove_51 : decode cX6_remove 51 = .ok (.aload_n 0, 1) := dk_42 (dk_at dksX6_remove_2 4 rfl rfl)
theorem dX6_remove_52 : decode cX6_remove 52 = .ok (.iload_n 1, 1) := dk_27 (dk_at dksX6_remove_2 5 rfl rfl)
theorem dX6_remove_53 : decode cX6_remove 53 = .ok (.invokevirtual 138, 3) := dk_182 0 138 (dk_at dksX6_remove_2 6 rfl rfl)
theorem dX6_remove_56 : decode cX6_remove 56 = .ok (.ifCond .eq 9, 3) := dk_153 0 9 (dk_at dksX6_remove_2 9 rfl rfl)
theorem dX6_remove_59 : decode cX6_remove 59 = .ok (.aload_n 0, 1) := dk_42 (dk_at dksX6_remove_2 12 rfl rfl)
theorem dX6_remove_60 : decode cX6_remove 60 = .ok (.iconst 2, 1) := dk_5 (dk_at dksX6_remove_2 13 rfl rfl)
theorem dX6_remove_61 : decode cX6_remove 61 = .ok (.invokevirtual 131, 3) := dk_182 0 131 (dk_at dksX6_remove_2 14 rfl rfl)
theorem dX6_remove_64 : decode cX6_remove 64 = .ok (.ireturn, 1) := dk_172 (dk_at dksX6_remove_2 17 rfl rfl)
theorem dX6_remove_65 : decode cX6_remove 65 = .ok (.aload_n 0, 1) := dk_42 (dk_at dksX6_remove_2 18 rfl rfl)
theorem dX6_remove_66 : decode cX6_remove 66 = .ok (.invokevirtual 141, 3) := dk_182 0 141 (dk_at dksX6_remove_2 19 rfl rfl)
theorem dX6_remove_69 : decode cX6_remove 69 = .ok (.aload_n 0, 1) := dk_42 (dk_at dksX6_remove_2 22 rfl rfl)
theorem dX6_remove_70 : decode cX6_remove 70 = .ok (.iload_n 1, 1) := dk_27 (dk_at dksX6_remove_2 23 rfl rfl)
theorem dX6_remove_71 : decode cX6_remove 71 = .ok (.iconst 3, 1) := dk_6 (dk_at dksX6_remove_3 0 rfl rfl)
theorem dX6_remove_72 : decode cX6_remove 72 = .ok (.iload 4, 2) := dk_21 4 (dk_at dksX6_remove_3 1 rfl rfl)
theorem dX6_remove_74 : decode cX6_remove 74 = .ok (.aload_n 0, 1) := dk_42 (dk_at dksX6_remove_3 3 rfl rfl)
theorem dX6_remove_75 : decode cX6_remove 75 = .ok (.getfield 28, 3) := dk_180 0 28 (dk_at dksX6_remove_3 4 rfl rfl)
theorem dX6_remove_78 : decode cX6_remove 78 = .ok (.iload_n 3, 1) := dk_29 (dk_at dksX6_remove_3 7 rfl rfl)
theorem dX6_remove_79 : decode cX6_remove 79 = .ok (.iaload, 1) := dk_46 (dk_at dksX6_remove_3 8 rfl rfl)
theorem dX6_remove_80 : decode cX6_remove 80 = .ok (.iconst (-1), 1) := dk_2 (dk_at dksX6_remove_3 9 rfl rfl)
theorem dX6_remove_81 : decode cX6_remove 81 = .ok (.invokevirtual 144, 3) := dk_182 0 144 (dk_at dksX6_remove_3 10 rfl rfl)
theorem dX6_remove_84 : decode cX6_remove 84 = .ok (.aload_n 0, 1) := dk_42 (dk_at dksX6_remove_3 13 rfl rfl)
theorem dX6_remove_85 : decode cX6_remove 85 = .ok (.iload 5, 2) := dk_21 5 (dk_at dksX6_remove_3 14 rfl rfl)
theorem dX6_remove_87 : decode cX6_remove 87 = .ok (.iconst 1, 1) := dk_4 (dk_at dksX6_remove_3 16 rfl rfl)
theorem dX6_remove_88 : decode cX6_remove 88 = .ok (.isub, 1) := dk_100 (dk_at dksX6_remove_3 17 rfl rfl)
theorem dX6_remove_89 : decode cX6_remove 89 = .ok (.invokevirtual 148, 3) := dk_182 0 148 (dk_at dksX6_remove_3 18 rfl rfl)
theorem dX6_remove_92 : decode cX6_remove 92 = .ok (.ireturn, 1) := dk_172 (dk_at dksX6_remove_3 21 rfl rfl)
abbrev cX6_shown : ByteArray := prog_15_method_26_code
def yX6_shown : MethodName := ⟨RX6, "shown", "(IZ)I"⟩
def dkwX6_shown_1 : List UInt8 := [182, 0, 83, 167, 0, 8, 42, 4, 182, 0, 131, 172]
abbrev dktX6_shown_1 : List UInt8 := dkwX6_shown_1 ++ []
def dkwX6_shown_0 : List UInt8 := [27, 184, 0, 127, 153, 0, 24, 42, 42, 27, 28, 184, 0, 123, 2, 42, 180, 0, 28, 182, 0, 95]
abbrev dktX6_shown_0 : List UInt8 := dkwX6_shown_0 ++ dktX6_shown_1
theorem dksX6_shown_0 : cX6_shown.data.toList.drop 0 = dktX6_shown_0 := by decide +kernel
theorem dksX6_shown_1 : cX6_shown.data.toList.drop 22 = dktX6_shown_1 := dk_seg dksX6_shown_0 22 rfl rfl
theorem dX6_shown_0 : decode cX6_shown 0 = .ok (.iload_n 1, 1) := dk_27 (dk_at dksX6_shown_0 0 rfl rfl)
theorem dX6_shown_1 : decode cX6_shown 1 = .ok (.invokestatic 127, 3) := dk_184 0 127 (dk_at dksX6_shown_0 1 rfl rfl)
theorem dX6_shown_4 : decode cX6_shown 4 = .ok (.ifCond .eq 24, 3) := dk_153 0 24 (dk_at dksX6_shown_0 4 rfl rfl)
theorem dX6_shown_7 : decode cX6_shown 7 = .ok (.aload_n 0, 1) := dk_42 (dk_at dksX6_shown_0 7 rfl rfl)
theorem dX6_shown_8 : decode cX6_shown 8 = .ok (.aload_n 0, 1) := dk_42 (dk_at dksX6_shown_0 8 rfl rfl)
theorem dX6_shown_9 : decode cX6_shown 9 = .ok (.iload_n 1, 1) := dk_27 (dk_at dksX6_shown_0 9 rfl rfl)
theorem dX6_shown_10 : decode cX6_shown 10 = .ok (.iload_n 2, 1) := dk_28 (dk_at dksX6_shown_0 10 rfl rfl)
theorem dX6_shown_11 : decode cX6_shown 11 = .ok (.invokestatic 123, 3) := dk_184 0 123 (dk_at dksX6_shown_0 11 rfl rfl)
theorem dX6_shown_14 : decode cX6_shown 14 = .ok (.iconst (-1), 1) := dk_2 (dk_at dksX6_shown_0 14 rfl rfl)
theorem dX6_shown_15 : decode cX6_shown 15 = .ok (.aload_n 0, 1) := dk_42 (dk_at dksX6_shown_0 15 rfl rfl)
theorem dX6_shown_16 : decode cX6_shown 16 = .ok (.getfield 28, 3) := dk_180 0 28 (dk_at dksX6_shown_0 16 rfl rfl)
theorem dX6_shown_19 : decode cX6_shown 19 = .ok (.invokevirtual 95, 3) := dk_182 0 95 (dk_at dksX6_shown_0 19 rfl rfl)
theorem dX6_shown_22 : decode cX6_shown 22 = .ok (.invokevirtual 83, 3) := dk_182 0 83 (dk_at dksX6_shown_1 0 rfl rfl)
theorem dX6_shown_25 : decode cX6_shown 25 = .ok (.goto 8, 3) := dk_167 0 8 (dk_at dksX6_shown_1 3 rfl rfl)
theorem dX6_shown_28 : decode cX6_shown 28 = .ok (.aload_n 0, 1) := dk_42 (dk_at dksX6_shown_1 6 rfl rfl)
theorem dX6_shown_29 : decode cX6_shown 29 = .ok (.iconst 1, 1) := dk_4 (dk_at dksX6_shown_1 7 rfl rfl)
theorem dX6_shown_30 : decode cX6_shown 30 = .ok (.invokevirtual 131, 3) := dk_182 0 131 (dk_at dksX6_shown_1 8 rfl rfl)
theorem dX6_shown_33 : decode cX6_shown 33 = .ok (.ireturn, 1) := dk_172 (dk_at dksX6_shown_1 11 rfl rfl)
abbrev cX6_line : ByteArray := prog_15_method_27_code
def yX6_line : MethodName := ⟨RX6, "line", "(IZI)I"⟩
def dkwX6_line_2 : List UInt8 := [167, 0, 4, 2, 182, 0, 83, 172]
abbrev dktX6_line_2 : List UInt8 := dkwX6_line_2 ++ []
def dkwX6_line_1 : List UInt8 := [182, 0, 95, 54, 4, 42, 29, 3, 21, 4, 4, 100, 184, 0, 87, 153, 0, 12, 42, 180, 0, 28, 29, 46]
abbrev dktX6_line_1 : List UInt8 := dkwX6_line_1 ++ dktX6_line_2
def dkwX6_line_0 : List UInt8 := [27, 184, 0, 127, 154, 0, 9, 42, 4, 182, 0, 131, 172, 42, 27, 28, 184, 0, 123, 2, 42, 180, 0, 28]
abbrev dktX6_line_0 : List UInt8 := dkwX6_line_0 ++ dktX6_line_1
theorem dksX6_line_0 : cX6_line.data.toList.drop 0 = dktX6_line_0 := by decide +kernel
theorem dksX6_line_1 : cX6_line.data.toList.drop 24 = dktX6_line_1 := dk_seg dksX6_line_0 24 rfl rfl
theorem dksX6_line_2 : cX6_line.data.toList.drop 48 = dktX6_line_2 := dk_seg dksX6_line_1 24 rfl rfl
theorem dX6_line_0 : decode cX6_line 0 = .ok (.iload_n 1, 1) := dk_27 (dk_at dksX6_line_0 0 rfl rfl)
theorem dX6_line_1 : decode cX6_line 1 = .ok (.invokestatic 127, 3) := dk_184 0 127 (dk_at dksX6_line_0 1 rfl rfl)
theorem dX6_line_4 : decode cX6_line 4 = .ok (.ifCond .ne 9, 3) := dk_154 0 9 (dk_at dksX6_line_0 4 rfl rfl)
theorem dX6_line_7 : decode cX6_line 7 = .ok (.aload_n 0, 1) := dk_42 (dk_at dksX6_line_0 7 rfl rfl)
theorem dX6_line_8 : decode cX6_line 8 = .ok (.iconst 1, 1) := dk_4 (dk_at dksX6_line_0 8 rfl rfl)
theorem dX6_line_9 : decode cX6_line 9 = .ok (.invokevirtual 131, 3) := dk_182 0 131 (dk_at dksX6_line_0 9 rfl rfl)
theorem dX6_line_12 : decode cX6_line 12 = .ok (.ireturn, 1) := dk_172 (dk_at dksX6_line_0 12 rfl rfl)
theorem dX6_line_13 : decode cX6_line 13 = .ok (.aload_n 0, 1) := dk_42 (dk_at dksX6_line_0 13 rfl rfl)
theorem dX6_line_14 : decode cX6_line 14 = .ok (.iload_n 1, 1) := dk_27 (dk_at dksX6_line_0 14 rfl rfl)
theorem dX6_line_15 : decode cX6_line 15 = .ok (.iload_n 2, 1) := dk_28 (dk_at dksX6_line_0 15 rfl rfl)
theorem dX6_line_16 : decode cX6_line 16 = .ok (.invokestatic 123, 3) := dk_184 0 123 (dk_at dksX6_line_0 16 rfl rfl)
theorem dX6_line_19 : decode cX6_line 19 = .ok (.iconst (-1), 1) := dk_2 (dk_at dksX6_line_0 19 rfl rfl)
theorem dX6_line_20 : decode cX6_line 20 = .ok (.aload_n 0, 1) := dk_42 (dk_at dksX6_line_0 20 rfl rfl)
theorem dX6_line_21 : decode cX6_line 21 = .ok (.getfield 28, 3) := dk_180 0 28 (dk_at dksX6_line_0 21 rfl rfl)
theorem dX6_line_24 : decode cX6_line 24 = .ok (.invokevirtual 95, 3) := dk_182 0 95 (dk_at dksX6_line_1 0 rfl rfl)
theorem dX6_line_27 : decode cX6_line 27 = .ok (.istore 4, 2) := dk_54 4 (dk_at dksX6_line_1 3 rfl rfl)
theorem dX6_line_29 : decode cX6_line 29 = .ok (.aload_n 0, 1) := dk_42 (dk_at dksX6_line_1 5 rfl rfl)
theorem dX6_line_30 : decode cX6_line 30 = .ok (.iload_n 3, 1) := dk_29 (dk_at dksX6_line_1 6 rfl rfl)
theorem dX6_line_31 : decode cX6_line 31 = .ok (.iconst 0, 1) := dk_3 (dk_at dksX6_line_1 7 rfl rfl)
theorem dX6_line_32 : decode cX6_line 32 = .ok (.iload 4, 2) := dk_21 4 (dk_at dksX6_line_1 8 rfl rfl)
theorem dX6_line_34 : decode cX6_line 34 = .ok (.iconst 1, 1) := dk_4 (dk_at dksX6_line_1 10 rfl rfl)
theorem dX6_line_35 : decode cX6_line 35 = .ok (.isub, 1) := dk_100 (dk_at dksX6_line_1 11 rfl rfl)
theorem dX6_line_36 : decode cX6_line 36 = .ok (.invokestatic 87, 3) := dk_184 0 87 (dk_at dksX6_line_1 12 rfl rfl)
theorem dX6_line_39 : decode cX6_line 39 = .ok (.ifCond .eq 12, 3) := dk_153 0 12 (dk_at dksX6_line_1 15 rfl rfl)
theorem dX6_line_42 : decode cX6_line 42 = .ok (.aload_n 0, 1) := dk_42 (dk_at dksX6_line_1 18 rfl rfl)
theorem dX6_line_43 : decode cX6_line 43 = .ok (.getfield 28, 3) := dk_180 0 28 (dk_at dksX6_line_1 19 rfl rfl)
theorem dX6_line_46 : decode cX6_line 46 = .ok (.iload_n 3, 1) := dk_29 (dk_at dksX6_line_1 22 rfl rfl)
theorem dX6_line_47 : decode cX6_line 47 = .ok (.iaload, 1) := dk_46 (dk_at dksX6_line_1 23 rfl rfl)
theorem dX6_line_48 : decode cX6_line 48 = .ok (.goto 4, 3) := dk_167 0 4 (dk_at dksX6_line_2 0 rfl rfl)
theorem dX6_line_51 : decode cX6_line 51 = .ok (.iconst (-1), 1) := dk_2 (dk_at dksX6_line_2 3 rfl rfl)
theorem dX6_line_52 : decode cX6_line 52 = .ok (.invokevirtual 83, 3) := dk_182 0 83 (dk_at dksX6_line_2 4 rfl rfl)
theorem dX6_line_55 : decode cX6_line 55 = .ok (.ireturn, 1) := dk_172 (dk_at dksX6_line_2 7 rfl rfl)
abbrev cX6_position : ByteArray := prog_15_method_28_code
def yX6_position : MethodName := ⟨RX6, "position", "(IZI)I"⟩
def dkwX6_position_1 : List UInt8 := [42, 27, 28, 184, 0, 123, 29, 182, 0, 151, 182, 0, 83, 167, 0, 8, 42, 5, 182, 0, 131, 172]
abbrev dktX6_position_1 : List UInt8 := dkwX6_position_1 ++ []
def dkwX6_position_0 : List UInt8 := [27, 184, 0, 127, 154, 0, 9, 42, 4, 182, 0, 131, 172, 29, 3, 16, 11, 184, 0, 87, 153, 0, 20, 42]
abbrev dktX6_position_0 : List UInt8 := dkwX6_position_0 ++ dktX6_position_1
theorem dksX6_position_0 : cX6_position.data.toList.drop 0 = dktX6_position_0 := by decide +kernel
theorem dksX6_position_1 : cX6_position.data.toList.drop 24 = dktX6_position_1 := dk_seg dksX6_position_0 24 rfl rfl
theorem dX6_position_0 : decode cX6_position 0 = .ok (.iload_n 1, 1) := dk_27 (dk_at dksX6_position_0 0 rfl rfl)
theorem dX6_position_1 : decode cX6_position 1 = .ok (.invokestatic 127, 3) := dk_184 0 127 (dk_at dksX6_position_0 1 rfl rfl)
theorem dX6_position_4 : decode cX6_position 4 = .ok (.ifCond .ne 9, 3) := dk_154 0 9 (dk_at dksX6_position_0 4 rfl rfl)
theorem dX6_position_7 : decode cX6_position 7 = .ok (.aload_n 0, 1) := dk_42 (dk_at dksX6_position_0 7 rfl rfl)
theorem dX6_position_8 : decode cX6_position 8 = .ok (.iconst 1, 1) := dk_4 (dk_at dksX6_position_0 8 rfl rfl)
theorem dX6_position_9 : decode cX6_position 9 = .ok (.invokevirtual 131, 3) := dk_182 0 131 (dk_at dksX6_position_0 9 rfl rfl)
theorem dX6_position_12 : decode cX6_position 12 = .ok (.ireturn, 1) := dk_172 (dk_at dksX6_position_0 12 rfl rfl)
theorem dX6_position_13 : decode cX6_position 13 = .ok (.iload_n 3, 1) := dk_29 (dk_at dksX6_position_0 13 rfl rfl)
theorem dX6_position_14 : decode cX6_position 14 = .ok (.iconst 0, 1) := dk_3 (dk_at dksX6_position_0 14 rfl rfl)
theorem dX6_position_15 : decode cX6_position 15 = .ok (.bipush 11, 2) := dk_16 11 (dk_at dksX6_position_0 15 rfl rfl)
theorem dX6_position_17 : decode cX6_position 17 = .ok (.invokestatic 87, 3) := dk_184 0 87 (dk_at dksX6_position_0 17 rfl rfl)
theorem dX6_position_20 : decode cX6_position 20 = .ok (.ifCond .eq 20, 3) := dk_153 0 20 (dk_at dksX6_position_0 20 rfl rfl)
theorem dX6_position_23 : decode cX6_position 23 = .ok (.aload_n 0, 1) := dk_42 (dk_at dksX6_position_0 23 rfl rfl)
theorem dX6_position_24 : decode cX6_position 24 = .ok (.aload_n 0, 1) := dk_42 (dk_at dksX6_position_1 0 rfl rfl)
theorem dX6_position_25 : decode cX6_position 25 = .ok (.iload_n 1, 1) := dk_27 (dk_at dksX6_position_1 1 rfl rfl)
theorem dX6_position_26 : decode cX6_position 26 = .ok (.iload_n 2, 1) := dk_28 (dk_at dksX6_position_1 2 rfl rfl)
theorem dX6_position_27 : decode cX6_position 27 = .ok (.invokestatic 123, 3) := dk_184 0 123 (dk_at dksX6_position_1 3 rfl rfl)
theorem dX6_position_30 : decode cX6_position 30 = .ok (.iload_n 3, 1) := dk_29 (dk_at dksX6_position_1 6 rfl rfl)
theorem dX6_position_31 : decode cX6_position 31 = .ok (.invokevirtual 151, 3) := dk_182 0 151 (dk_at dksX6_position_1 7 rfl rfl)
theorem dX6_position_34 : decode cX6_position 34 = .ok (.invokevirtual 83, 3) := dk_182 0 83 (dk_at dksX6_position_1 10 rfl rfl)
theorem dX6_position_37 : decode cX6_position 37 = .ok (.goto 8, 3) := dk_167 0 8 (dk_at dksX6_position_1 13 rfl rfl)
theorem dX6_position_40 : decode cX6_position 40 = .ok (.aload_n 0, 1) := dk_42 (dk_at dksX6_position_1 16 rfl rfl)
theorem dX6_position_41 : decode cX6_position 41 = .ok (.iconst 2, 1) := dk_5 (dk_at dksX6_position_1 17 rfl rfl)
theorem dX6_position_42 : decode cX6_position 42 = .ok (.invokevirtual 131, 3) := dk_182 0 131 (dk_at dksX6_position_1 18 rfl rfl)
theorem dX6_position_45 : decode cX6_position 45 = .ok (.ireturn, 1) := dk_172 (dk_at dksX6_position_1 21 rfl rfl)
abbrev cX6_place : ByteArray := prog_15_method_29_code
def yX6_place : MethodName := ⟨RX6, "place", "(IZI)I"⟩
def dkwX6_place_2 : List UInt8 := [167, 0, 8, 42, 5, 182, 0, 131, 172]
abbrev dktX6_place_2 : List UInt8 := dkwX6_place_2 ++ []
def dkwX6_place_1 : List UInt8 := [42, 180, 0, 7, 27, 16, 12, 28, 184, 0, 123, 104, 29, 96, 184, 0, 72, 3, 96, 46, 182, 0, 83]
abbrev dktX6_place_1 : List UInt8 := dkwX6_place_1 ++ dktX6_place_2
def dkwX6_place_0 : List UInt8 := [27, 184, 0, 127, 154, 0, 9, 42, 4, 182, 0, 131, 172, 29, 3, 16, 11, 184, 0, 87, 153, 0, 30, 42]
abbrev dktX6_place_0 : List UInt8 := dkwX6_place_0 ++ dktX6_place_1
theorem dksX6_place_0 : cX6_place.data.toList.drop 0 = dktX6_place_0 := by decide +kernel
theorem dksX6_place_1 : cX6_place.data.toList.drop 24 = dktX6_place_1 := dk_seg dksX6_place_0 24 rfl rfl
theorem dksX6_place_2 : cX6_place.data.toList.drop 47 = dktX6_place_2 := dk_seg dksX6_place_1 23 rfl rfl
theorem dX6_place_0 : decode cX6_place 0 = .ok (.iload_n 1, 1) := dk_27 (dk_at dksX6_place_0 0 rfl rfl)
theorem dX6_place_1 : decode cX6_place 1 = .ok (.invokestatic 127, 3) := dk_184 0 127 (dk_at dksX6_place_0 1 rfl rfl)
theorem dX6_place_4 : decode cX6_place 4 = .ok (.ifCond .ne 9, 3) := dk_154 0 9 (dk_at dksX6_place_0 4 rfl rfl)
theorem dX6_place_7 : decode cX6_place 7 = .ok (.aload_n 0, 1) := dk_42 (dk_at dksX6_place_0 7 rfl rfl)
theorem dX6_place_8 : decode cX6_place 8 = .ok (.iconst 1, 1) := dk_4 (dk_at dksX6_place_0 8 rfl rfl)
theorem dX6_place_9 : decode cX6_place 9 = .ok (.invokevirtual 131, 3) := dk_182 0 131 (dk_at dksX6_place_0 9 rfl rfl)
theorem dX6_place_12 : decode cX6_place 12 = .ok (.ireturn, 1) := dk_172 (dk_at dksX6_place_0 12 rfl rfl)
theorem dX6_place_13 : decode cX6_place 13 = .ok (.iload_n 3, 1) := dk_29 (dk_at dksX6_place_0 13 rfl rfl)
theorem dX6_place_14 : decode cX6_place 14 = .ok (.iconst 0, 1) := dk_3 (dk_at dksX6_place_0 14 rfl rfl)
theorem dX6_place_15 : decode cX6_place 15 = .ok (.bipush 11, 2) := dk_16 11 (dk_at dksX6_place_0 15 rfl rfl)
theorem dX6_place_17 : decode cX6_place 17 = .ok (.invokestatic 87, 3) := dk_184 0 87 (dk_at dksX6_place_0 17 rfl rfl)
theorem dX6_place_20 : decode cX6_place 20 = .ok (.ifCond .eq 30, 3) := dk_153 0 30 (dk_at dksX6_place_0 20 rfl rfl)
theorem dX6_place_23 : decode cX6_place 23 = .ok (.aload_n 0, 1) := dk_42 (dk_at dksX6_place_0 23 rfl rfl)
theorem dX6_place_24 : decode cX6_place 24 = .ok (.aload_n 0, 1) := dk_42 (dk_at dksX6_place_1 0 rfl rfl)
theorem dX6_place_25 : decode cX6_place 25 = .ok (.getfield 7, 3) := dk_180 0 7 (dk_at dksX6_place_1 1 rfl rfl)
theorem dX6_place_28 : decode cX6_place 28 = .ok (.iload_n 1, 1) := dk_27 (dk_at dksX6_place_1 4 rfl rfl)
theorem dX6_place_29 : decode cX6_place 29 = .ok (.bipush 12, 2) := dk_16 12 (dk_at dksX6_place_1 5 rfl rfl)
theorem dX6_place_31 : decode cX6_place 31 = .ok (.iload_n 2, 1) := dk_28 (dk_at dksX6_place_1 7 rfl rfl)
theorem dX6_place_32 : decode cX6_place 32 = .ok (.invokestatic 123, 3) := dk_184 0 123 (dk_at dksX6_place_1 8 rfl rfl)
theorem dX6_place_35 : decode cX6_place 35 = .ok (.imul, 1) := dk_104 (dk_at dksX6_place_1 11 rfl rfl)
theorem dX6_place_36 : decode cX6_place 36 = .ok (.iload_n 3, 1) := dk_29 (dk_at dksX6_place_1 12 rfl rfl)
theorem dX6_place_37 : decode cX6_place 37 = .ok (.iadd, 1) := dk_96 (dk_at dksX6_place_1 13 rfl rfl)
theorem dX6_place_38 : decode cX6_place 38 = .ok (.invokestatic 72, 3) := dk_184 0 72 (dk_at dksX6_place_1 14 rfl rfl)
theorem dX6_place_41 : decode cX6_place 41 = .ok (.iconst 0, 1) := dk_3 (dk_at dksX6_place_1 17 rfl rfl)
theorem dX6_place_42 : decode cX6_place 42 = .ok (.iadd, 1) := dk_96 (dk_at dksX6_place_1 18 rfl rfl)
theorem dX6_place_43 : decode cX6_place 43 = .ok (.iaload, 1) := dk_46 (dk_at dksX6_place_1 19 rfl rfl)
theorem dX6_place_44 : decode cX6_place 44 = .ok (.invokevirtual 83, 3) := dk_182 0 83 (dk_at dksX6_place_1 20 rfl rfl)
theorem dX6_place_47 : decode cX6_place 47 = .ok (.goto 8, 3) := dk_167 0 8 (dk_at dksX6_place_2 0 rfl rfl)
theorem dX6_place_50 : decode cX6_place 50 = .ok (.aload_n 0, 1) := dk_42 (dk_at dksX6_place_2 3 rfl rfl)
theorem dX6_place_51 : decode cX6_place 51 = .ok (.iconst 2, 1) := dk_5 (dk_at dksX6_place_2 4 rfl rfl)
theorem dX6_place_52 : decode cX6_place 52 = .ok (.invokevirtual 131, 3) := dk_182 0 131 (dk_at dksX6_place_2 5 rfl rfl)
theorem dX6_place_55 : decode cX6_place 55 = .ok (.ireturn, 1) := dk_172 (dk_at dksX6_place_2 8 rfl rfl)
abbrev cX6_setNumber : ByteArray := prog_15_method_32_code
def yX6_setNumber : MethodName := ⟨RX6, "setNumber", "(IIII)I"⟩
def dkwX6_setNumber_2 : List UInt8 := [182, 0, 131, 167, 0, 14, 42, 27, 28, 29, 4, 21, 4, 3, 182, 0, 162, 172]
abbrev dktX6_setNumber_2 : List UInt8 := dkwX6_setNumber_2 ++ []
def dkwX6_setNumber_1 : List UInt8 := [184, 0, 87, 154, 0, 9, 42, 5, 182, 0, 131, 172, 42, 27, 182, 0, 138, 153, 0, 11, 42, 6]
abbrev dktX6_setNumber_1 : List UInt8 := dkwX6_setNumber_1 ++ dktX6_setNumber_2
def dkwX6_setNumber_0 : List UInt8 := [42, 27, 28, 29, 182, 0, 159, 154, 0, 9, 42, 4, 182, 0, 131, 172, 21, 4, 17, 216, 241, 17, 39, 15]
abbrev dktX6_setNumber_0 : List UInt8 := dkwX6_setNumber_0 ++ dktX6_setNumber_1
theorem dksX6_setNumber_0 : cX6_setNumber.data.toList.drop 0 = dktX6_setNumber_0 := by decide +kernel
theorem dksX6_setNumber_1 : cX6_setNumber.data.toList.drop 24 = dktX6_setNumber_1 := dk_seg dksX6_setNumber_0 24 rfl rfl
theorem dksX6_setNumber_2 : cX6_setNumber.data.toList.drop 46 = dktX6_setNumber_2 := dk_seg dksX6_setNumber_1 22 rfl rfl
theorem dX6_setNumber_0 : decode cX6_setNumber 0 = .ok (.aload_n 0, 1) := dk_42 (dk_at dksX6_setNumber_0 0 rfl rfl)
theorem dX6_setNumber_1 : decode cX6_setNumber 1 = .ok (.iload_n 1, 1) := dk_27 (dk_at dksX6_setNumber_0 1 rfl rfl)
theorem dX6_setNumber_2 : decode cX6_setNumber 2 = .ok (.iload_n 2, 1) := dk_28 (dk_at dksX6_setNumber_0 2 rfl rfl)
theorem dX6_setNumber_3 : decode cX6_setNumber 3 = .ok (.iload_n 3, 1) := dk_29 (dk_at dksX6_setNumber_0 3 rfl rfl)
theorem dX6_setNumber_4 : decode cX6_setNumber 4 = .ok (.invokevirtual 159, 3) := dk_182 0 159 (dk_at dksX6_setNumber_0 4 rfl rfl)
theorem dX6_setNumber_7 : decode cX6_setNumber 7 = .ok (.ifCond .ne 9, 3) := dk_154 0 9 (dk_at dksX6_setNumber_0 7 rfl rfl)
theorem dX6_setNumber_10 : decode cX6_setNumber 10 = .ok (.aload_n 0, 1) := dk_42 (dk_at dksX6_setNumber_0 10 rfl rfl)
theorem dX6_setNumber_11 : decode cX6_setNumber 11 = .ok (.iconst 1, 1) := dk_4 (dk_at dksX6_setNumber_0 11 rfl rfl)
theorem dX6_setNumber_12 : decode cX6_setNumber 12 = .ok (.invokevirtual 131, 3) := dk_182 0 131 (dk_at dksX6_setNumber_0 12 rfl rfl)
theorem dX6_setNumber_15 : decode cX6_setNumber 15 = .ok (.ireturn, 1) := dk_172 (dk_at dksX6_setNumber_0 15 rfl rfl)
theorem dX6_setNumber_16 : decode cX6_setNumber 16 = .ok (.iload 4, 2) := dk_21 4 (dk_at dksX6_setNumber_0 16 rfl rfl)
theorem dX6_setNumber_18 : decode cX6_setNumber 18 = .ok (.sipush (-9999), 3) := dk_17 216 241 (dk_at dksX6_setNumber_0 18 rfl rfl)
theorem dX6_setNumber_21 : decode cX6_setNumber 21 = .ok (.sipush 9999, 3) := dk_17 39 15 (dk_at dksX6_setNumber_0 21 rfl rfl)
theorem dX6_setNumber_24 : decode cX6_setNumber 24 = .ok (.invokestatic 87, 3) := dk_184 0 87 (dk_at dksX6_setNumber_1 0 rfl rfl)
theorem dX6_setNumber_27 : decode cX6_setNumber 27 = .ok (.ifCond .ne 9, 3) := dk_154 0 9 (dk_at dksX6_setNumber_1 3 rfl rfl)
theorem dX6_setNumber_30 : decode cX6_setNumber 30 = .ok (.aload_n 0, 1) := dk_42 (dk_at dksX6_setNumber_1 6 rfl rfl)
theorem dX6_setNumber_31 : decode cX6_setNumber 31 = .ok (.iconst 2, 1) := dk_5 (dk_at dksX6_setNumber_1 7 rfl rfl)
theorem dX6_setNumber_32 : decode cX6_setNumber 32 = .ok (.invokevirtual 131, 3) := dk_182 0 131 (dk_at dksX6_setNumber_1 8 rfl rfl)
theorem dX6_setNumber_35 : decode cX6_setNumber 35 = .ok (.ireturn, 1) := dk_172 (dk_at dksX6_setNumber_1 11 rfl rfl)
theorem dX6_setNumber_36 : decode cX6_setNumber 36 = .ok (.aload_n 0, 1) := dk_42 (dk_at dksX6_setNumber_1 12 rfl rfl)
theorem dX6_setNumber_37 : decode cX6_setNumber 37 = .ok (.iload_n 1, 1) := dk_27 (dk_at dksX6_setNumber_1 13 rfl rfl)
theorem dX6_setNumber_38 : decode cX6_setNumber 38 = .ok (.invokevirtual 138, 3) := dk_182 0 138 (dk_at dksX6_setNumber_1 14 rfl rfl)
theorem dX6_setNumber_41 : decode cX6_setNumber 41 = .ok (.ifCond .eq 11, 3) := dk_153 0 11 (dk_at dksX6_setNumber_1 17 rfl rfl)
theorem dX6_setNumber_44 : decode cX6_setNumber 44 = .ok (.aload_n 0, 1) := dk_42 (dk_at dksX6_setNumber_1 20 rfl rfl)
theorem dX6_setNumber_45 : decode cX6_setNumber 45 = .ok (.iconst 3, 1) := dk_6 (dk_at dksX6_setNumber_1 21 rfl rfl)
theorem dX6_setNumber_46 : decode cX6_setNumber 46 = .ok (.invokevirtual 131, 3) := dk_182 0 131 (dk_at dksX6_setNumber_2 0 rfl rfl)
theorem dX6_setNumber_49 : decode cX6_setNumber 49 = .ok (.goto 14, 3) := dk_167 0 14 (dk_at dksX6_setNumber_2 3 rfl rfl)
theorem dX6_setNumber_52 : decode cX6_setNumber 52 = .ok (.aload_n 0, 1) := dk_42 (dk_at dksX6_setNumber_2 6 rfl rfl)
theorem dX6_setNumber_53 : decode cX6_setNumber 53 = .ok (.iload_n 1, 1) := dk_27 (dk_at dksX6_setNumber_2 7 rfl rfl)
theorem dX6_setNumber_54 : decode cX6_setNumber 54 = .ok (.iload_n 2, 1) := dk_28 (dk_at dksX6_setNumber_2 8 rfl rfl)
theorem dX6_setNumber_55 : decode cX6_setNumber 55 = .ok (.iload_n 3, 1) := dk_29 (dk_at dksX6_setNumber_2 9 rfl rfl)
theorem dX6_setNumber_56 : decode cX6_setNumber 56 = .ok (.iconst 1, 1) := dk_4 (dk_at dksX6_setNumber_2 10 rfl rfl)
theorem dX6_setNumber_57 : decode cX6_setNumber 57 = .ok (.iload 4, 2) := dk_21 4 (dk_at dksX6_setNumber_2 11 rfl rfl)
theorem dX6_setNumber_59 : decode cX6_setNumber 59 = .ok (.iconst 0, 1) := dk_3 (dk_at dksX6_setNumber_2 13 rfl rfl)
theorem dX6_setNumber_60 : decode cX6_setNumber 60 = .ok (.invokevirtual 162, 3) := dk_182 0 162 (dk_at dksX6_setNumber_2 14 rfl rfl)
theorem dX6_setNumber_63 : decode cX6_setNumber 63 = .ok (.ireturn, 1) := dk_172 (dk_at dksX6_setNumber_2 17 rfl rfl)
abbrev cX6_isCell : ByteArray := prog_15_method_30_code
def yX6_isCell : MethodName := ⟨RX6, "isCell", "(III)Z"⟩
def dkwX6_isCell_2 : List UInt8 := [3, 172]
abbrev dktX6_isCell_2 : List UInt8 := dkwX6_isCell_2 ++ []
def dkwX6_isCell_1 : List UInt8 := [184, 0, 87, 153, 0, 21, 29, 3, 42, 180, 0, 102, 4, 100, 184, 0, 87, 153, 0, 7, 4, 167, 0, 4]
abbrev dktX6_isCell_1 : List UInt8 := dkwX6_isCell_1 ++ dktX6_isCell_2
def dkwX6_isCell_0 : List UInt8 := [27, 184, 0, 127, 154, 0, 5, 3, 172, 42, 27, 182, 0, 155, 28, 3, 42, 180, 0, 99, 4, 100]
abbrev dktX6_isCell_0 : List UInt8 := dkwX6_isCell_0 ++ dktX6_isCell_1
theorem dksX6_isCell_0 : cX6_isCell.data.toList.drop 0 = dktX6_isCell_0 := by decide +kernel
theorem dksX6_isCell_1 : cX6_isCell.data.toList.drop 22 = dktX6_isCell_1 := dk_seg dksX6_isCell_0 22 rfl rfl
theorem dksX6_isCell_2 : cX6_isCell.data.toList.drop 46 = dktX6_isCell_2 := dk_seg dksX6_isCell_1 24 rfl rfl
theorem dX6_isCell_0 : decode cX6_isCell 0 = .ok (.iload_n 1, 1) := dk_27 (dk_at dksX6_isCell_0 0 rfl rfl)
theorem dX6_isCell_1 : decode cX6_isCell 1 = .ok (.invokestatic 127, 3) := dk_184 0 127 (dk_at dksX6_isCell_0 1 rfl rfl)
theorem dX6_isCell_4 : decode cX6_isCell 4 = .ok (.ifCond .ne 5, 3) := dk_154 0 5 (dk_at dksX6_isCell_0 4 rfl rfl)
theorem dX6_isCell_7 : decode cX6_isCell 7 = .ok (.iconst 0, 1) := dk_3 (dk_at dksX6_isCell_0 7 rfl rfl)
theorem dX6_isCell_8 : decode cX6_isCell 8 = .ok (.ireturn, 1) := dk_172 (dk_at dksX6_isCell_0 8 rfl rfl)
theorem dX6_isCell_9 : decode cX6_isCell 9 = .ok (.aload_n 0, 1) := dk_42 (dk_at dksX6_isCell_0 9 rfl rfl)
theorem dX6_isCell_10 : decode cX6_isCell 10 = .ok (.iload_n 1, 1) := dk_27 (dk_at dksX6_isCell_0 10 rfl rfl)
theorem dX6_isCell_11 : decode cX6_isCell 11 = .ok (.invokevirtual 155, 3) := dk_182 0 155 (dk_at dksX6_isCell_0 11 rfl rfl)
theorem dX6_isCell_14 : decode cX6_isCell 14 = .ok (.iload_n 2, 1) := dk_28 (dk_at dksX6_isCell_0 14 rfl rfl)
theorem dX6_isCell_15 : decode cX6_isCell 15 = .ok (.iconst 0, 1) := dk_3 (dk_at dksX6_isCell_0 15 rfl rfl)
theorem dX6_isCell_16 : decode cX6_isCell 16 = .ok (.aload_n 0, 1) := dk_42 (dk_at dksX6_isCell_0 16 rfl rfl)
theorem dX6_isCell_17 : decode cX6_isCell 17 = .ok (.getfield 99, 3) := dk_180 0 99 (dk_at dksX6_isCell_0 17 rfl rfl)
theorem dX6_isCell_20 : decode cX6_isCell 20 = .ok (.iconst 1, 1) := dk_4 (dk_at dksX6_isCell_0 20 rfl rfl)
theorem dX6_isCell_21 : decode cX6_isCell 21 = .ok (.isub, 1) := dk_100 (dk_at dksX6_isCell_0 21 rfl rfl)
theorem dX6_isCell_22 : decode cX6_isCell 22 = .ok (.invokestatic 87, 3) := dk_184 0 87 (dk_at dksX6_isCell_1 0 rfl rfl)
theorem dX6_isCell_25 : decode cX6_isCell 25 = .ok (.ifCond .eq 21, 3) := dk_153 0 21 (dk_at dksX6_isCell_1 3 rfl rfl)
theorem dX6_isCell_28 : decode cX6_isCell 28 = .ok (.iload_n 3, 1) := dk_29 (dk_at dksX6_isCell_1 6 rfl rfl)
theorem dX6_isCell_29 : decode cX6_isCell 29 = .ok (.iconst 0, 1) := dk_3 (dk_at dksX6_isCell_1 7 rfl rfl)
theorem dX6_isCell_30 : decode cX6_isCell 30 = .ok (.aload_n 0, 1) := dk_42 (dk_at dksX6_isCell_1 8 rfl rfl)
theorem dX6_isCell_31 : decode cX6_isCell 31 = .ok (.getfield 102, 3) := dk_180 0 102 (dk_at dksX6_isCell_1 9 rfl rfl)
theorem dX6_isCell_34 : decode cX6_isCell 34 = .ok (.iconst 1, 1) := dk_4 (dk_at dksX6_isCell_1 12 rfl rfl)
theorem dX6_isCell_35 : decode cX6_isCell 35 = .ok (.isub, 1) := dk_100 (dk_at dksX6_isCell_1 13 rfl rfl)
theorem dX6_isCell_36 : decode cX6_isCell 36 = .ok (.invokestatic 87, 3) := dk_184 0 87 (dk_at dksX6_isCell_1 14 rfl rfl)
theorem dX6_isCell_39 : decode cX6_isCell 39 = .ok (.ifCond .eq 7, 3) := dk_153 0 7 (dk_at dksX6_isCell_1 17 rfl rfl)
theorem dX6_isCell_42 : decode cX6_isCell 42 = .ok (.iconst 1, 1) := dk_4 (dk_at dksX6_isCell_1 20 rfl rfl)
theorem dX6_isCell_43 : decode cX6_isCell 43 = .ok (.goto 4, 3) := dk_167 0 4 (dk_at dksX6_isCell_1 21 rfl rfl)
theorem dX6_isCell_46 : decode cX6_isCell 46 = .ok (.iconst 0, 1) := dk_3 (dk_at dksX6_isCell_2 0 rfl rfl)
theorem dX6_isCell_47 : decode cX6_isCell 47 = .ok (.ireturn, 1) := dk_172 (dk_at dksX6_isCell_2 1 rfl rfl)
abbrev cX6_looks : ByteArray := prog_15_method_15_code
def yX6_looks : MethodName := ⟨RX6, "looks", "(I)V"⟩
def dkwX6_looks_1 : List UInt8 := [182, 0, 95, 181, 0, 102, 177]
abbrev dktX6_looks_1 : List UInt8 := dkwX6_looks_1 ++ []
def dkwX6_looks_0 : List UInt8 := [42, 42, 27, 3, 2, 42, 180, 0, 22, 182, 0, 95, 181, 0, 99, 42, 42, 27, 4, 2, 42, 180, 0, 25]
abbrev dktX6_looks_0 : List UInt8 := dkwX6_looks_0 ++ dktX6_looks_1
theorem dksX6_looks_0 : cX6_looks.data.toList.drop 0 = dktX6_looks_0 := by decide +kernel
theorem dksX6_looks_1 : cX6_looks.data.toList.drop 24 = dktX6_looks_1 := dk_seg dksX6_looks_0 24 rfl rfl
theorem dX6_looks_0 : decode cX6_looks 0 = .ok (.aload_n 0, 1) := dk_42 (dk_at dksX6_looks_0 0 rfl rfl)
theorem dX6_looks_1 : decode cX6_looks 1 = .ok (.aload_n 0, 1) := dk_42 (dk_at dksX6_looks_0 1 rfl rfl)
theorem dX6_looks_2 : decode cX6_looks 2 = .ok (.iload_n 1, 1) := dk_27 (dk_at dksX6_looks_0 2 rfl rfl)
theorem dX6_looks_3 : decode cX6_looks 3 = .ok (.iconst 0, 1) := dk_3 (dk_at dksX6_looks_0 3 rfl rfl)
theorem dX6_looks_4 : decode cX6_looks 4 = .ok (.iconst (-1), 1) := dk_2 (dk_at dksX6_looks_0 4 rfl rfl)
theorem dX6_looks_5 : decode cX6_looks 5 = .ok (.aload_n 0, 1) := dk_42 (dk_at dksX6_looks_0 5 rfl rfl)
theorem dX6_looks_6 : decode cX6_looks 6 = .ok (.getfield 22, 3) := dk_180 0 22 (dk_at dksX6_looks_0 6 rfl rfl)
theorem dX6_looks_9 : decode cX6_looks 9 = .ok (.invokevirtual 95, 3) := dk_182 0 95 (dk_at dksX6_looks_0 9 rfl rfl)
theorem dX6_looks_12 : decode cX6_looks 12 = .ok (.putfield 99, 3) := dk_181 0 99 (dk_at dksX6_looks_0 12 rfl rfl)
theorem dX6_looks_15 : decode cX6_looks 15 = .ok (.aload_n 0, 1) := dk_42 (dk_at dksX6_looks_0 15 rfl rfl)
theorem dX6_looks_16 : decode cX6_looks 16 = .ok (.aload_n 0, 1) := dk_42 (dk_at dksX6_looks_0 16 rfl rfl)
theorem dX6_looks_17 : decode cX6_looks 17 = .ok (.iload_n 1, 1) := dk_27 (dk_at dksX6_looks_0 17 rfl rfl)
theorem dX6_looks_18 : decode cX6_looks 18 = .ok (.iconst 1, 1) := dk_4 (dk_at dksX6_looks_0 18 rfl rfl)
theorem dX6_looks_19 : decode cX6_looks 19 = .ok (.iconst (-1), 1) := dk_2 (dk_at dksX6_looks_0 19 rfl rfl)
theorem dX6_looks_20 : decode cX6_looks 20 = .ok (.aload_n 0, 1) := dk_42 (dk_at dksX6_looks_0 20 rfl rfl)
theorem dX6_looks_21 : decode cX6_looks 21 = .ok (.getfield 25, 3) := dk_180 0 25 (dk_at dksX6_looks_0 21 rfl rfl)
theorem dX6_looks_24 : decode cX6_looks 24 = .ok (.invokevirtual 95, 3) := dk_182 0 95 (dk_at dksX6_looks_1 0 rfl rfl)
theorem dX6_looks_27 : decode cX6_looks 27 = .ok (.putfield 102, 3) := dk_181 0 102 (dk_at dksX6_looks_1 3 rfl rfl)
theorem dX6_looks_30 : decode cX6_looks 30 = .ok (.return_, 1) := dk_177 (dk_at dksX6_looks_1 6 rfl rfl)
abbrev cX6_writes : ByteArray := prog_15_method_31_code
def yX6_writes : MethodName := ⟨RX6, "writes", "(IIIIII)I"⟩
def dkwX6_writes_5 : List UInt8 := [180, 0, 25, 29, 46, 182, 0, 144, 42, 42, 27, 3, 182, 0, 108, 182, 0, 148, 172]
abbrev dktX6_writes_5 : List UInt8 := dkwX6_writes_5 ++ []
def dkwX6_writes_4 : List UInt8 := [46, 167, 0, 4, 3, 79, 132, 8, 1, 167, 255, 215, 42, 27, 7, 2, 42, 180, 0, 22, 28, 46, 42]
abbrev dktX6_writes_4 : List UInt8 := dkwX6_writes_4 ++ dktX6_writes_5
def dkwX6_writes_3 : List UInt8 := [180, 0, 7, 21, 7, 16, 8, 96, 21, 8, 96, 21, 8, 21, 6, 162, 0, 13, 42, 180, 0, 31, 21, 8]
abbrev dktX6_writes_3 : List UInt8 := dkwX6_writes_3 ++ dktX6_writes_4
def dkwX6_writes_2 : List UInt8 := [180, 0, 7, 21, 7, 16, 7, 96, 21, 6, 79, 3, 54, 8, 21, 8, 16, 24, 162, 0, 40, 42]
abbrev dktX6_writes_2 : List UInt8 := dkwX6_writes_2 ++ dktX6_writes_3
def dkwX6_writes_1 : List UInt8 := [180, 0, 7, 21, 7, 8, 96, 21, 4, 79, 42, 180, 0, 7, 21, 7, 16, 6, 96, 21, 5, 79, 42]
abbrev dktX6_writes_1 : List UInt8 := dkwX6_writes_1 ++ dktX6_writes_2
def dkwX6_writes_0 : List UInt8 := [42, 182, 0, 141, 6, 16, 32, 16, 40, 27, 104, 42, 180, 0, 7, 27, 46, 96, 104, 96, 54, 7, 42]
abbrev dktX6_writes_0 : List UInt8 := dkwX6_writes_0 ++ dktX6_writes_1
theorem dksX6_writes_0 : cX6_writes.data.toList.drop 0 = dktX6_writes_0 := by decide +kernel
theorem dksX6_writes_1 : cX6_writes.data.toList.drop 23 = dktX6_writes_1 := dk_seg dksX6_writes_0 23 rfl rfl
theorem dksX6_writes_2 : cX6_writes.data.toList.drop 46 = dktX6_writes_2 := dk_seg dksX6_writes_1 23 rfl rfl
theorem dksX6_writes_3 : cX6_writes.data.toList.drop 68 = dktX6_writes_3 := dk_seg dksX6_writes_2 22 rfl rfl
theorem dksX6_writes_4 : cX6_writes.data.toList.drop 92 = dktX6_writes_4 := dk_seg dksX6_writes_3 24 rfl rfl
theorem dksX6_writes_5 : cX6_writes.data.toList.drop 115 = dktX6_writes_5 := dk_seg dksX6_writes_4 23 rfl rfl
theorem dX6_writes_0 : decode cX6_writes 0 = .ok (.aload_n 0, 1) := dk_42 (dk_at dksX6_writes_0 0 rfl rfl)
theorem dX6_writes_1 : decode cX6_writes 1 = .ok (.invokevirtual 141, 3) := dk_182 0 141 (dk_at dksX6_writes_0 1 rfl rfl)
theorem dX6_writes_4 : decode cX6_writes 4 = .ok (.iconst 3, 1) := dk_6 (dk_at dksX6_writes_0 4 rfl rfl)
theorem dX6_writes_5 : decode cX6_writes 5 = .ok (.bipush 32, 2) := dk_16 32 (dk_at dksX6_writes_0 5 rfl rfl)
theorem dX6_writes_7 : decode cX6_writes 7 = .ok (.bipush 40, 2) := dk_16 40 (dk_at dksX6_writes_0 7 rfl rfl)
theorem dX6_writes_9 : decode cX6_writes 9 = .ok (.iload_n 1, 1) := dk_27 (dk_at dksX6_writes_0 9 rfl rfl)
theorem dX6_writes_10 : decode cX6_writes 10 = .ok (.imul, 1) := dk_104 (dk_at dksX6_writes_0 10 rfl rfl)
theorem dX6_writes_11 : decode cX6_writes 11 = .ok (.aload_n 0, 1) := dk_42 (dk_at dksX6_writes_0 11 rfl rfl)
theorem dX6_writes_12 : decode cX6_writes 12 = .ok (.getfield 7, 3) := dk_180 0 7 (dk_at dksX6_writes_0 12 rfl rfl)
theorem dX6_writes_15 : decode cX6_writes 15 = .ok (.iload_n 1, 1) := dk_27 (dk_at dksX6_writes_0 15 rfl rfl)
theorem dX6_writes_16 : decode cX6_writes 16 = .ok (.iaload, 1) := dk_46 (dk_at dksX6_writes_0 16 rfl rfl)
theorem dX6_writes_17 : decode cX6_writes 17 = .ok (.iadd, 1) := dk_96 (dk_at dksX6_writes_0 17 rfl rfl)
theorem dX6_writes_18 : decode cX6_writes 18 = .ok (.imul, 1) := dk_104 (dk_at dksX6_writes_0 18 rfl rfl)
theorem dX6_writes_19 : decode cX6_writes 19 = .ok (.iadd, 1) := dk_96 (dk_at dksX6_writes_0 19 rfl rfl)
theorem dX6_writes_20 : decode cX6_writes 20 = .ok (.istore 7, 2) := dk_54 7 (dk_at dksX6_writes_0 20 rfl rfl)
theorem dX6_writes_22 : decode cX6_writes 22 = .ok (.aload_n 0, 1) := dk_42 (dk_at dksX6_writes_0 22 rfl rfl)
theorem dX6_writes_23 : decode cX6_writes 23 = .ok (.getfield 7, 3) := dk_180 0 7 (dk_at dksX6_writes_1 0 rfl rfl)
theorem dX6_writes_26 : decode cX6_writes 26 = .ok (.iload 7, 2) := dk_21 7 (dk_at dksX6_writes_1 3 rfl rfl)
theorem dX6_writes_28 : decode cX6_writes 28 = .ok (.iconst 5, 1) := dk_8 (dk_at dksX6_writes_1 5 rfl rfl)
theorem dX6_writes_29 : decode cX6_writes 29 = .ok (.iadd, 1) := dk_96 (dk_at dksX6_writes_1 6 rfl rfl)
theorem dX6_writes_30 : decode cX6_writes 30 = .ok (.iload 4, 2) := dk_21 4 (dk_at dksX6_writes_1 7 rfl rfl)
theorem dX6_writes_32 : decode cX6_writes 32 = .ok (.iastore, 1) := dk_79 (dk_at dksX6_writes_1 9 rfl rfl)
theorem dX6_writes_33 : decode cX6_writes 33 = .ok (.aload_n 0, 1) := dk_42 (dk_at dksX6_writes_1 10 rfl rfl)
theorem dX6_writes_34 : decode cX6_writes 34 = .ok (.getfield 7, 3) := dk_180 0 7 (dk_at dksX6_writes_1 11 rfl rfl)
theorem dX6_writes_37 : decode cX6_writes 37 = .ok (.iload 7, 2) := dk_21 7 (dk_at dksX6_writes_1 14 rfl rfl)
theorem dX6_writes_39 : decode cX6_writes 39 = .ok (.bipush 6, 2) := dk_16 6 (dk_at dksX6_writes_1 16 rfl rfl)
theorem dX6_writes_41 : decode cX6_writes 41 = .ok (.iadd, 1) := dk_96 (dk_at dksX6_writes_1 18 rfl rfl)
theorem dX6_writes_42 : decode cX6_writes 42 = .ok (.iload 5, 2) := dk_21 5 (dk_at dksX6_writes_1 19 rfl rfl)
theorem dX6_writes_44 : decode cX6_writes 44 = .ok (.iastore, 1) := dk_79 (dk_at dksX6_writes_1 21 rfl rfl)
theorem dX6_writes_45 : decode cX6_writes 45 = .ok (.aload_n 0, 1) := dk_42 (dk_at dksX6_writes_1 22 rfl rfl)
theorem dX6_writes_46 : decode cX6_writes 46 = .ok (.getfield 7, 3) := dk_180 0 7 (dk_at dksX6_writes_2 0 rfl rfl)
theorem dX6_writes_49 : decode cX6_writes 49 = .ok (.iload 7, 2) := dk_21 7 (dk_at dksX6_writes_2 3 rfl rfl)
theorem dX6_writes_51 : decode cX6_writes 51 = .ok (.bipush 7, 2) := dk_16 7 (dk_at dksX6_writes_2 5 rfl rfl)
theorem dX6_writes_53 : decode cX6_writes 53 = .ok (.iadd, 1) := dk_96 (dk_at dksX6_writes_2 7 rfl rfl)
theorem dX6_writes_54 : decode cX6_writes 54 = .ok (.iload 6, 2) := dk_21 6 (dk_at dksX6_writes_2 8 rfl rfl)
theorem dX6_writes_56 : decode cX6_writes 56 = .ok (.iastore, 1) := dk_79 (dk_at dksX6_writes_2 10 rfl rfl)
theorem dX6_writes_57 : decode cX6_writes 57 = .ok (.iconst 0, 1) := dk_3 (dk_at dksX6_writes_2 11 rfl rfl)
theorem dX6_writes_58 : decode cX6_writes 58 = .ok (.istore 8, 2) := dk_54 8 (dk_at dksX6_writes_2 12 rfl rfl)
theorem dX6_writes_60 : decode cX6_writes 60 = .ok (.iload 8, 2) := dk_21 8 (dk_at dksX6_writes_2 14 rfl rfl)
theorem dX6_writes_62 : decode cX6_writes 62 = .ok (.bipush 24, 2) := dk_16 24 (dk_at dksX6_writes_2 16 rfl rfl)
theorem dX6_writes_64 : decode cX6_writes 64 = .ok (.if_icmp .ge 40, 3) := dk_162 0 40 (dk_at dksX6_writes_2 18 rfl rfl)
theorem dX6_writes_67 : decode cX6_writes 67 = .ok (.aload_n 0, 1) := dk_42 (dk_at dksX6_writes_2 21 rfl rfl)
theorem dX6_writes_68 : decode cX6_writes 68 = .ok (.getfield 7, 3) := dk_180 0 7 (dk_at dksX6_writes_3 0 rfl rfl)
theorem dX6_writes_71 : decode cX6_writes 71 = .ok (.iload 7, 2) := dk_21 7 (dk_at dksX6_writes_3 3 rfl rfl)
theorem dX6_writes_73 : decode cX6_writes 73 = .ok (.bipush 8, 2) := dk_16 8 (dk_at dksX6_writes_3 5 rfl rfl)
theorem dX6_writes_75 : decode cX6_writes 75 = .ok (.iadd, 1) := dk_96 (dk_at dksX6_writes_3 7 rfl rfl)
theorem dX6_writes_76 : decode cX6_writes 76 = .ok (.iload 8, 2) := dk_21 8 (dk_at dksX6_writes_3 8 rfl rfl)
theorem dX6_writes_78 : decode cX6_writes 78 = .ok (.iadd, 1) := dk_96 (dk_at dksX6_writes_3 10 rfl rfl)
theorem dX6_writes_79 : decode cX6_writes 79 = .ok (.iload 8, 2) := dk_21 8 (dk_at dksX6_writes_3 11 rfl rfl)
theorem dX6_writes_81 : decode cX6_writes 81 = .ok (.iload 6, 2) := dk_21 6 (dk_at dksX6_writes_3 13 rfl rfl)
theorem dX6_writes_83 : decode cX6_writes 83 = .ok (.if_icmp .ge 13, 3) := dk_162 0 13 (dk_at dksX6_writes_3 15 rfl rfl)
theorem dX6_writes_86 : decode cX6_writes 86 = .ok (.aload_n 0, 1) := dk_42 (dk_at dksX6_writes_3 18 rfl rfl)
theorem dX6_writes_87 : decode cX6_writes 87 = .ok (.getfield 31, 3) := dk_180 0 31 (dk_at dksX6_writes_3 19 rfl rfl)
theorem dX6_writes_90 : decode cX6_writes 90 = .ok (.iload 8, 2) := dk_21 8 (dk_at dksX6_writes_3 22 rfl rfl)
theorem dX6_writes_92 : decode cX6_writes 92 = .ok (.iaload, 1) := dk_46 (dk_at dksX6_writes_4 0 rfl rfl)
theorem dX6_writes_93 : decode cX6_writes 93 = .ok (.goto 4, 3) := dk_167 0 4 (dk_at dksX6_writes_4 1 rfl rfl)
theorem dX6_writes_96 : decode cX6_writes 96 = .ok (.iconst 0, 1) := dk_3 (dk_at dksX6_writes_4 4 rfl rfl)
theorem dX6_writes_97 : decode cX6_writes 97 = .ok (.iastore, 1) := dk_79 (dk_at dksX6_writes_4 5 rfl rfl)
theorem dX6_writes_98 : decode cX6_writes 98 = .ok (.iinc 8 1, 3) := dk_132 8 1 (dk_at dksX6_writes_4 6 rfl rfl)
theorem dX6_writes_101 : decode cX6_writes 101 = .ok (.goto (-41), 3) := dk_167 255 215 (dk_at dksX6_writes_4 9 rfl rfl)
theorem dX6_writes_104 : decode cX6_writes 104 = .ok (.aload_n 0, 1) := dk_42 (dk_at dksX6_writes_4 12 rfl rfl)
theorem dX6_writes_105 : decode cX6_writes 105 = .ok (.iload_n 1, 1) := dk_27 (dk_at dksX6_writes_4 13 rfl rfl)
theorem dX6_writes_106 : decode cX6_writes 106 = .ok (.iconst 4, 1) := dk_7 (dk_at dksX6_writes_4 14 rfl rfl)
theorem dX6_writes_107 : decode cX6_writes 107 = .ok (.iconst (-1), 1) := dk_2 (dk_at dksX6_writes_4 15 rfl rfl)
theorem dX6_writes_108 : decode cX6_writes 108 = .ok (.aload_n 0, 1) := dk_42 (dk_at dksX6_writes_4 16 rfl rfl)
theorem dX6_writes_109 : decode cX6_writes 109 = .ok (.getfield 22, 3) := dk_180 0 22 (dk_at dksX6_writes_4 17 rfl rfl)
theorem dX6_writes_112 : decode cX6_writes 112 = .ok (.iload_n 2, 1) := dk_28 (dk_at dksX6_writes_4 20 rfl rfl)
theorem dX6_writes_113 : decode cX6_writes 113 = .ok (.iaload, 1) := dk_46 (dk_at dksX6_writes_4 21 rfl rfl)
theorem dX6_writes_114 : decode cX6_writes 114 = .ok (.aload_n 0, 1) := dk_42 (dk_at dksX6_writes_4 22 rfl rfl)
theorem dX6_writes_115 : decode cX6_writes 115 = .ok (.getfield 25, 3) := dk_180 0 25 (dk_at dksX6_writes_5 0 rfl rfl)
theorem dX6_writes_118 : decode cX6_writes 118 = .ok (.iload_n 3, 1) := dk_29 (dk_at dksX6_writes_5 3 rfl rfl)
theorem dX6_writes_119 : decode cX6_writes 119 = .ok (.iaload, 1) := dk_46 (dk_at dksX6_writes_5 4 rfl rfl)
theorem dX6_writes_120 : decode cX6_writes 120 = .ok (.invokevirtual 144, 3) := dk_182 0 144 (dk_at dksX6_writes_5 5 rfl rfl)
theorem dX6_writes_123 : decode cX6_writes 123 = .ok (.aload_n 0, 1) := dk_42 (dk_at dksX6_writes_5 8 rfl rfl)
theorem dX6_writes_124 : decode cX6_writes 124 = .ok (.aload_n 0, 1) := dk_42 (dk_at dksX6_writes_5 9 rfl rfl)
theorem dX6_writes_125 : decode cX6_writes 125 = .ok (.iload_n 1, 1) := dk_27 (dk_at dksX6_writes_5 10 rfl rfl)
theorem dX6_writes_126 : decode cX6_writes 126 = .ok (.iconst 0, 1) := dk_3 (dk_at dksX6_writes_5 11 rfl rfl)
theorem dX6_writes_127 : decode cX6_writes 127 = .ok (.invokevirtual 108, 3) := dk_182 0 108 (dk_at dksX6_writes_5 12 rfl rfl)
theorem dX6_writes_130 : decode cX6_writes 130 = .ok (.invokevirtual 148, 3) := dk_182 0 148 (dk_at dksX6_writes_5 15 rfl rfl)
theorem dX6_writes_133 : decode cX6_writes 133 = .ok (.ireturn, 1) := dk_172 (dk_at dksX6_writes_5 18 rfl rfl)
abbrev cX6_clearCell : ByteArray := prog_15_method_33_code
def yX6_clearCell : MethodName := ⟨RX6, "clearCell", "(III)I"⟩
def dkwX6_clearCell_1 : List UInt8 := [42, 5, 182, 0, 131, 167, 0, 13, 42, 27, 28, 29, 3, 3, 3, 182, 0, 162, 172]
abbrev dktX6_clearCell_1 : List UInt8 := dkwX6_clearCell_1 ++ []
def dkwX6_clearCell_0 : List UInt8 := [42, 27, 28, 29, 182, 0, 159, 154, 0, 9, 42, 4, 182, 0, 131, 172, 42, 27, 182, 0, 138, 153, 0, 11]
abbrev dktX6_clearCell_0 : List UInt8 := dkwX6_clearCell_0 ++ dktX6_clearCell_1
theorem dksX6_clearCell_0 : cX6_clearCell.data.toList.drop 0 = dktX6_clearCell_0 := by decide +kernel
theorem dksX6_clearCell_1 : cX6_clearCell.data.toList.drop 24 = dktX6_clearCell_1 := dk_seg dksX6_clearCell_0 24 rfl rfl
theorem dX6_clearCell_0 : decode cX6_clearCell 0 = .ok (.aload_n 0, 1) := dk_42 (dk_at dksX6_clearCell_0 0 rfl rfl)
theorem dX6_clearCell_1 : decode cX6_clearCell 1 = .ok (.iload_n 1, 1) := dk_27 (dk_at dksX6_clearCell_0 1 rfl rfl)
theorem dX6_clearCell_2 : decode cX6_clearCell 2 = .ok (.iload_n 2, 1) := dk_28 (dk_at dksX6_clearCell_0 2 rfl rfl)
theorem dX6_clearCell_3 : decode cX6_clearCell 3 = .ok (.iload_n 3, 1) := dk_29 (dk_at dksX6_clearCell_0 3 rfl rfl)
theorem dX6_clearCell_4 : decode cX6_clearCell 4 = .ok (.invokevirtual 159, 3) := dk_182 0 159 (dk_at dksX6_clearCell_0 4 rfl rfl)
theorem dX6_clearCell_7 : decode cX6_clearCell 7 = .ok (.ifCond .ne 9, 3) := dk_154 0 9 (dk_at dksX6_clearCell_0 7 rfl rfl)
theorem dX6_clearCell_10 : decode cX6_clearCell 10 = .ok (.aload_n 0, 1) := dk_42 (dk_at dksX6_clearCell_0 10 rfl rfl)
theorem dX6_clearCell_11 : decode cX6_clearCell 11 = .ok (.iconst 1, 1) := dk_4 (dk_at dksX6_clearCell_0 11 rfl rfl)
theorem dX6_clearCell_12 : decode cX6_clearCell 12 = .ok (.invokevirtual 131, 3) := dk_182 0 131 (dk_at dksX6_clearCell_0 12 rfl rfl)
theorem dX6_clearCell_15 : decode cX6_clearCell 15 = .ok (.ireturn, 1) := dk_172 (dk_at dksX6_clearCell_0 15 rfl rfl)
theorem dX6_clearCell_16 : decode cX6_clearCell 16 = .ok (.aload_n 0, 1) := dk_42 (dk_at dksX6_clearCell_0 16 rfl rfl)
theorem dX6_clearCell_17 : decode cX6_clearCell 17 = .ok (.iload_n 1, 1) := dk_27 (dk_at dksX6_clearCell_0 17 rfl rfl)
theorem dX6_clearCell_18 : decode cX6_clearCell 18 = .ok (.invokevirtual 138, 3) := dk_182 0 138 (dk_at dksX6_clearCell_0 18 rfl rfl)
theorem dX6_clearCell_21 : decode cX6_clearCell 21 = .ok (.ifCond .eq 11, 3) := dk_153 0 11 (dk_at dksX6_clearCell_0 21 rfl rfl)
theorem dX6_clearCell_24 : decode cX6_clearCell 24 = .ok (.aload_n 0, 1) := dk_42 (dk_at dksX6_clearCell_1 0 rfl rfl)
theorem dX6_clearCell_25 : decode cX6_clearCell 25 = .ok (.iconst 2, 1) := dk_5 (dk_at dksX6_clearCell_1 1 rfl rfl)
theorem dX6_clearCell_26 : decode cX6_clearCell 26 = .ok (.invokevirtual 131, 3) := dk_182 0 131 (dk_at dksX6_clearCell_1 2 rfl rfl)
theorem dX6_clearCell_29 : decode cX6_clearCell 29 = .ok (.goto 13, 3) := dk_167 0 13 (dk_at dksX6_clearCell_1 5 rfl rfl)
theorem dX6_clearCell_32 : decode cX6_clearCell 32 = .ok (.aload_n 0, 1) := dk_42 (dk_at dksX6_clearCell_1 8 rfl rfl)
theorem dX6_clearCell_33 : decode cX6_clearCell 33 = .ok (.iload_n 1, 1) := dk_27 (dk_at dksX6_clearCell_1 9 rfl rfl)
theorem dX6_clearCell_34 : decode cX6_clearCell 34 = .ok (.iload_n 2, 1) := dk_28 (dk_at dksX6_clearCell_1 10 rfl rfl)
theorem dX6_clearCell_35 : decode cX6_clearCell 35 = .ok (.iload_n 3, 1) := dk_29 (dk_at dksX6_clearCell_1 11 rfl rfl)
theorem dX6_clearCell_36 : decode cX6_clearCell 36 = .ok (.iconst 0, 1) := dk_3 (dk_at dksX6_clearCell_1 12 rfl rfl)
theorem dX6_clearCell_37 : decode cX6_clearCell 37 = .ok (.iconst 0, 1) := dk_3 (dk_at dksX6_clearCell_1 13 rfl rfl)
theorem dX6_clearCell_38 : decode cX6_clearCell 38 = .ok (.iconst 0, 1) := dk_3 (dk_at dksX6_clearCell_1 14 rfl rfl)
theorem dX6_clearCell_39 : decode cX6_clearCell 39 = .ok (.invokevirtual 162, 3) := dk_182 0 162 (dk_at dksX6_clearCell_1 15 rfl rfl)
theorem dX6_clearCell_42 : decode cX6_clearCell 42 = .ok (.ireturn, 1) := dk_172 (dk_at dksX6_clearCell_1 18 rfl rfl)
abbrev cX6_setFormula : ByteArray := prog_15_method_34_code
def yX6_setFormula : MethodName := ⟨RX6, "setFormula", "(III)I"⟩
def dkwX6_setFormula_2 : List UInt8 := [28, 29, 5, 3, 42, 180, 0, 170, 182, 0, 162, 172]
abbrev dktX6_setFormula_2 : List UInt8 := dkwX6_setFormula_2 ++ []
def dkwX6_setFormula_1 : List UInt8 := [42, 5, 182, 0, 131, 172, 42, 27, 182, 0, 138, 153, 0, 11, 42, 6, 182, 0, 131, 167, 0, 16, 42, 27]
abbrev dktX6_setFormula_1 : List UInt8 := dkwX6_setFormula_1 ++ dktX6_setFormula_2
def dkwX6_setFormula_0 : List UInt8 := [42, 27, 28, 29, 182, 0, 159, 154, 0, 9, 42, 4, 182, 0, 131, 172, 42, 182, 0, 166, 2, 159, 0, 9]
abbrev dktX6_setFormula_0 : List UInt8 := dkwX6_setFormula_0 ++ dktX6_setFormula_1
theorem dksX6_setFormula_0 : cX6_setFormula.data.toList.drop 0 = dktX6_setFormula_0 := by decide +kernel
theorem dksX6_setFormula_1 : cX6_setFormula.data.toList.drop 24 = dktX6_setFormula_1 := dk_seg dksX6_setFormula_0 24 rfl rfl
theorem dksX6_setFormula_2 : cX6_setFormula.data.toList.drop 48 = dktX6_setFormula_2 := dk_seg dksX6_setFormula_1 24 rfl rfl
theorem dX6_setFormula_0 : decode cX6_setFormula 0 = .ok (.aload_n 0, 1) := dk_42 (dk_at dksX6_setFormula_0 0 rfl rfl)
theorem dX6_setFormula_1 : decode cX6_setFormula 1 = .ok (.iload_n 1, 1) := dk_27 (dk_at dksX6_setFormula_0 1 rfl rfl)
theorem dX6_setFormula_2 : decode cX6_setFormula 2 = .ok (.iload_n 2, 1) := dk_28 (dk_at dksX6_setFormula_0 2 rfl rfl)
theorem dX6_setFormula_3 : decode cX6_setFormula 3 = .ok (.iload_n 3, 1) := dk_29 (dk_at dksX6_setFormula_0 3 rfl rfl)
theorem dX6_setFormula_4 : decode cX6_setFormula 4 = .ok (.invokevirtual 159, 3) := dk_182 0 159 (dk_at dksX6_setFormula_0 4 rfl rfl)
theorem dX6_setFormula_7 : decode cX6_setFormula 7 = .ok (.ifCond .ne 9, 3) := dk_154 0 9 (dk_at dksX6_setFormula_0 7 rfl rfl)
theorem dX6_setFormula_10 : decode cX6_setFormula 10 = .ok (.aload_n 0, 1) := dk_42 (dk_at dksX6_setFormula_0 10 rfl rfl)
theorem dX6_setFormula_11 : decode cX6_setFormula 11 = .ok (.iconst 1, 1) := dk_4 (dk_at dksX6_setFormula_0 11 rfl rfl)
theorem dX6_setFormula_12 : decode cX6_setFormula 12 = .ok (.invokevirtual 131, 3) := dk_182 0 131 (dk_at dksX6_setFormula_0 12 rfl rfl)
theorem dX6_setFormula_15 : decode cX6_setFormula 15 = .ok (.ireturn, 1) := dk_172 (dk_at dksX6_setFormula_0 15 rfl rfl)
theorem dX6_setFormula_16 : decode cX6_setFormula 16 = .ok (.aload_n 0, 1) := dk_42 (dk_at dksX6_setFormula_0 16 rfl rfl)
theorem dX6_setFormula_17 : decode cX6_setFormula 17 = .ok (.invokevirtual 166, 3) := dk_182 0 166 (dk_at dksX6_setFormula_0 17 rfl rfl)
theorem dX6_setFormula_20 : decode cX6_setFormula 20 = .ok (.iconst (-1), 1) := dk_2 (dk_at dksX6_setFormula_0 20 rfl rfl)
theorem dX6_setFormula_21 : decode cX6_setFormula 21 = .ok (.if_icmp .eq 9, 3) := dk_159 0 9 (dk_at dksX6_setFormula_0 21 rfl rfl)
theorem dX6_setFormula_24 : decode cX6_setFormula 24 = .ok (.aload_n 0, 1) := dk_42 (dk_at dksX6_setFormula_1 0 rfl rfl)
theorem dX6_setFormula_25 : decode cX6_setFormula 25 = .ok (.iconst 2, 1) := dk_5 (dk_at dksX6_setFormula_1 1 rfl rfl)
theorem dX6_setFormula_26 : decode cX6_setFormula 26 = .ok (.invokevirtual 131, 3) := dk_182 0 131 (dk_at dksX6_setFormula_1 2 rfl rfl)
theorem dX6_setFormula_29 : decode cX6_setFormula 29 = .ok (.ireturn, 1) := dk_172 (dk_at dksX6_setFormula_1 5 rfl rfl)
theorem dX6_setFormula_30 : decode cX6_setFormula 30 = .ok (.aload_n 0, 1) := dk_42 (dk_at dksX6_setFormula_1 6 rfl rfl)
theorem dX6_setFormula_31 : decode cX6_setFormula 31 = .ok (.iload_n 1, 1) := dk_27 (dk_at dksX6_setFormula_1 7 rfl rfl)
theorem dX6_setFormula_32 : decode cX6_setFormula 32 = .ok (.invokevirtual 138, 3) := dk_182 0 138 (dk_at dksX6_setFormula_1 8 rfl rfl)
theorem dX6_setFormula_35 : decode cX6_setFormula 35 = .ok (.ifCond .eq 11, 3) := dk_153 0 11 (dk_at dksX6_setFormula_1 11 rfl rfl)
theorem dX6_setFormula_38 : decode cX6_setFormula 38 = .ok (.aload_n 0, 1) := dk_42 (dk_at dksX6_setFormula_1 14 rfl rfl)
theorem dX6_setFormula_39 : decode cX6_setFormula 39 = .ok (.iconst 3, 1) := dk_6 (dk_at dksX6_setFormula_1 15 rfl rfl)
theorem dX6_setFormula_40 : decode cX6_setFormula 40 = .ok (.invokevirtual 131, 3) := dk_182 0 131 (dk_at dksX6_setFormula_1 16 rfl rfl)
theorem dX6_setFormula_43 : decode cX6_setFormula 43 = .ok (.goto 16, 3) := dk_167 0 16 (dk_at dksX6_setFormula_1 19 rfl rfl)
theorem dX6_setFormula_46 : decode cX6_setFormula 46 = .ok (.aload_n 0, 1) := dk_42 (dk_at dksX6_setFormula_1 22 rfl rfl)
theorem dX6_setFormula_47 : decode cX6_setFormula 47 = .ok (.iload_n 1, 1) := dk_27 (dk_at dksX6_setFormula_1 23 rfl rfl)
theorem dX6_setFormula_48 : decode cX6_setFormula 48 = .ok (.iload_n 2, 1) := dk_28 (dk_at dksX6_setFormula_2 0 rfl rfl)
theorem dX6_setFormula_49 : decode cX6_setFormula 49 = .ok (.iload_n 3, 1) := dk_29 (dk_at dksX6_setFormula_2 1 rfl rfl)
theorem dX6_setFormula_50 : decode cX6_setFormula 50 = .ok (.iconst 2, 1) := dk_5 (dk_at dksX6_setFormula_2 2 rfl rfl)
theorem dX6_setFormula_51 : decode cX6_setFormula 51 = .ok (.iconst 0, 1) := dk_3 (dk_at dksX6_setFormula_2 3 rfl rfl)
theorem dX6_setFormula_52 : decode cX6_setFormula 52 = .ok (.aload_n 0, 1) := dk_42 (dk_at dksX6_setFormula_2 4 rfl rfl)
theorem dX6_setFormula_53 : decode cX6_setFormula 53 = .ok (.getfield 170, 3) := dk_180 0 170 (dk_at dksX6_setFormula_2 5 rfl rfl)
theorem dX6_setFormula_56 : decode cX6_setFormula 56 = .ok (.invokevirtual 162, 3) := dk_182 0 162 (dk_at dksX6_setFormula_2 8 rfl rfl)
theorem dX6_setFormula_59 : decode cX6_setFormula 59 = .ok (.ireturn, 1) := dk_172 (dk_at dksX6_setFormula_2 11 rfl rfl)
abbrev cX6_faultAt : ByteArray := prog_15_method_40_code
def yX6_faultAt : MethodName := ⟨RX6, "faultAt", "()I"⟩
def dkwX6_faultAt_5 : List UInt8 := [42, 180, 0, 173, 167, 0, 4, 2, 172]
abbrev dktX6_faultAt_5 : List UInt8 := dkwX6_faultAt_5 ++ []
def dkwX6_faultAt_4 : List UInt8 := [42, 89, 180, 0, 173, 4, 96, 181, 0, 173, 167, 255, 162, 42, 180, 0, 173, 42, 180, 0, 176, 162, 0, 10]
abbrev dktX6_faultAt_4 : List UInt8 := dkwX6_faultAt_4 ++ dktX6_faultAt_5
def dkwX6_faultAt_3 : List UInt8 := [167, 0, 4, 3, 61, 28, 156, 0, 7, 4, 167, 0, 4, 3, 60, 27, 153, 0, 18, 42, 28, 182, 0, 182]
abbrev dktX6_faultAt_3 : List UInt8 := dkwX6_faultAt_3 ++ dktX6_faultAt_4
def dkwX6_faultAt_2 : List UInt8 := [182, 0, 179, 153, 0, 8, 16, 254, 167, 0, 20, 42, 16, 42, 16, 42, 182, 0, 179, 153, 0, 8, 16, 253]
abbrev dktX6_faultAt_2 : List UInt8 := dkwX6_faultAt_2 ++ dktX6_faultAt_3
def dkwX6_faultAt_1 : List UInt8 := [180, 0, 173, 172, 42, 16, 43, 16, 43, 182, 0, 179, 153, 0, 7, 2, 167, 0, 36, 42, 16, 45, 16, 45]
abbrev dktX6_faultAt_1 : List UInt8 := dkwX6_faultAt_1 ++ dktX6_faultAt_2
def dkwX6_faultAt_0 : List UInt8 := [42, 3, 181, 0, 173, 42, 3, 181, 0, 170, 4, 60, 27, 153, 0, 96, 42, 182, 0, 192, 154, 0, 8, 42]
abbrev dktX6_faultAt_0 : List UInt8 := dkwX6_faultAt_0 ++ dktX6_faultAt_1
theorem dksX6_faultAt_0 : cX6_faultAt.data.toList.drop 0 = dktX6_faultAt_0 := by decide +kernel
theorem dksX6_faultAt_1 : cX6_faultAt.data.toList.drop 24 = dktX6_faultAt_1 := dk_seg dksX6_faultAt_0 24 rfl rfl
theorem dksX6_faultAt_2 : cX6_faultAt.data.toList.drop 48 = dktX6_faultAt_2 := dk_seg dksX6_faultAt_1 24 rfl rfl
theorem dksX6_faultAt_3 : cX6_faultAt.data.toList.drop 72 = dktX6_faultAt_3 := dk_seg dksX6_faultAt_2 24 rfl rfl
theorem dksX6_faultAt_4 : cX6_faultAt.data.toList.drop 96 = dktX6_faultAt_4 := dk_seg dksX6_faultAt_3 24 rfl rfl
theorem dksX6_faultAt_5 : cX6_faultAt.data.toList.drop 120 = dktX6_faultAt_5 := dk_seg dksX6_faultAt_4 24 rfl rfl
theorem dX6_faultAt_0 : decode cX6_faultAt 0 = .ok (.aload_n 0, 1) := dk_42 (dk_at dksX6_faultAt_0 0 rfl rfl)
theorem dX6_faultAt_1 : decode cX6_faultAt 1 = .ok (.iconst 0, 1) := dk_3 (dk_at dksX6_faultAt_0 1 rfl rfl)
theorem dX6_faultAt_2 : decode cX6_faultAt 2 = .ok (.putfield 173, 3) := dk_181 0 173 (dk_at dksX6_faultAt_0 2 rfl rfl)
theorem dX6_faultAt_5 : decode cX6_faultAt 5 = .ok (.aload_n 0, 1) := dk_42 (dk_at dksX6_faultAt_0 5 rfl rfl)
theorem dX6_faultAt_6 : decode cX6_faultAt 6 = .ok (.iconst 0, 1) := dk_3 (dk_at dksX6_faultAt_0 6 rfl rfl)
theorem dX6_faultAt_7 : decode cX6_faultAt 7 = .ok (.putfield 170, 3) := dk_181 0 170 (dk_at dksX6_faultAt_0 7 rfl rfl)
theorem dX6_faultAt_10 : decode cX6_faultAt 10 = .ok (.iconst 1, 1) := dk_4 (dk_at dksX6_faultAt_0 10 rfl rfl)
theorem dX6_faultAt_11 : decode cX6_faultAt 11 = .ok (.istore_n 1, 1) := dk_60 (dk_at dksX6_faultAt_0 11 rfl rfl)
theorem dX6_faultAt_12 : decode cX6_faultAt 12 = .ok (.iload_n 1, 1) := dk_27 (dk_at dksX6_faultAt_0 12 rfl rfl)
theorem dX6_faultAt_13 : decode cX6_faultAt 13 = .ok (.ifCond .eq 96, 3) := dk_153 0 96 (dk_at dksX6_faultAt_0 13 rfl rfl)
theorem dX6_faultAt_16 : decode cX6_faultAt 16 = .ok (.aload_n 0, 1) := dk_42 (dk_at dksX6_faultAt_0 16 rfl rfl)
theorem dX6_faultAt_17 : decode cX6_faultAt 17 = .ok (.invokevirtual 192, 3) := dk_182 0 192 (dk_at dksX6_faultAt_0 17 rfl rfl)
theorem dX6_faultAt_20 : decode cX6_faultAt 20 = .ok (.ifCond .ne 8, 3) := dk_154 0 8 (dk_at dksX6_faultAt_0 20 rfl rfl)
theorem dX6_faultAt_23 : decode cX6_faultAt 23 = .ok (.aload_n 0, 1) := dk_42 (dk_at dksX6_faultAt_0 23 rfl rfl)
theorem dX6_faultAt_24 : decode cX6_faultAt 24 = .ok (.getfield 173, 3) := dk_180 0 173 (dk_at dksX6_faultAt_1 0 rfl rfl)
theorem dX6_faultAt_27 : decode cX6_faultAt 27 = .ok (.ireturn, 1) := dk_172 (dk_at dksX6_faultAt_1 3 rfl rfl)
theorem dX6_faultAt_28 : decode cX6_faultAt 28 = .ok (.aload_n 0, 1) := dk_42 (dk_at dksX6_faultAt_1 4 rfl rfl)
theorem dX6_faultAt_29 : decode cX6_faultAt 29 = .ok (.bipush 43, 2) := dk_16 43 (dk_at dksX6_faultAt_1 5 rfl rfl)
theorem dX6_faultAt_31 : decode cX6_faultAt 31 = .ok (.bipush 43, 2) := dk_16 43 (dk_at dksX6_faultAt_1 7 rfl rfl)
theorem dX6_faultAt_33 : decode cX6_faultAt 33 = .ok (.invokevirtual 179, 3) := dk_182 0 179 (dk_at dksX6_faultAt_1 9 rfl rfl)
theorem dX6_faultAt_36 : decode cX6_faultAt 36 = .ok (.ifCond .eq 7, 3) := dk_153 0 7 (dk_at dksX6_faultAt_1 12 rfl rfl)
theorem dX6_faultAt_39 : decode cX6_faultAt 39 = .ok (.iconst (-1), 1) := dk_2 (dk_at dksX6_faultAt_1 15 rfl rfl)
theorem dX6_faultAt_40 : decode cX6_faultAt 40 = .ok (.goto 36, 3) := dk_167 0 36 (dk_at dksX6_faultAt_1 16 rfl rfl)
theorem dX6_faultAt_43 : decode cX6_faultAt 43 = .ok (.aload_n 0, 1) := dk_42 (dk_at dksX6_faultAt_1 19 rfl rfl)
theorem dX6_faultAt_44 : decode cX6_faultAt 44 = .ok (.bipush 45, 2) := dk_16 45 (dk_at dksX6_faultAt_1 20 rfl rfl)
theorem dX6_faultAt_46 : decode cX6_faultAt 46 = .ok (.bipush 45, 2) := dk_16 45 (dk_at dksX6_faultAt_1 22 rfl rfl)
theorem dX6_faultAt_48 : decode cX6_faultAt 48 = .ok (.invokevirtual 179, 3) := dk_182 0 179 (dk_at dksX6_faultAt_2 0 rfl rfl)
theorem dX6_faultAt_51 : decode cX6_faultAt 51 = .ok (.ifCond .eq 8, 3) := dk_153 0 8 (dk_at dksX6_faultAt_2 3 rfl rfl)
theorem dX6_faultAt_54 : decode cX6_faultAt 54 = .ok (.bipush (-2), 2) := dk_16 254 (dk_at dksX6_faultAt_2 6 rfl rfl)
theorem dX6_faultAt_56 : decode cX6_faultAt 56 = .ok (.goto 20, 3) := dk_167 0 20 (dk_at dksX6_faultAt_2 8 rfl rfl)
theorem dX6_faultAt_59 : decode cX6_faultAt 59 = .ok (.aload_n 0, 1) := dk_42 (dk_at dksX6_faultAt_2 11 rfl rfl)
theorem dX6_faultAt_60 : decode cX6_faultAt 60 = .ok (.bipush 42, 2) := dk_16 42 (dk_at dksX6_faultAt_2 12 rfl rfl)
theorem dX6_faultAt_62 : decode cX6_faultAt 62 = .ok (.bipush 42, 2) := dk_16 42 (dk_at dksX6_faultAt_2 14 rfl rfl)
theorem dX6_faultAt_64 : decode cX6_faultAt 64 = .ok (.invokevirtual 179, 3) := dk_182 0 179 (dk_at dksX6_faultAt_2 16 rfl rfl)
theorem dX6_faultAt_67 : decode cX6_faultAt 67 = .ok (.ifCond .eq 8, 3) := dk_153 0 8 (dk_at dksX6_faultAt_2 19 rfl rfl)
theorem dX6_faultAt_70 : decode cX6_faultAt 70 = .ok (.bipush (-3), 2) := dk_16 253 (dk_at dksX6_faultAt_2 22 rfl rfl)
theorem dX6_faultAt_72 : decode cX6_faultAt 72 = .ok (.goto 4, 3) := dk_167 0 4 (dk_at dksX6_faultAt_3 0 rfl rfl)
theorem dX6_faultAt_75 : decode cX6_faultAt 75 = .ok (.iconst 0, 1) := dk_3 (dk_at dksX6_faultAt_3 3 rfl rfl)
theorem dX6_faultAt_76 : decode cX6_faultAt 76 = .ok (.istore_n 2, 1) := dk_61 (dk_at dksX6_faultAt_3 4 rfl rfl)
theorem dX6_faultAt_77 : decode cX6_faultAt 77 = .ok (.iload_n 2, 1) := dk_28 (dk_at dksX6_faultAt_3 5 rfl rfl)
theorem dX6_faultAt_78 : decode cX6_faultAt 78 = .ok (.ifCond .ge 7, 3) := dk_156 0 7 (dk_at dksX6_faultAt_3 6 rfl rfl)
theorem dX6_faultAt_81 : decode cX6_faultAt 81 = .ok (.iconst 1, 1) := dk_4 (dk_at dksX6_faultAt_3 9 rfl rfl)
theorem dX6_faultAt_82 : decode cX6_faultAt 82 = .ok (.goto 4, 3) := dk_167 0 4 (dk_at dksX6_faultAt_3 10 rfl rfl)
theorem dX6_faultAt_85 : decode cX6_faultAt 85 = .ok (.iconst 0, 1) := dk_3 (dk_at dksX6_faultAt_3 13 rfl rfl)
theorem dX6_faultAt_86 : decode cX6_faultAt 86 = .ok (.istore_n 1, 1) := dk_60 (dk_at dksX6_faultAt_3 14 rfl rfl)
theorem dX6_faultAt_87 : decode cX6_faultAt 87 = .ok (.iload_n 1, 1) := dk_27 (dk_at dksX6_faultAt_3 15 rfl rfl)
theorem dX6_faultAt_88 : decode cX6_faultAt 88 = .ok (.ifCond .eq 18, 3) := dk_153 0 18 (dk_at dksX6_faultAt_3 16 rfl rfl)
theorem dX6_faultAt_91 : decode cX6_faultAt 91 = .ok (.aload_n 0, 1) := dk_42 (dk_at dksX6_faultAt_3 19 rfl rfl)
theorem dX6_faultAt_92 : decode cX6_faultAt 92 = .ok (.iload_n 2, 1) := dk_28 (dk_at dksX6_faultAt_3 20 rfl rfl)
theorem dX6_faultAt_93 : decode cX6_faultAt 93 = .ok (.invokevirtual 182, 3) := dk_182 0 182 (dk_at dksX6_faultAt_3 21 rfl rfl)
theorem dX6_faultAt_96 : decode cX6_faultAt 96 = .ok (.aload_n 0, 1) := dk_42 (dk_at dksX6_faultAt_4 0 rfl rfl)
theorem dX6_faultAt_97 : decode cX6_faultAt 97 = .ok (.dup, 1) := dk_89 (dk_at dksX6_faultAt_4 1 rfl rfl)
theorem dX6_faultAt_98 : decode cX6_faultAt 98 = .ok (.getfield 173, 3) := dk_180 0 173 (dk_at dksX6_faultAt_4 2 rfl rfl)
theorem dX6_faultAt_101 : decode cX6_faultAt 101 = .ok (.iconst 1, 1) := dk_4 (dk_at dksX6_faultAt_4 5 rfl rfl)
theorem dX6_faultAt_102 : decode cX6_faultAt 102 = .ok (.iadd, 1) := dk_96 (dk_at dksX6_faultAt_4 6 rfl rfl)
theorem dX6_faultAt_103 : decode cX6_faultAt 103 = .ok (.putfield 173, 3) := dk_181 0 173 (dk_at dksX6_faultAt_4 7 rfl rfl)
theorem dX6_faultAt_106 : decode cX6_faultAt 106 = .ok (.goto (-94), 3) := dk_167 255 162 (dk_at dksX6_faultAt_4 10 rfl rfl)
theorem dX6_faultAt_109 : decode cX6_faultAt 109 = .ok (.aload_n 0, 1) := dk_42 (dk_at dksX6_faultAt_4 13 rfl rfl)
theorem dX6_faultAt_110 : decode cX6_faultAt 110 = .ok (.getfield 173, 3) := dk_180 0 173 (dk_at dksX6_faultAt_4 14 rfl rfl)
theorem dX6_faultAt_113 : decode cX6_faultAt 113 = .ok (.aload_n 0, 1) := dk_42 (dk_at dksX6_faultAt_4 17 rfl rfl)
theorem dX6_faultAt_114 : decode cX6_faultAt 114 = .ok (.getfield 176, 3) := dk_180 0 176 (dk_at dksX6_faultAt_4 18 rfl rfl)
theorem dX6_faultAt_117 : decode cX6_faultAt 117 = .ok (.if_icmp .ge 10, 3) := dk_162 0 10 (dk_at dksX6_faultAt_4 21 rfl rfl)
theorem dX6_faultAt_120 : decode cX6_faultAt 120 = .ok (.aload_n 0, 1) := dk_42 (dk_at dksX6_faultAt_5 0 rfl rfl)
theorem dX6_faultAt_121 : decode cX6_faultAt 121 = .ok (.getfield 173, 3) := dk_180 0 173 (dk_at dksX6_faultAt_5 1 rfl rfl)
theorem dX6_faultAt_124 : decode cX6_faultAt 124 = .ok (.goto 4, 3) := dk_167 0 4 (dk_at dksX6_faultAt_5 4 rfl rfl)
theorem dX6_faultAt_127 : decode cX6_faultAt 127 = .ok (.iconst (-1), 1) := dk_2 (dk_at dksX6_faultAt_5 7 rfl rfl)
theorem dX6_faultAt_128 : decode cX6_faultAt 128 = .ok (.ireturn, 1) := dk_172 (dk_at dksX6_faultAt_5 8 rfl rfl)
abbrev cX6_isFactor : ByteArray := prog_15_method_39_code
def yX6_isFactor : MethodName := ⟨RX6, "isFactor", "()Z"⟩
def dkwX6_isFactor_5 : List UInt8 := [153, 0, 16, 42, 16, 41, 182, 0, 185, 153, 0, 7, 4, 167, 0, 4, 3, 172, 42, 182, 0, 188, 172]
abbrev dktX6_isFactor_5 : List UInt8 := dkwX6_isFactor_5 ++ []
def dkwX6_isFactor_4 : List UInt8 := [153, 0, 39, 42, 182, 0, 188, 153, 0, 32, 42, 16, 58, 182, 0, 185, 153, 0, 23, 42, 182, 0, 188]
abbrev dktX6_isFactor_4 : List UInt8 := dkwX6_isFactor_4 ++ dktX6_isFactor_5
def dkwX6_isFactor_3 : List UInt8 := [172, 42, 16, 83, 182, 0, 185, 153, 0, 56, 42, 16, 252, 182, 0, 182, 42, 16, 40, 182, 0, 185]
abbrev dktX6_isFactor_3 : List UInt8 := dkwX6_isFactor_3 ++ dktX6_isFactor_4
def dkwX6_isFactor_2 : List UInt8 := [100, 60, 42, 89, 180, 0, 173, 4, 96, 181, 0, 173, 132, 2, 1, 167, 255, 209, 42, 27, 182, 0, 182, 4]
abbrev dktX6_isFactor_2 : List UInt8 := dkwX6_isFactor_2 ++ dktX6_isFactor_3
def dkwX6_isFactor_1 : List UInt8 := [16, 57, 182, 0, 179, 153, 0, 37, 16, 10, 27, 104, 42, 180, 0, 19, 42, 180, 0, 173, 46, 96, 16, 48]
abbrev dktX6_isFactor_1 : List UInt8 := dkwX6_isFactor_1 ++ dktX6_isFactor_2
def dkwX6_isFactor_0 : List UInt8 := [42, 16, 48, 16, 57, 182, 0, 179, 153, 0, 64, 3, 60, 3, 61, 28, 7, 162, 0, 48, 42, 16, 48]
abbrev dktX6_isFactor_0 : List UInt8 := dkwX6_isFactor_0 ++ dktX6_isFactor_1
theorem dksX6_isFactor_0 : cX6_isFactor.data.toList.drop 0 = dktX6_isFactor_0 := by decide +kernel
theorem dksX6_isFactor_1 : cX6_isFactor.data.toList.drop 23 = dktX6_isFactor_1 := dk_seg dksX6_isFactor_0 23 rfl rfl
theorem dksX6_isFactor_2 : cX6_isFactor.data.toList.drop 47 = dktX6_isFactor_2 := dk_seg dksX6_isFactor_1 24 rfl rfl
theorem dksX6_isFactor_3 : cX6_isFactor.data.toList.drop 71 = dktX6_isFactor_3 := dk_seg dksX6_isFactor_2 24 rfl rfl
theorem dksX6_isFactor_4 : cX6_isFactor.data.toList.drop 93 = dktX6_isFactor_4 := dk_seg dksX6_isFactor_3 22 rfl rfl
theorem dksX6_isFactor_5 : cX6_isFactor.data.toList.drop 116 = dktX6_isFactor_5 := dk_seg dksX6_isFactor_4 23 rfl rfl
theorem dX6_isFactor_0 : decode cX6_isFactor 0 = .ok (.aload_n 0, 1) := dk_42 (dk_at dksX6_isFactor_0 0 rfl rfl)
theorem dX6_isFactor_1 : decode cX6_isFactor 1 = .ok (.bipush 48, 2) := dk_16 48 (dk_at dksX6_isFactor_0 1 rfl rfl)
theorem dX6_isFactor_3 : decode cX6_isFactor 3 = .ok (.bipush 57, 2) := dk_16 57 (dk_at dksX6_isFactor_0 3 rfl rfl)
theorem dX6_isFactor_5 : decode cX6_isFactor 5 = .ok (.invokevirtual 179, 3) := dk_182 0 179 (dk_at dksX6_isFactor_0 5 rfl rfl)
theorem dX6_isFactor_8 : decode cX6_isFactor 8 = .ok (.ifCond .eq 64, 3) := dk_153 0 64 (dk_at dksX6_isFactor_0 8 rfl rfl)
theorem dX6_isFactor_11 : decode cX6_isFactor 11 = .ok (.iconst 0, 1) := dk_3 (dk_at dksX6_isFactor_0 11 rfl rfl)
theorem dX6_isFactor_12 : decode cX6_isFactor 12 = .ok (.istore_n 1, 1) := dk_60 (dk_at dksX6_isFactor_0 12 rfl rfl)
theorem dX6_isFactor_13 : decode cX6_isFactor 13 = .ok (.iconst 0, 1) := dk_3 (dk_at dksX6_isFactor_0 13 rfl rfl)
theorem dX6_isFactor_14 : decode cX6_isFactor 14 = .ok (.istore_n 2, 1) := dk_61 (dk_at dksX6_isFactor_0 14 rfl rfl)
theorem dX6_isFactor_15 : decode cX6_isFactor 15 = .ok (.iload_n 2, 1) := dk_28 (dk_at dksX6_isFactor_0 15 rfl rfl)
theorem dX6_isFactor_16 : decode cX6_isFactor 16 = .ok (.iconst 4, 1) := dk_7 (dk_at dksX6_isFactor_0 16 rfl rfl)
theorem dX6_isFactor_17 : decode cX6_isFactor 17 = .ok (.if_icmp .ge 48, 3) := dk_162 0 48 (dk_at dksX6_isFactor_0 17 rfl rfl)
theorem dX6_isFactor_20 : decode cX6_isFactor 20 = .ok (.aload_n 0, 1) := dk_42 (dk_at dksX6_isFactor_0 20 rfl rfl)
theorem dX6_isFactor_21 : decode cX6_isFactor 21 = .ok (.bipush 48, 2) := dk_16 48 (dk_at dksX6_isFactor_0 21 rfl rfl)
theorem dX6_isFactor_23 : decode cX6_isFactor 23 = .ok (.bipush 57, 2) := dk_16 57 (dk_at dksX6_isFactor_1 0 rfl rfl)
theorem dX6_isFactor_25 : decode cX6_isFactor 25 = .ok (.invokevirtual 179, 3) := dk_182 0 179 (dk_at dksX6_isFactor_1 2 rfl rfl)
theorem dX6_isFactor_28 : decode cX6_isFactor 28 = .ok (.ifCond .eq 37, 3) := dk_153 0 37 (dk_at dksX6_isFactor_1 5 rfl rfl)
theorem dX6_isFactor_31 : decode cX6_isFactor 31 = .ok (.bipush 10, 2) := dk_16 10 (dk_at dksX6_isFactor_1 8 rfl rfl)
theorem dX6_isFactor_33 : decode cX6_isFactor 33 = .ok (.iload_n 1, 1) := dk_27 (dk_at dksX6_isFactor_1 10 rfl rfl)
theorem dX6_isFactor_34 : decode cX6_isFactor 34 = .ok (.imul, 1) := dk_104 (dk_at dksX6_isFactor_1 11 rfl rfl)
theorem dX6_isFactor_35 : decode cX6_isFactor 35 = .ok (.aload_n 0, 1) := dk_42 (dk_at dksX6_isFactor_1 12 rfl rfl)
theorem dX6_isFactor_36 : decode cX6_isFactor 36 = .ok (.getfield 19, 3) := dk_180 0 19 (dk_at dksX6_isFactor_1 13 rfl rfl)
theorem dX6_isFactor_39 : decode cX6_isFactor 39 = .ok (.aload_n 0, 1) := dk_42 (dk_at dksX6_isFactor_1 16 rfl rfl)
theorem dX6_isFactor_40 : decode cX6_isFactor 40 = .ok (.getfield 173, 3) := dk_180 0 173 (dk_at dksX6_isFactor_1 17 rfl rfl)
theorem dX6_isFactor_43 : decode cX6_isFactor 43 = .ok (.iaload, 1) := dk_46 (dk_at dksX6_isFactor_1 20 rfl rfl)
theorem dX6_isFactor_44 : decode cX6_isFactor 44 = .ok (.iadd, 1) := dk_96 (dk_at dksX6_isFactor_1 21 rfl rfl)
theorem dX6_isFactor_45 : decode cX6_isFactor 45 = .ok (.bipush 48, 2) := dk_16 48 (dk_at dksX6_isFactor_1 22 rfl rfl)
theorem dX6_isFactor_47 : decode cX6_isFactor 47 = .ok (.isub, 1) := dk_100 (dk_at dksX6_isFactor_2 0 rfl rfl)
theorem dX6_isFactor_48 : decode cX6_isFactor 48 = .ok (.istore_n 1, 1) := dk_60 (dk_at dksX6_isFactor_2 1 rfl rfl)
theorem dX6_isFactor_49 : decode cX6_isFactor 49 = .ok (.aload_n 0, 1) := dk_42 (dk_at dksX6_isFactor_2 2 rfl rfl)
theorem dX6_isFactor_50 : decode cX6_isFactor 50 = .ok (.dup, 1) := dk_89 (dk_at dksX6_isFactor_2 3 rfl rfl)
theorem dX6_isFactor_51 : decode cX6_isFactor 51 = .ok (.getfield 173, 3) := dk_180 0 173 (dk_at dksX6_isFactor_2 4 rfl rfl)
theorem dX6_isFactor_54 : decode cX6_isFactor 54 = .ok (.iconst 1, 1) := dk_4 (dk_at dksX6_isFactor_2 7 rfl rfl)
theorem dX6_isFactor_55 : decode cX6_isFactor 55 = .ok (.iadd, 1) := dk_96 (dk_at dksX6_isFactor_2 8 rfl rfl)
theorem dX6_isFactor_56 : decode cX6_isFactor 56 = .ok (.putfield 173, 3) := dk_181 0 173 (dk_at dksX6_isFactor_2 9 rfl rfl)
theorem dX6_isFactor_59 : decode cX6_isFactor 59 = .ok (.iinc 2 1, 3) := dk_132 2 1 (dk_at dksX6_isFactor_2 12 rfl rfl)
theorem dX6_isFactor_62 : decode cX6_isFactor 62 = .ok (.goto (-47), 3) := dk_167 255 209 (dk_at dksX6_isFactor_2 15 rfl rfl)
theorem dX6_isFactor_65 : decode cX6_isFactor 65 = .ok (.aload_n 0, 1) := dk_42 (dk_at dksX6_isFactor_2 18 rfl rfl)
theorem dX6_isFactor_66 : decode cX6_isFactor 66 = .ok (.iload_n 1, 1) := dk_27 (dk_at dksX6_isFactor_2 19 rfl rfl)
theorem dX6_isFactor_67 : decode cX6_isFactor 67 = .ok (.invokevirtual 182, 3) := dk_182 0 182 (dk_at dksX6_isFactor_2 20 rfl rfl)
theorem dX6_isFactor_70 : decode cX6_isFactor 70 = .ok (.iconst 1, 1) := dk_4 (dk_at dksX6_isFactor_2 23 rfl rfl)
theorem dX6_isFactor_71 : decode cX6_isFactor 71 = .ok (.ireturn, 1) := dk_172 (dk_at dksX6_isFactor_3 0 rfl rfl)
theorem dX6_isFactor_72 : decode cX6_isFactor 72 = .ok (.aload_n 0, 1) := dk_42 (dk_at dksX6_isFactor_3 1 rfl rfl)
theorem dX6_isFactor_73 : decode cX6_isFactor 73 = .ok (.bipush 83, 2) := dk_16 83 (dk_at dksX6_isFactor_3 2 rfl rfl)
theorem dX6_isFactor_75 : decode cX6_isFactor 75 = .ok (.invokevirtual 185, 3) := dk_182 0 185 (dk_at dksX6_isFactor_3 4 rfl rfl)
theorem dX6_isFactor_78 : decode cX6_isFactor 78 = .ok (.ifCond .eq 56, 3) := dk_153 0 56 (dk_at dksX6_isFactor_3 7 rfl rfl)
theorem dX6_isFactor_81 : decode cX6_isFactor 81 = .ok (.aload_n 0, 1) := dk_42 (dk_at dksX6_isFactor_3 10 rfl rfl)
theorem dX6_isFactor_82 : decode cX6_isFactor 82 = .ok (.bipush (-4), 2) := dk_16 252 (dk_at dksX6_isFactor_3 11 rfl rfl)
theorem dX6_isFactor_84 : decode cX6_isFactor 84 = .ok (.invokevirtual 182, 3) := dk_182 0 182 (dk_at dksX6_isFactor_3 13 rfl rfl)
theorem dX6_isFactor_87 : decode cX6_isFactor 87 = .ok (.aload_n 0, 1) := dk_42 (dk_at dksX6_isFactor_3 16 rfl rfl)
theorem dX6_isFactor_88 : decode cX6_isFactor 88 = .ok (.bipush 40, 2) := dk_16 40 (dk_at dksX6_isFactor_3 17 rfl rfl)
theorem dX6_isFactor_90 : decode cX6_isFactor 90 = .ok (.invokevirtual 185, 3) := dk_182 0 185 (dk_at dksX6_isFactor_3 19 rfl rfl)
theorem dX6_isFactor_93 : decode cX6_isFactor 93 = .ok (.ifCond .eq 39, 3) := dk_153 0 39 (dk_at dksX6_isFactor_4 0 rfl rfl)
theorem dX6_isFactor_96 : decode cX6_isFactor 96 = .ok (.aload_n 0, 1) := dk_42 (dk_at dksX6_isFactor_4 3 rfl rfl)
theorem dX6_isFactor_97 : decode cX6_isFactor 97 = .ok (.invokevirtual 188, 3) := dk_182 0 188 (dk_at dksX6_isFactor_4 4 rfl rfl)
theorem dX6_isFactor_100 : decode cX6_isFactor 100 = .ok (.ifCond .eq 32, 3) := dk_153 0 32 (dk_at dksX6_isFactor_4 7 rfl rfl)
theorem dX6_isFactor_103 : decode cX6_isFactor 103 = .ok (.aload_n 0, 1) := dk_42 (dk_at dksX6_isFactor_4 10 rfl rfl)
theorem dX6_isFactor_104 : decode cX6_isFactor 104 = .ok (.bipush 58, 2) := dk_16 58 (dk_at dksX6_isFactor_4 11 rfl rfl)
theorem dX6_isFactor_106 : decode cX6_isFactor 106 = .ok (.invokevirtual 185, 3) := dk_182 0 185 (dk_at dksX6_isFactor_4 13 rfl rfl)
theorem dX6_isFactor_109 : decode cX6_isFactor 109 = .ok (.ifCond .eq 23, 3) := dk_153 0 23 (dk_at dksX6_isFactor_4 16 rfl rfl)
theorem dX6_isFactor_112 : decode cX6_isFactor 112 = .ok (.aload_n 0, 1) := dk_42 (dk_at dksX6_isFactor_4 19 rfl rfl)
theorem dX6_isFactor_113 : decode cX6_isFactor 113 = .ok (.invokevirtual 188, 3) := dk_182 0 188 (dk_at dksX6_isFactor_4 20 rfl rfl)
theorem dX6_isFactor_116 : decode cX6_isFactor 116 = .ok (.ifCond .eq 16, 3) := dk_153 0 16 (dk_at dksX6_isFactor_5 0 rfl rfl)
theorem dX6_isFactor_119 : decode cX6_isFactor 119 = .ok (.aload_n 0, 1) := dk_42 (dk_at dksX6_isFactor_5 3 rfl rfl)
theorem dX6_isFactor_120 : decode cX6_isFactor 120 = .ok (.bipush 41, 2) := dk_16 41 (dk_at dksX6_isFactor_5 4 rfl rfl)
theorem dX6_isFactor_122 : decode cX6_isFactor 122 = .ok (.invokevirtual 185, 3) := dk_182 0 185 (dk_at dksX6_isFactor_5 6 rfl rfl)
theorem dX6_isFactor_125 : decode cX6_isFactor 125 = .ok (.ifCond .eq 7, 3) := dk_153 0 7 (dk_at dksX6_isFactor_5 9 rfl rfl)
theorem dX6_isFactor_128 : decode cX6_isFactor 128 = .ok (.iconst 1, 1) := dk_4 (dk_at dksX6_isFactor_5 12 rfl rfl)
theorem dX6_isFactor_129 : decode cX6_isFactor 129 = .ok (.goto 4, 3) := dk_167 0 4 (dk_at dksX6_isFactor_5 13 rfl rfl)
theorem dX6_isFactor_132 : decode cX6_isFactor 132 = .ok (.iconst 0, 1) := dk_3 (dk_at dksX6_isFactor_5 16 rfl rfl)
theorem dX6_isFactor_133 : decode cX6_isFactor 133 = .ok (.ireturn, 1) := dk_172 (dk_at dksX6_isFactor_5 17 rfl rfl)
theorem dX6_isFactor_134 : decode cX6_isFactor 134 = .ok (.aload_n 0, 1) := dk_42 (dk_at dksX6_isFactor_5 18 rfl rfl)
theorem dX6_isFactor_135 : decode cX6_isFactor 135 = .ok (.invokevirtual 188, 3) := dk_182 0 188 (dk_at dksX6_isFactor_5 19 rfl rfl)
theorem dX6_isFactor_138 : decode cX6_isFactor 138 = .ok (.ireturn, 1) := dk_172 (dk_at dksX6_isFactor_5 22 rfl rfl)
abbrev cX6_isAt : ByteArray := prog_15_method_35_code
def yX6_isAt : MethodName := ⟨RX6, "isAt", "(II)Z"⟩
def dkwX6_isAt_1 : List UInt8 := [184, 0, 87, 153, 0, 7, 4, 167, 0, 4, 3, 172]
abbrev dktX6_isAt_1 : List UInt8 := dkwX6_isAt_1 ++ []
def dkwX6_isAt_0 : List UInt8 := [42, 180, 0, 173, 42, 180, 0, 176, 162, 0, 24, 42, 180, 0, 19, 42, 180, 0, 173, 46, 27, 28]
abbrev dktX6_isAt_0 : List UInt8 := dkwX6_isAt_0 ++ dktX6_isAt_1
theorem dksX6_isAt_0 : cX6_isAt.data.toList.drop 0 = dktX6_isAt_0 := by decide +kernel
theorem dksX6_isAt_1 : cX6_isAt.data.toList.drop 22 = dktX6_isAt_1 := dk_seg dksX6_isAt_0 22 rfl rfl
theorem dX6_isAt_0 : decode cX6_isAt 0 = .ok (.aload_n 0, 1) := dk_42 (dk_at dksX6_isAt_0 0 rfl rfl)
theorem dX6_isAt_1 : decode cX6_isAt 1 = .ok (.getfield 173, 3) := dk_180 0 173 (dk_at dksX6_isAt_0 1 rfl rfl)
theorem dX6_isAt_4 : decode cX6_isAt 4 = .ok (.aload_n 0, 1) := dk_42 (dk_at dksX6_isAt_0 4 rfl rfl)
theorem dX6_isAt_5 : decode cX6_isAt 5 = .ok (.getfield 176, 3) := dk_180 0 176 (dk_at dksX6_isAt_0 5 rfl rfl)
theorem dX6_isAt_8 : decode cX6_isAt 8 = .ok (.if_icmp .ge 24, 3) := dk_162 0 24 (dk_at dksX6_isAt_0 8 rfl rfl)
theorem dX6_isAt_11 : decode cX6_isAt 11 = .ok (.aload_n 0, 1) := dk_42 (dk_at dksX6_isAt_0 11 rfl rfl)
theorem dX6_isAt_12 : decode cX6_isAt 12 = .ok (.getfield 19, 3) := dk_180 0 19 (dk_at dksX6_isAt_0 12 rfl rfl)
theorem dX6_isAt_15 : decode cX6_isAt 15 = .ok (.aload_n 0, 1) := dk_42 (dk_at dksX6_isAt_0 15 rfl rfl)
theorem dX6_isAt_16 : decode cX6_isAt 16 = .ok (.getfield 173, 3) := dk_180 0 173 (dk_at dksX6_isAt_0 16 rfl rfl)
theorem dX6_isAt_19 : decode cX6_isAt 19 = .ok (.iaload, 1) := dk_46 (dk_at dksX6_isAt_0 19 rfl rfl)
theorem dX6_isAt_20 : decode cX6_isAt 20 = .ok (.iload_n 1, 1) := dk_27 (dk_at dksX6_isAt_0 20 rfl rfl)
theorem dX6_isAt_21 : decode cX6_isAt 21 = .ok (.iload_n 2, 1) := dk_28 (dk_at dksX6_isAt_0 21 rfl rfl)
theorem dX6_isAt_22 : decode cX6_isAt 22 = .ok (.invokestatic 87, 3) := dk_184 0 87 (dk_at dksX6_isAt_1 0 rfl rfl)
theorem dX6_isAt_25 : decode cX6_isAt 25 = .ok (.ifCond .eq 7, 3) := dk_153 0 7 (dk_at dksX6_isAt_1 3 rfl rfl)
theorem dX6_isAt_28 : decode cX6_isAt 28 = .ok (.iconst 1, 1) := dk_4 (dk_at dksX6_isAt_1 6 rfl rfl)
theorem dX6_isAt_29 : decode cX6_isAt 29 = .ok (.goto 4, 3) := dk_167 0 4 (dk_at dksX6_isAt_1 7 rfl rfl)
theorem dX6_isAt_32 : decode cX6_isAt 32 = .ok (.iconst 0, 1) := dk_3 (dk_at dksX6_isAt_1 10 rfl rfl)
theorem dX6_isAt_33 : decode cX6_isAt 33 = .ok (.ireturn, 1) := dk_172 (dk_at dksX6_isAt_1 11 rfl rfl)
abbrev cX6_adds : ByteArray := prog_15_method_36_code
def yX6_adds : MethodName := ⟨RX6, "adds", "(I)V"⟩
def dkwX6_adds_0 : List UInt8 := [42, 180, 0, 31, 42, 180, 0, 170, 27, 79, 42, 89, 180, 0, 170, 4, 96, 181, 0, 170, 177]
abbrev dktX6_adds_0 : List UInt8 := dkwX6_adds_0 ++ []
theorem dksX6_adds_0 : cX6_adds.data.toList.drop 0 = dktX6_adds_0 := by decide +kernel
theorem dX6_adds_0 : decode cX6_adds 0 = .ok (.aload_n 0, 1) := dk_42 (dk_at dksX6_adds_0 0 rfl rfl)
theorem dX6_adds_1 : decode cX6_adds 1 = .ok (.getfield 31, 3) := dk_180 0 31 (dk_at dksX6_adds_0 1 rfl rfl)
theorem dX6_adds_4 : decode cX6_adds 4 = .ok (.aload_n 0, 1) := dk_42 (dk_at dksX6_adds_0 4 rfl rfl)
theorem dX6_adds_5 : decode cX6_adds 5 = .ok (.getfield 170, 3) := dk_180 0 170 (dk_at dksX6_adds_0 5 rfl rfl)
theorem dX6_adds_8 : decode cX6_adds 8 = .ok (.iload_n 1, 1) := dk_27 (dk_at dksX6_adds_0 8 rfl rfl)
theorem dX6_adds_9 : decode cX6_adds 9 = .ok (.iastore, 1) := dk_79 (dk_at dksX6_adds_0 9 rfl rfl)
theorem dX6_adds_10 : decode cX6_adds 10 = .ok (.aload_n 0, 1) := dk_42 (dk_at dksX6_adds_0 10 rfl rfl)
theorem dX6_adds_11 : decode cX6_adds 11 = .ok (.dup, 1) := dk_89 (dk_at dksX6_adds_0 11 rfl rfl)
theorem dX6_adds_12 : decode cX6_adds 12 = .ok (.getfield 170, 3) := dk_180 0 170 (dk_at dksX6_adds_0 12 rfl rfl)
theorem dX6_adds_15 : decode cX6_adds 15 = .ok (.iconst 1, 1) := dk_4 (dk_at dksX6_adds_0 15 rfl rfl)
theorem dX6_adds_16 : decode cX6_adds 16 = .ok (.iadd, 1) := dk_96 (dk_at dksX6_adds_0 16 rfl rfl)
theorem dX6_adds_17 : decode cX6_adds 17 = .ok (.putfield 170, 3) := dk_181 0 170 (dk_at dksX6_adds_0 17 rfl rfl)
theorem dX6_adds_20 : decode cX6_adds 20 = .ok (.return_, 1) := dk_177 (dk_at dksX6_adds_0 20 rfl rfl)
abbrev cX6_takes : ByteArray := prog_15_method_37_code
def yX6_takes : MethodName := ⟨RX6, "takes", "(I)Z"⟩
def dkwX6_takes_1 : List UInt8 := [181, 0, 173, 28, 172]
abbrev dktX6_takes_1 : List UInt8 := dkwX6_takes_1 ++ []
def dkwX6_takes_0 : List UInt8 := [42, 27, 27, 182, 0, 179, 61, 42, 89, 180, 0, 173, 28, 153, 0, 7, 4, 167, 0, 4, 3, 96]
abbrev dktX6_takes_0 : List UInt8 := dkwX6_takes_0 ++ dktX6_takes_1
theorem dksX6_takes_0 : cX6_takes.data.toList.drop 0 = dktX6_takes_0 := by decide +kernel
theorem dksX6_takes_1 : cX6_takes.data.toList.drop 22 = dktX6_takes_1 := dk_seg dksX6_takes_0 22 rfl rfl
theorem dX6_takes_0 : decode cX6_takes 0 = .ok (.aload_n 0, 1) := dk_42 (dk_at dksX6_takes_0 0 rfl rfl)
theorem dX6_takes_1 : decode cX6_takes 1 = .ok (.iload_n 1, 1) := dk_27 (dk_at dksX6_takes_0 1 rfl rfl)
theorem dX6_takes_2 : decode cX6_takes 2 = .ok (.iload_n 1, 1) := dk_27 (dk_at dksX6_takes_0 2 rfl rfl)
theorem dX6_takes_3 : decode cX6_takes 3 = .ok (.invokevirtual 179, 3) := dk_182 0 179 (dk_at dksX6_takes_0 3 rfl rfl)
theorem dX6_takes_6 : decode cX6_takes 6 = .ok (.istore_n 2, 1) := dk_61 (dk_at dksX6_takes_0 6 rfl rfl)
theorem dX6_takes_7 : decode cX6_takes 7 = .ok (.aload_n 0, 1) := dk_42 (dk_at dksX6_takes_0 7 rfl rfl)
theorem dX6_takes_8 : decode cX6_takes 8 = .ok (.dup, 1) := dk_89 (dk_at dksX6_takes_0 8 rfl rfl)
theorem dX6_takes_9 : decode cX6_takes 9 = .ok (.getfield 173, 3) := dk_180 0 173 (dk_at dksX6_takes_0 9 rfl rfl)
theorem dX6_takes_12 : decode cX6_takes 12 = .ok (.iload_n 2, 1) := dk_28 (dk_at dksX6_takes_0 12 rfl rfl)
theorem dX6_takes_13 : decode cX6_takes 13 = .ok (.ifCond .eq 7, 3) := dk_153 0 7 (dk_at dksX6_takes_0 13 rfl rfl)
theorem dX6_takes_16 : decode cX6_takes 16 = .ok (.iconst 1, 1) := dk_4 (dk_at dksX6_takes_0 16 rfl rfl)
theorem dX6_takes_17 : decode cX6_takes 17 = .ok (.goto 4, 3) := dk_167 0 4 (dk_at dksX6_takes_0 17 rfl rfl)
theorem dX6_takes_20 : decode cX6_takes 20 = .ok (.iconst 0, 1) := dk_3 (dk_at dksX6_takes_0 20 rfl rfl)
theorem dX6_takes_21 : decode cX6_takes 21 = .ok (.iadd, 1) := dk_96 (dk_at dksX6_takes_0 21 rfl rfl)
theorem dX6_takes_22 : decode cX6_takes 22 = .ok (.putfield 173, 3) := dk_181 0 173 (dk_at dksX6_takes_1 0 rfl rfl)
theorem dX6_takes_25 : decode cX6_takes 25 = .ok (.iload_n 2, 1) := dk_28 (dk_at dksX6_takes_1 3 rfl rfl)
theorem dX6_takes_26 : decode cX6_takes 26 = .ok (.ireturn, 1) := dk_172 (dk_at dksX6_takes_1 4 rfl rfl)
abbrev cX6_isNamed : ByteArray := prog_15_method_38_code
def yX6_isNamed : MethodName := ⟨RX6, "isNamed", "()Z"⟩
def dkwX6_isNamed_5 : List UInt8 := [181, 0, 173, 4, 172]
abbrev dktX6_isNamed_5 : List UInt8 := dkwX6_isNamed_5 ++ []
def dkwX6_isNamed_4 : List UInt8 := [180, 0, 173, 46, 16, 49, 100, 46, 104, 96, 27, 96, 182, 0, 182, 42, 89, 180, 0, 173, 4, 96]
abbrev dktX6_isNamed_4 : List UInt8 := dkwX6_isNamed_4 ++ dktX6_isNamed_5
def dkwX6_isNamed_3 : List UInt8 := [180, 0, 99, 161, 0, 5, 3, 172, 42, 17, 39, 16, 16, 12, 42, 180, 0, 22, 42, 180, 0, 19, 42]
abbrev dktX6_isNamed_3 : List UInt8 := dkwX6_isNamed_3 ++ dktX6_isNamed_4
def dkwX6_isNamed_2 : List UInt8 := [42, 16, 49, 16, 57, 182, 0, 179, 153, 0, 22, 42, 180, 0, 19, 42, 180, 0, 173, 46, 16, 49, 100, 42]
abbrev dktX6_isNamed_2 : List UInt8 := dkwX6_isNamed_2 ++ dktX6_isNamed_3
def dkwX6_isNamed_1 : List UInt8 := [42, 180, 0, 19, 42, 180, 0, 173, 46, 16, 65, 100, 46, 60, 42, 89, 180, 0, 173, 4, 96, 181, 0, 173]
abbrev dktX6_isNamed_1 : List UInt8 := dkwX6_isNamed_1 ++ dktX6_isNamed_2
def dkwX6_isNamed_0 : List UInt8 := [42, 16, 65, 16, 65, 42, 180, 0, 102, 96, 4, 100, 182, 0, 179, 154, 0, 5, 3, 172, 42, 180, 0, 25]
abbrev dktX6_isNamed_0 : List UInt8 := dkwX6_isNamed_0 ++ dktX6_isNamed_1
theorem dksX6_isNamed_0 : cX6_isNamed.data.toList.drop 0 = dktX6_isNamed_0 := by decide +kernel
theorem dksX6_isNamed_1 : cX6_isNamed.data.toList.drop 24 = dktX6_isNamed_1 := dk_seg dksX6_isNamed_0 24 rfl rfl
theorem dksX6_isNamed_2 : cX6_isNamed.data.toList.drop 48 = dktX6_isNamed_2 := dk_seg dksX6_isNamed_1 24 rfl rfl
theorem dksX6_isNamed_3 : cX6_isNamed.data.toList.drop 72 = dktX6_isNamed_3 := dk_seg dksX6_isNamed_2 24 rfl rfl
theorem dksX6_isNamed_4 : cX6_isNamed.data.toList.drop 95 = dktX6_isNamed_4 := dk_seg dksX6_isNamed_3 23 rfl rfl
theorem dksX6_isNamed_5 : cX6_isNamed.data.toList.drop 117 = dktX6_isNamed_5 := dk_seg dksX6_isNamed_4 22 rfl rfl
theorem dX6_isNamed_0 : decode cX6_isNamed 0 = .ok (.aload_n 0, 1) := dk_42 (dk_at dksX6_isNamed_0 0 rfl rfl)
theorem dX6_isNamed_1 : decode cX6_isNamed 1 = .ok (.bipush 65, 2) := dk_16 65 (dk_at dksX6_isNamed_0 1 rfl rfl)
theorem dX6_isNamed_3 : decode cX6_isNamed 3 = .ok (.bipush 65, 2) := dk_16 65 (dk_at dksX6_isNamed_0 3 rfl rfl)
theorem dX6_isNamed_5 : decode cX6_isNamed 5 = .ok (.aload_n 0, 1) := dk_42 (dk_at dksX6_isNamed_0 5 rfl rfl)
theorem dX6_isNamed_6 : decode cX6_isNamed 6 = .ok (.getfield 102, 3) := dk_180 0 102 (dk_at dksX6_isNamed_0 6 rfl rfl)
theorem dX6_isNamed_9 : decode cX6_isNamed 9 = .ok (.iadd, 1) := dk_96 (dk_at dksX6_isNamed_0 9 rfl rfl)
theorem dX6_isNamed_10 : decode cX6_isNamed 10 = .ok (.iconst 1, 1) := dk_4 (dk_at dksX6_isNamed_0 10 rfl rfl)
theorem dX6_isNamed_11 : decode cX6_isNamed 11 = .ok (.isub, 1) := dk_100 (dk_at dksX6_isNamed_0 11 rfl rfl)
theorem dX6_isNamed_12 : decode cX6_isNamed 12 = .ok (.invokevirtual 179, 3) := dk_182 0 179 (dk_at dksX6_isNamed_0 12 rfl rfl)
theorem dX6_isNamed_15 : decode cX6_isNamed 15 = .ok (.ifCond .ne 5, 3) := dk_154 0 5 (dk_at dksX6_isNamed_0 15 rfl rfl)
theorem dX6_isNamed_18 : decode cX6_isNamed 18 = .ok (.iconst 0, 1) := dk_3 (dk_at dksX6_isNamed_0 18 rfl rfl)
theorem dX6_isNamed_19 : decode cX6_isNamed 19 = .ok (.ireturn, 1) := dk_172 (dk_at dksX6_isNamed_0 19 rfl rfl)
theorem dX6_isNamed_20 : decode cX6_isNamed 20 = .ok (.aload_n 0, 1) := dk_42 (dk_at dksX6_isNamed_0 20 rfl rfl)
theorem dX6_isNamed_21 : decode cX6_isNamed 21 = .ok (.getfield 25, 3) := dk_180 0 25 (dk_at dksX6_isNamed_0 21 rfl rfl)
theorem dX6_isNamed_24 : decode cX6_isNamed 24 = .ok (.aload_n 0, 1) := dk_42 (dk_at dksX6_isNamed_1 0 rfl rfl)
theorem dX6_isNamed_25 : decode cX6_isNamed 25 = .ok (.getfield 19, 3) := dk_180 0 19 (dk_at dksX6_isNamed_1 1 rfl rfl)
theorem dX6_isNamed_28 : decode cX6_isNamed 28 = .ok (.aload_n 0, 1) := dk_42 (dk_at dksX6_isNamed_1 4 rfl rfl)
theorem dX6_isNamed_29 : decode cX6_isNamed 29 = .ok (.getfield 173, 3) := dk_180 0 173 (dk_at dksX6_isNamed_1 5 rfl rfl)
theorem dX6_isNamed_32 : decode cX6_isNamed 32 = .ok (.iaload, 1) := dk_46 (dk_at dksX6_isNamed_1 8 rfl rfl)
theorem dX6_isNamed_33 : decode cX6_isNamed 33 = .ok (.bipush 65, 2) := dk_16 65 (dk_at dksX6_isNamed_1 9 rfl rfl)
theorem dX6_isNamed_35 : decode cX6_isNamed 35 = .ok (.isub, 1) := dk_100 (dk_at dksX6_isNamed_1 11 rfl rfl)
theorem dX6_isNamed_36 : decode cX6_isNamed 36 = .ok (.iaload, 1) := dk_46 (dk_at dksX6_isNamed_1 12 rfl rfl)
theorem dX6_isNamed_37 : decode cX6_isNamed 37 = .ok (.istore_n 1, 1) := dk_60 (dk_at dksX6_isNamed_1 13 rfl rfl)
theorem dX6_isNamed_38 : decode cX6_isNamed 38 = .ok (.aload_n 0, 1) := dk_42 (dk_at dksX6_isNamed_1 14 rfl rfl)
theorem dX6_isNamed_39 : decode cX6_isNamed 39 = .ok (.dup, 1) := dk_89 (dk_at dksX6_isNamed_1 15 rfl rfl)
theorem dX6_isNamed_40 : decode cX6_isNamed 40 = .ok (.getfield 173, 3) := dk_180 0 173 (dk_at dksX6_isNamed_1 16 rfl rfl)
theorem dX6_isNamed_43 : decode cX6_isNamed 43 = .ok (.iconst 1, 1) := dk_4 (dk_at dksX6_isNamed_1 19 rfl rfl)
theorem dX6_isNamed_44 : decode cX6_isNamed 44 = .ok (.iadd, 1) := dk_96 (dk_at dksX6_isNamed_1 20 rfl rfl)
theorem dX6_isNamed_45 : decode cX6_isNamed 45 = .ok (.putfield 173, 3) := dk_181 0 173 (dk_at dksX6_isNamed_1 21 rfl rfl)
theorem dX6_isNamed_48 : decode cX6_isNamed 48 = .ok (.aload_n 0, 1) := dk_42 (dk_at dksX6_isNamed_2 0 rfl rfl)
theorem dX6_isNamed_49 : decode cX6_isNamed 49 = .ok (.bipush 49, 2) := dk_16 49 (dk_at dksX6_isNamed_2 1 rfl rfl)
theorem dX6_isNamed_51 : decode cX6_isNamed 51 = .ok (.bipush 57, 2) := dk_16 57 (dk_at dksX6_isNamed_2 3 rfl rfl)
theorem dX6_isNamed_53 : decode cX6_isNamed 53 = .ok (.invokevirtual 179, 3) := dk_182 0 179 (dk_at dksX6_isNamed_2 5 rfl rfl)
theorem dX6_isNamed_56 : decode cX6_isNamed 56 = .ok (.ifCond .eq 22, 3) := dk_153 0 22 (dk_at dksX6_isNamed_2 8 rfl rfl)
theorem dX6_isNamed_59 : decode cX6_isNamed 59 = .ok (.aload_n 0, 1) := dk_42 (dk_at dksX6_isNamed_2 11 rfl rfl)
theorem dX6_isNamed_60 : decode cX6_isNamed 60 = .ok (.getfield 19, 3) := dk_180 0 19 (dk_at dksX6_isNamed_2 12 rfl rfl)
theorem dX6_isNamed_63 : decode cX6_isNamed 63 = .ok (.aload_n 0, 1) := dk_42 (dk_at dksX6_isNamed_2 15 rfl rfl)
theorem dX6_isNamed_64 : decode cX6_isNamed 64 = .ok (.getfield 173, 3) := dk_180 0 173 (dk_at dksX6_isNamed_2 16 rfl rfl)
theorem dX6_isNamed_67 : decode cX6_isNamed 67 = .ok (.iaload, 1) := dk_46 (dk_at dksX6_isNamed_2 19 rfl rfl)
theorem dX6_isNamed_68 : decode cX6_isNamed 68 = .ok (.bipush 49, 2) := dk_16 49 (dk_at dksX6_isNamed_2 20 rfl rfl)
theorem dX6_isNamed_70 : decode cX6_isNamed 70 = .ok (.isub, 1) := dk_100 (dk_at dksX6_isNamed_2 22 rfl rfl)
theorem dX6_isNamed_71 : decode cX6_isNamed 71 = .ok (.aload_n 0, 1) := dk_42 (dk_at dksX6_isNamed_2 23 rfl rfl)
theorem dX6_isNamed_72 : decode cX6_isNamed 72 = .ok (.getfield 99, 3) := dk_180 0 99 (dk_at dksX6_isNamed_3 0 rfl rfl)
theorem dX6_isNamed_75 : decode cX6_isNamed 75 = .ok (.if_icmp .lt 5, 3) := dk_161 0 5 (dk_at dksX6_isNamed_3 3 rfl rfl)
theorem dX6_isNamed_78 : decode cX6_isNamed 78 = .ok (.iconst 0, 1) := dk_3 (dk_at dksX6_isNamed_3 6 rfl rfl)
theorem dX6_isNamed_79 : decode cX6_isNamed 79 = .ok (.ireturn, 1) := dk_172 (dk_at dksX6_isNamed_3 7 rfl rfl)
theorem dX6_isNamed_80 : decode cX6_isNamed 80 = .ok (.aload_n 0, 1) := dk_42 (dk_at dksX6_isNamed_3 8 rfl rfl)
theorem dX6_isNamed_81 : decode cX6_isNamed 81 = .ok (.sipush 10000, 3) := dk_17 39 16 (dk_at dksX6_isNamed_3 9 rfl rfl)
theorem dX6_isNamed_84 : decode cX6_isNamed 84 = .ok (.bipush 12, 2) := dk_16 12 (dk_at dksX6_isNamed_3 12 rfl rfl)
theorem dX6_isNamed_86 : decode cX6_isNamed 86 = .ok (.aload_n 0, 1) := dk_42 (dk_at dksX6_isNamed_3 14 rfl rfl)
theorem dX6_isNamed_87 : decode cX6_isNamed 87 = .ok (.getfield 22, 3) := dk_180 0 22 (dk_at dksX6_isNamed_3 15 rfl rfl)
theorem dX6_isNamed_90 : decode cX6_isNamed 90 = .ok (.aload_n 0, 1) := dk_42 (dk_at dksX6_isNamed_3 18 rfl rfl)
theorem dX6_isNamed_91 : decode cX6_isNamed 91 = .ok (.getfield 19, 3) := dk_180 0 19 (dk_at dksX6_isNamed_3 19 rfl rfl)
theorem dX6_isNamed_94 : decode cX6_isNamed 94 = .ok (.aload_n 0, 1) := dk_42 (dk_at dksX6_isNamed_3 22 rfl rfl)
theorem dX6_isNamed_95 : decode cX6_isNamed 95 = .ok (.getfield 173, 3) := dk_180 0 173 (dk_at dksX6_isNamed_4 0 rfl rfl)
theorem dX6_isNamed_98 : decode cX6_isNamed 98 = .ok (.iaload, 1) := dk_46 (dk_at dksX6_isNamed_4 3 rfl rfl)
theorem dX6_isNamed_99 : decode cX6_isNamed 99 = .ok (.bipush 49, 2) := dk_16 49 (dk_at dksX6_isNamed_4 4 rfl rfl)
theorem dX6_isNamed_101 : decode cX6_isNamed 101 = .ok (.isub, 1) := dk_100 (dk_at dksX6_isNamed_4 6 rfl rfl)
theorem dX6_isNamed_102 : decode cX6_isNamed 102 = .ok (.iaload, 1) := dk_46 (dk_at dksX6_isNamed_4 7 rfl rfl)
theorem dX6_isNamed_103 : decode cX6_isNamed 103 = .ok (.imul, 1) := dk_104 (dk_at dksX6_isNamed_4 8 rfl rfl)
theorem dX6_isNamed_104 : decode cX6_isNamed 104 = .ok (.iadd, 1) := dk_96 (dk_at dksX6_isNamed_4 9 rfl rfl)
theorem dX6_isNamed_105 : decode cX6_isNamed 105 = .ok (.iload_n 1, 1) := dk_27 (dk_at dksX6_isNamed_4 10 rfl rfl)
theorem dX6_isNamed_106 : decode cX6_isNamed 106 = .ok (.iadd, 1) := dk_96 (dk_at dksX6_isNamed_4 11 rfl rfl)
theorem dX6_isNamed_107 : decode cX6_isNamed 107 = .ok (.invokevirtual 182, 3) := dk_182 0 182 (dk_at dksX6_isNamed_4 12 rfl rfl)
theorem dX6_isNamed_110 : decode cX6_isNamed 110 = .ok (.aload_n 0, 1) := dk_42 (dk_at dksX6_isNamed_4 15 rfl rfl)
theorem dX6_isNamed_111 : decode cX6_isNamed 111 = .ok (.dup, 1) := dk_89 (dk_at dksX6_isNamed_4 16 rfl rfl)
theorem dX6_isNamed_112 : decode cX6_isNamed 112 = .ok (.getfield 173, 3) := dk_180 0 173 (dk_at dksX6_isNamed_4 17 rfl rfl)
theorem dX6_isNamed_115 : decode cX6_isNamed 115 = .ok (.iconst 1, 1) := dk_4 (dk_at dksX6_isNamed_4 20 rfl rfl)
theorem dX6_isNamed_116 : decode cX6_isNamed 116 = .ok (.iadd, 1) := dk_96 (dk_at dksX6_isNamed_4 21 rfl rfl)
theorem dX6_isNamed_117 : decode cX6_isNamed 117 = .ok (.putfield 173, 3) := dk_181 0 173 (dk_at dksX6_isNamed_5 0 rfl rfl)
theorem dX6_isNamed_120 : decode cX6_isNamed 120 = .ok (.iconst 1, 1) := dk_4 (dk_at dksX6_isNamed_5 3 rfl rfl)
theorem dX6_isNamed_121 : decode cX6_isNamed 121 = .ok (.ireturn, 1) := dk_172 (dk_at dksX6_isNamed_5 4 rfl rfl)
abbrev cX6_fault : ByteArray := prog_15_method_41_code
def yX6_fault : MethodName := ⟨RX6, "fault", "(I)I"⟩
def dkwX6_fault_1 : List UInt8 := [182, 0, 83, 172]
abbrev dktX6_fault_1 : List UInt8 := dkwX6_fault_1 ++ []
def dkwX6_fault_0 : List UInt8 := [27, 184, 0, 127, 154, 0, 9, 42, 4, 182, 0, 131, 172, 42, 27, 182, 0, 155, 42, 42, 182, 0, 166]
abbrev dktX6_fault_0 : List UInt8 := dkwX6_fault_0 ++ dktX6_fault_1
theorem dksX6_fault_0 : cX6_fault.data.toList.drop 0 = dktX6_fault_0 := by decide +kernel
theorem dksX6_fault_1 : cX6_fault.data.toList.drop 23 = dktX6_fault_1 := dk_seg dksX6_fault_0 23 rfl rfl
theorem dX6_fault_0 : decode cX6_fault 0 = .ok (.iload_n 1, 1) := dk_27 (dk_at dksX6_fault_0 0 rfl rfl)
theorem dX6_fault_1 : decode cX6_fault 1 = .ok (.invokestatic 127, 3) := dk_184 0 127 (dk_at dksX6_fault_0 1 rfl rfl)
theorem dX6_fault_4 : decode cX6_fault 4 = .ok (.ifCond .ne 9, 3) := dk_154 0 9 (dk_at dksX6_fault_0 4 rfl rfl)
theorem dX6_fault_7 : decode cX6_fault 7 = .ok (.aload_n 0, 1) := dk_42 (dk_at dksX6_fault_0 7 rfl rfl)
theorem dX6_fault_8 : decode cX6_fault 8 = .ok (.iconst 1, 1) := dk_4 (dk_at dksX6_fault_0 8 rfl rfl)
theorem dX6_fault_9 : decode cX6_fault 9 = .ok (.invokevirtual 131, 3) := dk_182 0 131 (dk_at dksX6_fault_0 9 rfl rfl)
theorem dX6_fault_12 : decode cX6_fault 12 = .ok (.ireturn, 1) := dk_172 (dk_at dksX6_fault_0 12 rfl rfl)
theorem dX6_fault_13 : decode cX6_fault 13 = .ok (.aload_n 0, 1) := dk_42 (dk_at dksX6_fault_0 13 rfl rfl)
theorem dX6_fault_14 : decode cX6_fault 14 = .ok (.iload_n 1, 1) := dk_27 (dk_at dksX6_fault_0 14 rfl rfl)
theorem dX6_fault_15 : decode cX6_fault 15 = .ok (.invokevirtual 155, 3) := dk_182 0 155 (dk_at dksX6_fault_0 15 rfl rfl)
theorem dX6_fault_18 : decode cX6_fault 18 = .ok (.aload_n 0, 1) := dk_42 (dk_at dksX6_fault_0 18 rfl rfl)
theorem dX6_fault_19 : decode cX6_fault 19 = .ok (.aload_n 0, 1) := dk_42 (dk_at dksX6_fault_0 19 rfl rfl)
theorem dX6_fault_20 : decode cX6_fault 20 = .ok (.invokevirtual 166, 3) := dk_182 0 166 (dk_at dksX6_fault_0 20 rfl rfl)
theorem dX6_fault_23 : decode cX6_fault 23 = .ok (.invokevirtual 83, 3) := dk_182 0 83 (dk_at dksX6_fault_1 0 rfl rfl)
theorem dX6_fault_26 : decode cX6_fault 26 = .ok (.ireturn, 1) := dk_172 (dk_at dksX6_fault_1 3 rfl rfl)
abbrev cX6_cell : ByteArray := prog_15_method_61_code
def yX6_cell : MethodName := ⟨RX6, "cell", "(IIII)I"⟩
def dkwX6_cell_2 : List UInt8 := [21, 4, 182, 1, 7, 182, 0, 83, 172]
abbrev dktX6_cell_2 : List UInt8 := dkwX6_cell_2 ++ []
def dkwX6_cell_1 : List UInt8 := [154, 0, 9, 42, 5, 182, 0, 131, 172, 42, 27, 182, 0, 223, 42, 42, 27, 16, 12, 28, 104, 29, 96]
abbrev dktX6_cell_1 : List UInt8 := dkwX6_cell_1 ++ dktX6_cell_2
def dkwX6_cell_0 : List UInt8 := [42, 27, 28, 29, 182, 0, 159, 154, 0, 9, 42, 4, 182, 0, 131, 172, 21, 4, 3, 16, 6, 184, 0, 87]
abbrev dktX6_cell_0 : List UInt8 := dkwX6_cell_0 ++ dktX6_cell_1
theorem dksX6_cell_0 : cX6_cell.data.toList.drop 0 = dktX6_cell_0 := by decide +kernel
theorem dksX6_cell_1 : cX6_cell.data.toList.drop 24 = dktX6_cell_1 := dk_seg dksX6_cell_0 24 rfl rfl
theorem dksX6_cell_2 : cX6_cell.data.toList.drop 47 = dktX6_cell_2 := dk_seg dksX6_cell_1 23 rfl rfl
theorem dX6_cell_0 : decode cX6_cell 0 = .ok (.aload_n 0, 1) := dk_42 (dk_at dksX6_cell_0 0 rfl rfl)
theorem dX6_cell_1 : decode cX6_cell 1 = .ok (.iload_n 1, 1) := dk_27 (dk_at dksX6_cell_0 1 rfl rfl)
theorem dX6_cell_2 : decode cX6_cell 2 = .ok (.iload_n 2, 1) := dk_28 (dk_at dksX6_cell_0 2 rfl rfl)
theorem dX6_cell_3 : decode cX6_cell 3 = .ok (.iload_n 3, 1) := dk_29 (dk_at dksX6_cell_0 3 rfl rfl)
theorem dX6_cell_4 : decode cX6_cell 4 = .ok (.invokevirtual 159, 3) := dk_182 0 159 (dk_at dksX6_cell_0 4 rfl rfl)
theorem dX6_cell_7 : decode cX6_cell 7 = .ok (.ifCond .ne 9, 3) := dk_154 0 9 (dk_at dksX6_cell_0 7 rfl rfl)
theorem dX6_cell_10 : decode cX6_cell 10 = .ok (.aload_n 0, 1) := dk_42 (dk_at dksX6_cell_0 10 rfl rfl)
theorem dX6_cell_11 : decode cX6_cell 11 = .ok (.iconst 1, 1) := dk_4 (dk_at dksX6_cell_0 11 rfl rfl)
theorem dX6_cell_12 : decode cX6_cell 12 = .ok (.invokevirtual 131, 3) := dk_182 0 131 (dk_at dksX6_cell_0 12 rfl rfl)
theorem dX6_cell_15 : decode cX6_cell 15 = .ok (.ireturn, 1) := dk_172 (dk_at dksX6_cell_0 15 rfl rfl)
theorem dX6_cell_16 : decode cX6_cell 16 = .ok (.iload 4, 2) := dk_21 4 (dk_at dksX6_cell_0 16 rfl rfl)
theorem dX6_cell_18 : decode cX6_cell 18 = .ok (.iconst 0, 1) := dk_3 (dk_at dksX6_cell_0 18 rfl rfl)
theorem dX6_cell_19 : decode cX6_cell 19 = .ok (.bipush 6, 2) := dk_16 6 (dk_at dksX6_cell_0 19 rfl rfl)
theorem dX6_cell_21 : decode cX6_cell 21 = .ok (.invokestatic 87, 3) := dk_184 0 87 (dk_at dksX6_cell_0 21 rfl rfl)
theorem dX6_cell_24 : decode cX6_cell 24 = .ok (.ifCond .ne 9, 3) := dk_154 0 9 (dk_at dksX6_cell_1 0 rfl rfl)
theorem dX6_cell_27 : decode cX6_cell 27 = .ok (.aload_n 0, 1) := dk_42 (dk_at dksX6_cell_1 3 rfl rfl)
theorem dX6_cell_28 : decode cX6_cell 28 = .ok (.iconst 2, 1) := dk_5 (dk_at dksX6_cell_1 4 rfl rfl)
theorem dX6_cell_29 : decode cX6_cell 29 = .ok (.invokevirtual 131, 3) := dk_182 0 131 (dk_at dksX6_cell_1 5 rfl rfl)
theorem dX6_cell_32 : decode cX6_cell 32 = .ok (.ireturn, 1) := dk_172 (dk_at dksX6_cell_1 8 rfl rfl)
theorem dX6_cell_33 : decode cX6_cell 33 = .ok (.aload_n 0, 1) := dk_42 (dk_at dksX6_cell_1 9 rfl rfl)
theorem dX6_cell_34 : decode cX6_cell 34 = .ok (.iload_n 1, 1) := dk_27 (dk_at dksX6_cell_1 10 rfl rfl)
theorem dX6_cell_35 : decode cX6_cell 35 = .ok (.invokevirtual 223, 3) := dk_182 0 223 (dk_at dksX6_cell_1 11 rfl rfl)
theorem dX6_cell_38 : decode cX6_cell 38 = .ok (.aload_n 0, 1) := dk_42 (dk_at dksX6_cell_1 14 rfl rfl)
theorem dX6_cell_39 : decode cX6_cell 39 = .ok (.aload_n 0, 1) := dk_42 (dk_at dksX6_cell_1 15 rfl rfl)
theorem dX6_cell_40 : decode cX6_cell 40 = .ok (.iload_n 1, 1) := dk_27 (dk_at dksX6_cell_1 16 rfl rfl)
theorem dX6_cell_41 : decode cX6_cell 41 = .ok (.bipush 12, 2) := dk_16 12 (dk_at dksX6_cell_1 17 rfl rfl)
theorem dX6_cell_43 : decode cX6_cell 43 = .ok (.iload_n 2, 1) := dk_28 (dk_at dksX6_cell_1 19 rfl rfl)
theorem dX6_cell_44 : decode cX6_cell 44 = .ok (.imul, 1) := dk_104 (dk_at dksX6_cell_1 20 rfl rfl)
theorem dX6_cell_45 : decode cX6_cell 45 = .ok (.iload_n 3, 1) := dk_29 (dk_at dksX6_cell_1 21 rfl rfl)
theorem dX6_cell_46 : decode cX6_cell 46 = .ok (.iadd, 1) := dk_96 (dk_at dksX6_cell_1 22 rfl rfl)
theorem dX6_cell_47 : decode cX6_cell 47 = .ok (.iload 4, 2) := dk_21 4 (dk_at dksX6_cell_2 0 rfl rfl)
theorem dX6_cell_49 : decode cX6_cell 49 = .ok (.invokevirtual 263, 3) := dk_182 1 7 (dk_at dksX6_cell_2 2 rfl rfl)
theorem dX6_cell_52 : decode cX6_cell 52 = .ok (.invokevirtual 83, 3) := dk_182 0 83 (dk_at dksX6_cell_2 5 rfl rfl)
theorem dX6_cell_55 : decode cX6_cell 55 = .ok (.ireturn, 1) := dk_172 (dk_at dksX6_cell_2 8 rfl rfl)
abbrev cX6_gathers : ByteArray := prog_15_method_51_code
def yX6_gathers : MethodName := ⟨RX6, "gathers", "(I)V"⟩
def dkwX6_gathers_9 : List UInt8 := [182, 0, 220, 84, 42, 180, 0, 54, 28, 3, 84, 132, 2, 1, 167, 255, 227, 177]
abbrev dktX6_gathers_9 : List UInt8 := dkwX6_gathers_9 ++ []
def dkwX6_gathers_8 : List UInt8 := [132, 2, 1, 167, 255, 229, 3, 61, 28, 42, 180, 0, 211, 162, 0, 27, 42, 180, 0, 51, 28, 42, 28]
abbrev dktX6_gathers_8 : List UInt8 := dkwX6_gathers_8 ++ dktX6_gathers_9
def dkwX6_gathers_7 : List UInt8 := [180, 0, 211, 162, 0, 25, 42, 28, 42, 27, 42, 180, 0, 34, 28, 46, 182, 0, 214, 182, 0, 217]
abbrev dktX6_gathers_7 : List UInt8 := dkwX6_gathers_7 ++ dktX6_gathers_8
def dkwX6_gathers_6 : List UInt8 := [180, 0, 211, 4, 96, 181, 0, 211, 132, 3, 1, 167, 255, 126, 132, 2, 1, 167, 255, 110, 3, 61, 28, 42]
abbrev dktX6_gathers_6 : List UInt8 := dkwX6_gathers_6 ++ dktX6_gathers_7
def dkwX6_gathers_5 : List UInt8 := [180, 0, 37, 21, 4, 42, 180, 0, 211, 79, 42, 180, 0, 34, 42, 180, 0, 211, 21, 4, 79, 42, 89]
abbrev dktX6_gathers_5 : List UInt8 := dkwX6_gathers_5 ++ dktX6_gathers_6
def dkwX6_gathers_4 : List UInt8 := [167, 0, 4, 9, 80, 21, 5, 2, 159, 0, 46, 42, 21, 5, 8, 182, 0, 105, 5, 160, 0, 35, 42]
abbrev dktX6_gathers_4 : List UInt8 := dkwX6_gathers_4 ++ dktX6_gathers_5
def dkwX6_gathers_3 : List UInt8 := [159, 0, 26, 42, 21, 5, 8, 182, 0, 105, 4, 160, 0, 15, 42, 21, 5, 16, 6, 182, 0, 105, 133]
abbrev dktX6_gathers_3 : List UInt8 := dkwX6_gathers_3 ++ dktX6_gathers_4
def dkwX6_gathers_2 : List UInt8 := [180, 0, 37, 21, 4, 2, 79, 42, 180, 0, 44, 21, 4, 3, 79, 42, 180, 0, 40, 21, 4, 21, 5, 2]
abbrev dktX6_gathers_2 : List UInt8 := dkwX6_gathers_2 ++ dktX6_gathers_3
def dkwX6_gathers_1 : List UInt8 := [180, 0, 102, 162, 0, 128, 16, 12, 28, 104, 29, 96, 54, 4, 42, 27, 21, 4, 182, 0, 214, 54, 5, 42]
abbrev dktX6_gathers_1 : List UInt8 := dkwX6_gathers_1 ++ dktX6_gathers_2
def dkwX6_gathers_0 : List UInt8 := [42, 27, 182, 0, 155, 42, 3, 181, 0, 211, 3, 61, 28, 42, 180, 0, 99, 162, 0, 144, 3, 62, 29, 42]
abbrev dktX6_gathers_0 : List UInt8 := dkwX6_gathers_0 ++ dktX6_gathers_1
theorem dksX6_gathers_0 : cX6_gathers.data.toList.drop 0 = dktX6_gathers_0 := by decide +kernel
theorem dksX6_gathers_1 : cX6_gathers.data.toList.drop 24 = dktX6_gathers_1 := dk_seg dksX6_gathers_0 24 rfl rfl
theorem dksX6_gathers_2 : cX6_gathers.data.toList.drop 48 = dktX6_gathers_2 := dk_seg dksX6_gathers_1 24 rfl rfl
theorem dksX6_gathers_3 : cX6_gathers.data.toList.drop 72 = dktX6_gathers_3 := dk_seg dksX6_gathers_2 24 rfl rfl
theorem dksX6_gathers_4 : cX6_gathers.data.toList.drop 95 = dktX6_gathers_4 := dk_seg dksX6_gathers_3 23 rfl rfl
theorem dksX6_gathers_5 : cX6_gathers.data.toList.drop 118 = dktX6_gathers_5 := dk_seg dksX6_gathers_4 23 rfl rfl
theorem dksX6_gathers_6 : cX6_gathers.data.toList.drop 141 = dktX6_gathers_6 := dk_seg dksX6_gathers_5 23 rfl rfl
theorem dksX6_gathers_7 : cX6_gathers.data.toList.drop 165 = dktX6_gathers_7 := dk_seg dksX6_gathers_6 24 rfl rfl
theorem dksX6_gathers_8 : cX6_gathers.data.toList.drop 187 = dktX6_gathers_8 := dk_seg dksX6_gathers_7 22 rfl rfl
theorem dksX6_gathers_9 : cX6_gathers.data.toList.drop 210 = dktX6_gathers_9 := dk_seg dksX6_gathers_8 23 rfl rfl
theorem dX6_gathers_0 : decode cX6_gathers 0 = .ok (.aload_n 0, 1) := dk_42 (dk_at dksX6_gathers_0 0 rfl rfl)
theorem dX6_gathers_1 : decode cX6_gathers 1 = .ok (.iload_n 1, 1) := dk_27 (dk_at dksX6_gathers_0 1 rfl rfl)
theorem dX6_gathers_2 : decode cX6_gathers 2 = .ok (.invokevirtual 155, 3) := dk_182 0 155 (dk_at dksX6_gathers_0 2 rfl rfl)
theorem dX6_gathers_5 : decode cX6_gathers 5 = .ok (.aload_n 0, 1) := dk_42 (dk_at dksX6_gathers_0 5 rfl rfl)
theorem dX6_gathers_6 : decode cX6_gathers 6 = .ok (.iconst 0, 1) := dk_3 (dk_at dksX6_gathers_0 6 rfl rfl)
theorem dX6_gathers_7 : decode cX6_gathers 7 = .ok (.putfield 211, 3) := dk_181 0 211 (dk_at dksX6_gathers_0 7 rfl rfl)
theorem dX6_gathers_10 : decode cX6_gathers 10 = .ok (.iconst 0, 1) := dk_3 (dk_at dksX6_gathers_0 10 rfl rfl)
theorem dX6_gathers_11 : decode cX6_gathers 11 = .ok (.istore_n 2, 1) := dk_61 (dk_at dksX6_gathers_0 11 rfl rfl)
theorem dX6_gathers_12 : decode cX6_gathers 12 = .ok (.iload_n 2, 1) := dk_28 (dk_at dksX6_gathers_0 12 rfl rfl)
theorem dX6_gathers_13 : decode cX6_gathers 13 = .ok (.aload_n 0, 1) := dk_42 (dk_at dksX6_gathers_0 13 rfl rfl)
theorem dX6_gathers_14 : decode cX6_gathers 14 = .ok (.getfield 99, 3) := dk_180 0 99 (dk_at dksX6_gathers_0 14 rfl rfl)
theorem dX6_gathers_17 : decode cX6_gathers 17 = .ok (.if_icmp .ge 144, 3) := dk_162 0 144 (dk_at dksX6_gathers_0 17 rfl rfl)
theorem dX6_gathers_20 : decode cX6_gathers 20 = .ok (.iconst 0, 1) := dk_3 (dk_at dksX6_gathers_0 20 rfl rfl)
theorem dX6_gathers_21 : decode cX6_gathers 21 = .ok (.istore_n 3, 1) := dk_62 (dk_at dksX6_gathers_0 21 rfl rfl)
theorem dX6_gathers_22 : decode cX6_gathers 22 = .ok (.iload_n 3, 1) := dk_29 (dk_at dksX6_gathers_0 22 rfl rfl)
theorem dX6_gathers_23 : decode cX6_gathers 23 = .ok (.aload_n 0, 1) := dk_42 (dk_at dksX6_gathers_0 23 rfl rfl)
theorem dX6_gathers_24 : decode cX6_gathers 24 = .ok (.getfield 102, 3) := dk_180 0 102 (dk_at dksX6_gathers_1 0 rfl rfl)
theorem dX6_gathers_27 : decode cX6_gathers 27 = .ok (.if_icmp .ge 128, 3) := dk_162 0 128 (dk_at dksX6_gathers_1 3 rfl rfl)
theorem dX6_gathers_30 : decode cX6_gathers 30 = .ok (.bipush 12, 2) := dk_16 12 (dk_at dksX6_gathers_1 6 rfl rfl)
theorem dX6_gathers_32 : decode cX6_gathers 32 = .ok (.iload_n 2, 1) := dk_28 (dk_at dksX6_gathers_1 8 rfl rfl)
theorem dX6_gathers_33 : decode cX6_gathers 33 = .ok (.imul, 1) := dk_104 (dk_at dksX6_gathers_1 9 rfl rfl)
theorem dX6_gathers_34 : decode cX6_gathers 34 = .ok (.iload_n 3, 1) := dk_29 (dk_at dksX6_gathers_1 10 rfl rfl)
theorem dX6_gathers_35 : decode cX6_gathers 35 = .ok (.iadd, 1) := dk_96 (dk_at dksX6_gathers_1 11 rfl rfl)
theorem dX6_gathers_36 : decode cX6_gathers 36 = .ok (.istore 4, 2) := dk_54 4 (dk_at dksX6_gathers_1 12 rfl rfl)
theorem dX6_gathers_38 : decode cX6_gathers 38 = .ok (.aload_n 0, 1) := dk_42 (dk_at dksX6_gathers_1 14 rfl rfl)
theorem dX6_gathers_39 : decode cX6_gathers 39 = .ok (.iload_n 1, 1) := dk_27 (dk_at dksX6_gathers_1 15 rfl rfl)
theorem dX6_gathers_40 : decode cX6_gathers 40 = .ok (.iload 4, 2) := dk_21 4 (dk_at dksX6_gathers_1 16 rfl rfl)
theorem dX6_gathers_42 : decode cX6_gathers 42 = .ok (.invokevirtual 214, 3) := dk_182 0 214 (dk_at dksX6_gathers_1 18 rfl rfl)
theorem dX6_gathers_45 : decode cX6_gathers 45 = .ok (.istore 5, 2) := dk_54 5 (dk_at dksX6_gathers_1 21 rfl rfl)
theorem dX6_gathers_47 : decode cX6_gathers 47 = .ok (.aload_n 0, 1) := dk_42 (dk_at dksX6_gathers_1 23 rfl rfl)
theorem dX6_gathers_48 : decode cX6_gathers 48 = .ok (.getfield 37, 3) := dk_180 0 37 (dk_at dksX6_gathers_2 0 rfl rfl)
theorem dX6_gathers_51 : decode cX6_gathers 51 = .ok (.iload 4, 2) := dk_21 4 (dk_at dksX6_gathers_2 3 rfl rfl)
theorem dX6_gathers_53 : decode cX6_gathers 53 = .ok (.iconst (-1), 1) := dk_2 (dk_at dksX6_gathers_2 5 rfl rfl)
theorem dX6_gathers_54 : decode cX6_gathers 54 = .ok (.iastore, 1) := dk_79 (dk_at dksX6_gathers_2 6 rfl rfl)
theorem dX6_gathers_55 : decode cX6_gathers 55 = .ok (.aload_n 0, 1) := dk_42 (dk_at dksX6_gathers_2 7 rfl rfl)
theorem dX6_gathers_56 : decode cX6_gathers 56 = .ok (.getfield 44, 3) := dk_180 0 44 (dk_at dksX6_gathers_2 8 rfl rfl)
theorem dX6_gathers_59 : decode cX6_gathers 59 = .ok (.iload 4, 2) := dk_21 4 (dk_at dksX6_gathers_2 11 rfl rfl)
theorem dX6_gathers_61 : decode cX6_gathers 61 = .ok (.iconst 0, 1) := dk_3 (dk_at dksX6_gathers_2 13 rfl rfl)
theorem dX6_gathers_62 : decode cX6_gathers 62 = .ok (.iastore, 1) := dk_79 (dk_at dksX6_gathers_2 14 rfl rfl)
theorem dX6_gathers_63 : decode cX6_gathers 63 = .ok (.aload_n 0, 1) := dk_42 (dk_at dksX6_gathers_2 15 rfl rfl)
theorem dX6_gathers_64 : decode cX6_gathers 64 = .ok (.getfield 40, 3) := dk_180 0 40 (dk_at dksX6_gathers_2 16 rfl rfl)
theorem dX6_gathers_67 : decode cX6_gathers 67 = .ok (.iload 4, 2) := dk_21 4 (dk_at dksX6_gathers_2 19 rfl rfl)
theorem dX6_gathers_69 : decode cX6_gathers 69 = .ok (.iload 5, 2) := dk_21 5 (dk_at dksX6_gathers_2 21 rfl rfl)
theorem dX6_gathers_71 : decode cX6_gathers 71 = .ok (.iconst (-1), 1) := dk_2 (dk_at dksX6_gathers_2 23 rfl rfl)
theorem dX6_gathers_72 : decode cX6_gathers 72 = .ok (.if_icmp .eq 26, 3) := dk_159 0 26 (dk_at dksX6_gathers_3 0 rfl rfl)
theorem dX6_gathers_75 : decode cX6_gathers 75 = .ok (.aload_n 0, 1) := dk_42 (dk_at dksX6_gathers_3 3 rfl rfl)
theorem dX6_gathers_76 : decode cX6_gathers 76 = .ok (.iload 5, 2) := dk_21 5 (dk_at dksX6_gathers_3 4 rfl rfl)
theorem dX6_gathers_78 : decode cX6_gathers 78 = .ok (.iconst 5, 1) := dk_8 (dk_at dksX6_gathers_3 6 rfl rfl)
theorem dX6_gathers_79 : decode cX6_gathers 79 = .ok (.invokevirtual 105, 3) := dk_182 0 105 (dk_at dksX6_gathers_3 7 rfl rfl)
theorem dX6_gathers_82 : decode cX6_gathers 82 = .ok (.iconst 1, 1) := dk_4 (dk_at dksX6_gathers_3 10 rfl rfl)
theorem dX6_gathers_83 : decode cX6_gathers 83 = .ok (.if_icmp .ne 15, 3) := dk_160 0 15 (dk_at dksX6_gathers_3 11 rfl rfl)
theorem dX6_gathers_86 : decode cX6_gathers 86 = .ok (.aload_n 0, 1) := dk_42 (dk_at dksX6_gathers_3 14 rfl rfl)
theorem dX6_gathers_87 : decode cX6_gathers 87 = .ok (.iload 5, 2) := dk_21 5 (dk_at dksX6_gathers_3 15 rfl rfl)
theorem dX6_gathers_89 : decode cX6_gathers 89 = .ok (.bipush 6, 2) := dk_16 6 (dk_at dksX6_gathers_3 17 rfl rfl)
theorem dX6_gathers_91 : decode cX6_gathers 91 = .ok (.invokevirtual 105, 3) := dk_182 0 105 (dk_at dksX6_gathers_3 19 rfl rfl)
theorem dX6_gathers_94 : decode cX6_gathers 94 = .ok (.i2l, 1) := dk_133 (dk_at dksX6_gathers_3 22 rfl rfl)
theorem dX6_gathers_95 : decode cX6_gathers 95 = .ok (.goto 4, 3) := dk_167 0 4 (dk_at dksX6_gathers_4 0 rfl rfl)
theorem dX6_gathers_98 : decode cX6_gathers 98 = .ok (.lconst 0, 1) := dk_9 (dk_at dksX6_gathers_4 3 rfl rfl)
theorem dX6_gathers_99 : decode cX6_gathers 99 = .ok (.lastore, 1) := dk_80 (dk_at dksX6_gathers_4 4 rfl rfl)
theorem dX6_gathers_100 : decode cX6_gathers 100 = .ok (.iload 5, 2) := dk_21 5 (dk_at dksX6_gathers_4 5 rfl rfl)
theorem dX6_gathers_102 : decode cX6_gathers 102 = .ok (.iconst (-1), 1) := dk_2 (dk_at dksX6_gathers_4 7 rfl rfl)
theorem dX6_gathers_103 : decode cX6_gathers 103 = .ok (.if_icmp .eq 46, 3) := dk_159 0 46 (dk_at dksX6_gathers_4 8 rfl rfl)
theorem dX6_gathers_106 : decode cX6_gathers 106 = .ok (.aload_n 0, 1) := dk_42 (dk_at dksX6_gathers_4 11 rfl rfl)
theorem dX6_gathers_107 : decode cX6_gathers 107 = .ok (.iload 5, 2) := dk_21 5 (dk_at dksX6_gathers_4 12 rfl rfl)
theorem dX6_gathers_109 : decode cX6_gathers 109 = .ok (.iconst 5, 1) := dk_8 (dk_at dksX6_gathers_4 14 rfl rfl)
theorem dX6_gathers_110 : decode cX6_gathers 110 = .ok (.invokevirtual 105, 3) := dk_182 0 105 (dk_at dksX6_gathers_4 15 rfl rfl)
theorem dX6_gathers_113 : decode cX6_gathers 113 = .ok (.iconst 2, 1) := dk_5 (dk_at dksX6_gathers_4 18 rfl rfl)
theorem dX6_gathers_114 : decode cX6_gathers 114 = .ok (.if_icmp .ne 35, 3) := dk_160 0 35 (dk_at dksX6_gathers_4 19 rfl rfl)
theorem dX6_gathers_117 : decode cX6_gathers 117 = .ok (.aload_n 0, 1) := dk_42 (dk_at dksX6_gathers_4 22 rfl rfl)
theorem dX6_gathers_118 : decode cX6_gathers 118 = .ok (.getfield 37, 3) := dk_180 0 37 (dk_at dksX6_gathers_5 0 rfl rfl)
theorem dX6_gathers_121 : decode cX6_gathers 121 = .ok (.iload 4, 2) := dk_21 4 (dk_at dksX6_gathers_5 3 rfl rfl)
theorem dX6_gathers_123 : decode cX6_gathers 123 = .ok (.aload_n 0, 1) := dk_42 (dk_at dksX6_gathers_5 5 rfl rfl)
theorem dX6_gathers_124 : decode cX6_gathers 124 = .ok (.getfield 211, 3) := dk_180 0 211 (dk_at dksX6_gathers_5 6 rfl rfl)
theorem dX6_gathers_127 : decode cX6_gathers 127 = .ok (.iastore, 1) := dk_79 (dk_at dksX6_gathers_5 9 rfl rfl)
theorem dX6_gathers_128 : decode cX6_gathers 128 = .ok (.aload_n 0, 1) := dk_42 (dk_at dksX6_gathers_5 10 rfl rfl)
theorem dX6_gathers_129 : decode cX6_gathers 129 = .ok (.getfield 34, 3) := dk_180 0 34 (dk_at dksX6_gathers_5 11 rfl rfl)
theorem dX6_gathers_132 : decode cX6_gathers 132 = .ok (.aload_n 0, 1) := dk_42 (dk_at dksX6_gathers_5 14 rfl rfl)
theorem dX6_gathers_133 : decode cX6_gathers 133 = .ok (.getfield 211, 3) := dk_180 0 211 (dk_at dksX6_gathers_5 15 rfl rfl)
theorem dX6_gathers_136 : decode cX6_gathers 136 = .ok (.iload 4, 2) := dk_21 4 (dk_at dksX6_gathers_5 18 rfl rfl)
theorem dX6_gathers_138 : decode cX6_gathers 138 = .ok (.iastore, 1) := dk_79 (dk_at dksX6_gathers_5 20 rfl rfl)
theorem dX6_gathers_139 : decode cX6_gathers 139 = .ok (.aload_n 0, 1) := dk_42 (dk_at dksX6_gathers_5 21 rfl rfl)
theorem dX6_gathers_140 : decode cX6_gathers 140 = .ok (.dup, 1) := dk_89 (dk_at dksX6_gathers_5 22 rfl rfl)
theorem dX6_gathers_141 : decode cX6_gathers 141 = .ok (.getfield 211, 3) := dk_180 0 211 (dk_at dksX6_gathers_6 0 rfl rfl)
theorem dX6_gathers_144 : decode cX6_gathers 144 = .ok (.iconst 1, 1) := dk_4 (dk_at dksX6_gathers_6 3 rfl rfl)
theorem dX6_gathers_145 : decode cX6_gathers 145 = .ok (.iadd, 1) := dk_96 (dk_at dksX6_gathers_6 4 rfl rfl)
theorem dX6_gathers_146 : decode cX6_gathers 146 = .ok (.putfield 211, 3) := dk_181 0 211 (dk_at dksX6_gathers_6 5 rfl rfl)
theorem dX6_gathers_149 : decode cX6_gathers 149 = .ok (.iinc 3 1, 3) := dk_132 3 1 (dk_at dksX6_gathers_6 8 rfl rfl)
theorem dX6_gathers_152 : decode cX6_gathers 152 = .ok (.goto (-130), 3) := dk_167 255 126 (dk_at dksX6_gathers_6 11 rfl rfl)
theorem dX6_gathers_155 : decode cX6_gathers 155 = .ok (.iinc 2 1, 3) := dk_132 2 1 (dk_at dksX6_gathers_6 14 rfl rfl)
theorem dX6_gathers_158 : decode cX6_gathers 158 = .ok (.goto (-146), 3) := dk_167 255 110 (dk_at dksX6_gathers_6 17 rfl rfl)
theorem dX6_gathers_161 : decode cX6_gathers 161 = .ok (.iconst 0, 1) := dk_3 (dk_at dksX6_gathers_6 20 rfl rfl)
theorem dX6_gathers_162 : decode cX6_gathers 162 = .ok (.istore_n 2, 1) := dk_61 (dk_at dksX6_gathers_6 21 rfl rfl)
theorem dX6_gathers_163 : decode cX6_gathers 163 = .ok (.iload_n 2, 1) := dk_28 (dk_at dksX6_gathers_6 22 rfl rfl)
theorem dX6_gathers_164 : decode cX6_gathers 164 = .ok (.aload_n 0, 1) := dk_42 (dk_at dksX6_gathers_6 23 rfl rfl)
theorem dX6_gathers_165 : decode cX6_gathers 165 = .ok (.getfield 211, 3) := dk_180 0 211 (dk_at dksX6_gathers_7 0 rfl rfl)
theorem dX6_gathers_168 : decode cX6_gathers 168 = .ok (.if_icmp .ge 25, 3) := dk_162 0 25 (dk_at dksX6_gathers_7 3 rfl rfl)
theorem dX6_gathers_171 : decode cX6_gathers 171 = .ok (.aload_n 0, 1) := dk_42 (dk_at dksX6_gathers_7 6 rfl rfl)
theorem dX6_gathers_172 : decode cX6_gathers 172 = .ok (.iload_n 2, 1) := dk_28 (dk_at dksX6_gathers_7 7 rfl rfl)
theorem dX6_gathers_173 : decode cX6_gathers 173 = .ok (.aload_n 0, 1) := dk_42 (dk_at dksX6_gathers_7 8 rfl rfl)
theorem dX6_gathers_174 : decode cX6_gathers 174 = .ok (.iload_n 1, 1) := dk_27 (dk_at dksX6_gathers_7 9 rfl rfl)
theorem dX6_gathers_175 : decode cX6_gathers 175 = .ok (.aload_n 0, 1) := dk_42 (dk_at dksX6_gathers_7 10 rfl rfl)
theorem dX6_gathers_176 : decode cX6_gathers 176 = .ok (.getfield 34, 3) := dk_180 0 34 (dk_at dksX6_gathers_7 11 rfl rfl)
theorem dX6_gathers_179 : decode cX6_gathers 179 = .ok (.iload_n 2, 1) := dk_28 (dk_at dksX6_gathers_7 14 rfl rfl)
theorem dX6_gathers_180 : decode cX6_gathers 180 = .ok (.iaload, 1) := dk_46 (dk_at dksX6_gathers_7 15 rfl rfl)
theorem dX6_gathers_181 : decode cX6_gathers 181 = .ok (.invokevirtual 214, 3) := dk_182 0 214 (dk_at dksX6_gathers_7 16 rfl rfl)
theorem dX6_gathers_184 : decode cX6_gathers 184 = .ok (.invokevirtual 217, 3) := dk_182 0 217 (dk_at dksX6_gathers_7 19 rfl rfl)
theorem dX6_gathers_187 : decode cX6_gathers 187 = .ok (.iinc 2 1, 3) := dk_132 2 1 (dk_at dksX6_gathers_8 0 rfl rfl)
theorem dX6_gathers_190 : decode cX6_gathers 190 = .ok (.goto (-27), 3) := dk_167 255 229 (dk_at dksX6_gathers_8 3 rfl rfl)
theorem dX6_gathers_193 : decode cX6_gathers 193 = .ok (.iconst 0, 1) := dk_3 (dk_at dksX6_gathers_8 6 rfl rfl)
theorem dX6_gathers_194 : decode cX6_gathers 194 = .ok (.istore_n 2, 1) := dk_61 (dk_at dksX6_gathers_8 7 rfl rfl)
theorem dX6_gathers_195 : decode cX6_gathers 195 = .ok (.iload_n 2, 1) := dk_28 (dk_at dksX6_gathers_8 8 rfl rfl)
theorem dX6_gathers_196 : decode cX6_gathers 196 = .ok (.aload_n 0, 1) := dk_42 (dk_at dksX6_gathers_8 9 rfl rfl)
theorem dX6_gathers_197 : decode cX6_gathers 197 = .ok (.getfield 211, 3) := dk_180 0 211 (dk_at dksX6_gathers_8 10 rfl rfl)
theorem dX6_gathers_200 : decode cX6_gathers 200 = .ok (.if_icmp .ge 27, 3) := dk_162 0 27 (dk_at dksX6_gathers_8 13 rfl rfl)
theorem dX6_gathers_203 : decode cX6_gathers 203 = .ok (.aload_n 0, 1) := dk_42 (dk_at dksX6_gathers_8 16 rfl rfl)
theorem dX6_gathers_204 : decode cX6_gathers 204 = .ok (.getfield 51, 3) := dk_180 0 51 (dk_at dksX6_gathers_8 17 rfl rfl)
theorem dX6_gathers_207 : decode cX6_gathers 207 = .ok (.iload_n 2, 1) := dk_28 (dk_at dksX6_gathers_8 20 rfl rfl)
theorem dX6_gathers_208 : decode cX6_gathers 208 = .ok (.aload_n 0, 1) := dk_42 (dk_at dksX6_gathers_8 21 rfl rfl)
theorem dX6_gathers_209 : decode cX6_gathers 209 = .ok (.iload_n 2, 1) := dk_28 (dk_at dksX6_gathers_8 22 rfl rfl)
theorem dX6_gathers_210 : decode cX6_gathers 210 = .ok (.invokevirtual 220, 3) := dk_182 0 220 (dk_at dksX6_gathers_9 0 rfl rfl)
theorem dX6_gathers_213 : decode cX6_gathers 213 = .ok (.bastore, 1) := dk_84 (dk_at dksX6_gathers_9 3 rfl rfl)
theorem dX6_gathers_214 : decode cX6_gathers 214 = .ok (.aload_n 0, 1) := dk_42 (dk_at dksX6_gathers_9 4 rfl rfl)
theorem dX6_gathers_215 : decode cX6_gathers 215 = .ok (.getfield 54, 3) := dk_180 0 54 (dk_at dksX6_gathers_9 5 rfl rfl)
theorem dX6_gathers_218 : decode cX6_gathers 218 = .ok (.iload_n 2, 1) := dk_28 (dk_at dksX6_gathers_9 8 rfl rfl)
theorem dX6_gathers_219 : decode cX6_gathers 219 = .ok (.iconst 0, 1) := dk_3 (dk_at dksX6_gathers_9 9 rfl rfl)
theorem dX6_gathers_220 : decode cX6_gathers 220 = .ok (.bastore, 1) := dk_84 (dk_at dksX6_gathers_9 10 rfl rfl)
theorem dX6_gathers_221 : decode cX6_gathers 221 = .ok (.iinc 2 1, 3) := dk_132 2 1 (dk_at dksX6_gathers_9 11 rfl rfl)
theorem dX6_gathers_224 : decode cX6_gathers 224 = .ok (.goto (-29), 3) := dk_167 255 227 (dk_at dksX6_gathers_9 14 rfl rfl)
theorem dX6_gathers_227 : decode cX6_gathers 227 = .ok (.return_, 1) := dk_177 (dk_at dksX6_gathers_9 17 rfl rfl)
abbrev cX6_opAt : ByteArray := prog_15_method_44_code
def yX6_opAt : MethodName := ⟨RX6, "opAt", "(II)I"⟩
def dkwX6_opAt_1 : List UInt8 := [112, 46, 96, 182, 0, 108, 172]
abbrev dktX6_opAt_1 : List UInt8 := dkwX6_opAt_1 ++ []
def dkwX6_opAt_0 : List UInt8 := [42, 27, 16, 126, 16, 12, 42, 180, 0, 22, 28, 16, 12, 108, 46, 104, 96, 42, 180, 0, 25, 28, 16, 12]
abbrev dktX6_opAt_0 : List UInt8 := dkwX6_opAt_0 ++ dktX6_opAt_1
theorem dksX6_opAt_0 : cX6_opAt.data.toList.drop 0 = dktX6_opAt_0 := by decide +kernel
theorem dksX6_opAt_1 : cX6_opAt.data.toList.drop 24 = dktX6_opAt_1 := dk_seg dksX6_opAt_0 24 rfl rfl
theorem dX6_opAt_0 : decode cX6_opAt 0 = .ok (.aload_n 0, 1) := dk_42 (dk_at dksX6_opAt_0 0 rfl rfl)
theorem dX6_opAt_1 : decode cX6_opAt 1 = .ok (.iload_n 1, 1) := dk_27 (dk_at dksX6_opAt_0 1 rfl rfl)
theorem dX6_opAt_2 : decode cX6_opAt 2 = .ok (.bipush 126, 2) := dk_16 126 (dk_at dksX6_opAt_0 2 rfl rfl)
theorem dX6_opAt_4 : decode cX6_opAt 4 = .ok (.bipush 12, 2) := dk_16 12 (dk_at dksX6_opAt_0 4 rfl rfl)
theorem dX6_opAt_6 : decode cX6_opAt 6 = .ok (.aload_n 0, 1) := dk_42 (dk_at dksX6_opAt_0 6 rfl rfl)
theorem dX6_opAt_7 : decode cX6_opAt 7 = .ok (.getfield 22, 3) := dk_180 0 22 (dk_at dksX6_opAt_0 7 rfl rfl)
theorem dX6_opAt_10 : decode cX6_opAt 10 = .ok (.iload_n 2, 1) := dk_28 (dk_at dksX6_opAt_0 10 rfl rfl)
theorem dX6_opAt_11 : decode cX6_opAt 11 = .ok (.bipush 12, 2) := dk_16 12 (dk_at dksX6_opAt_0 11 rfl rfl)
theorem dX6_opAt_13 : decode cX6_opAt 13 = .ok (.idiv, 1) := dk_108 (dk_at dksX6_opAt_0 13 rfl rfl)
theorem dX6_opAt_14 : decode cX6_opAt 14 = .ok (.iaload, 1) := dk_46 (dk_at dksX6_opAt_0 14 rfl rfl)
theorem dX6_opAt_15 : decode cX6_opAt 15 = .ok (.imul, 1) := dk_104 (dk_at dksX6_opAt_0 15 rfl rfl)
theorem dX6_opAt_16 : decode cX6_opAt 16 = .ok (.iadd, 1) := dk_96 (dk_at dksX6_opAt_0 16 rfl rfl)
theorem dX6_opAt_17 : decode cX6_opAt 17 = .ok (.aload_n 0, 1) := dk_42 (dk_at dksX6_opAt_0 17 rfl rfl)
theorem dX6_opAt_18 : decode cX6_opAt 18 = .ok (.getfield 25, 3) := dk_180 0 25 (dk_at dksX6_opAt_0 18 rfl rfl)
theorem dX6_opAt_21 : decode cX6_opAt 21 = .ok (.iload_n 2, 1) := dk_28 (dk_at dksX6_opAt_0 21 rfl rfl)
theorem dX6_opAt_22 : decode cX6_opAt 22 = .ok (.bipush 12, 2) := dk_16 12 (dk_at dksX6_opAt_0 22 rfl rfl)
theorem dX6_opAt_24 : decode cX6_opAt 24 = .ok (.irem, 1) := dk_112 (dk_at dksX6_opAt_1 0 rfl rfl)
theorem dX6_opAt_25 : decode cX6_opAt 25 = .ok (.iaload, 1) := dk_46 (dk_at dksX6_opAt_1 1 rfl rfl)
theorem dX6_opAt_26 : decode cX6_opAt 26 = .ok (.iadd, 1) := dk_96 (dk_at dksX6_opAt_1 2 rfl rfl)
theorem dX6_opAt_27 : decode cX6_opAt 27 = .ok (.invokevirtual 108, 3) := dk_182 0 108 (dk_at dksX6_opAt_1 3 rfl rfl)
theorem dX6_opAt_30 : decode cX6_opAt 30 = .ok (.ireturn, 1) := dk_172 (dk_at dksX6_opAt_1 6 rfl rfl)
abbrev cX6_refersTo : ByteArray := prog_15_method_47_code
def yX6_refersTo : MethodName := ⟨RX6, "refersTo", "(II)V"⟩
def dkwX6_refersTo_7 : List UInt8 := [182, 0, 202, 132, 3, 1, 167, 255, 114, 177]
abbrev dktX6_refersTo_7 : List UInt8 := dkwX6_refersTo_7 ++ []
def dkwX6_refersTo_6 : List UInt8 := [167, 0, 4, 2, 54, 7, 21, 6, 2, 159, 0, 18, 21, 7, 2, 159, 0, 12, 42, 27, 21, 6, 21, 7]
abbrev dktX6_refersTo_6 : List UInt8 := dkwX6_refersTo_6 ++ dktX6_refersTo_7
def dkwX6_refersTo_5 : List UInt8 := [54, 6, 21, 4, 16, 252, 160, 0, 21, 42, 42, 28, 16, 8, 29, 96, 5, 96, 182, 0, 105, 182, 0, 199]
abbrev dktX6_refersTo_5 : List UInt8 := dkwX6_refersTo_5 ++ dktX6_refersTo_6
def dkwX6_refersTo_4 : List UInt8 := [16, 252, 160, 0, 21, 42, 42, 28, 16, 8, 29, 96, 4, 96, 182, 0, 105, 182, 0, 199, 167, 0, 4, 2]
abbrev dktX6_refersTo_4 : List UInt8 := dkwX6_refersTo_4 ++ dktX6_refersTo_5
def dkwX6_refersTo_3 : List UInt8 := [54, 5, 21, 5, 2, 159, 0, 17, 42, 180, 0, 47, 17, 0, 144, 27, 104, 21, 5, 96, 4, 84, 21, 4]
abbrev dktX6_refersTo_3 : List UInt8 := dkwX6_refersTo_3 ++ dktX6_refersTo_4
def dkwX6_refersTo_2 : List UInt8 := [96, 182, 0, 105, 54, 4, 21, 4, 17, 39, 16, 161, 0, 12, 42, 21, 4, 182, 0, 199, 167, 0, 4, 2]
abbrev dktX6_refersTo_2 : List UInt8 := dkwX6_refersTo_2 ++ dktX6_refersTo_3
def dkwX6_refersTo_1 : List UInt8 := [132, 3, 1, 167, 255, 233, 3, 62, 29, 42, 28, 16, 7, 182, 0, 105, 162, 0, 137, 42, 28, 16, 8, 29]
abbrev dktX6_refersTo_1 : List UInt8 := dkwX6_refersTo_1 ++ dktX6_refersTo_2
def dkwX6_refersTo_0 : List UInt8 := [3, 62, 29, 17, 0, 144, 162, 0, 22, 42, 180, 0, 47, 17, 0, 144, 27, 104, 29, 96, 3, 84]
abbrev dktX6_refersTo_0 : List UInt8 := dkwX6_refersTo_0 ++ dktX6_refersTo_1
theorem dksX6_refersTo_0 : cX6_refersTo.data.toList.drop 0 = dktX6_refersTo_0 := by decide +kernel
theorem dksX6_refersTo_1 : cX6_refersTo.data.toList.drop 22 = dktX6_refersTo_1 := dk_seg dksX6_refersTo_0 22 rfl rfl
theorem dksX6_refersTo_2 : cX6_refersTo.data.toList.drop 46 = dktX6_refersTo_2 := dk_seg dksX6_refersTo_1 24 rfl rfl
theorem dksX6_refersTo_3 : cX6_refersTo.data.toList.drop 70 = dktX6_refersTo_3 := dk_seg dksX6_refersTo_2 24 rfl rfl
theorem dksX6_refersTo_4 : cX6_refersTo.data.toList.drop 94 = dktX6_refersTo_4 := dk_seg dksX6_refersTo_3 24 rfl rfl
theorem dksX6_refersTo_5 : cX6_refersTo.data.toList.drop 118 = dktX6_refersTo_5 := dk_seg dksX6_refersTo_4 24 rfl rfl
theorem dksX6_refersTo_6 : cX6_refersTo.data.toList.drop 142 = dktX6_refersTo_6 := dk_seg dksX6_refersTo_5 24 rfl rfl
theorem dksX6_refersTo_7 : cX6_refersTo.data.toList.drop 166 = dktX6_refersTo_7 := dk_seg dksX6_refersTo_6 24 rfl rfl
theorem dX6_refersTo_0 : decode cX6_refersTo 0 = .ok (.iconst 0, 1) := dk_3 (dk_at dksX6_refersTo_0 0 rfl rfl)
theorem dX6_refersTo_1 : decode cX6_refersTo 1 = .ok (.istore_n 3, 1) := dk_62 (dk_at dksX6_refersTo_0 1 rfl rfl)
theorem dX6_refersTo_2 : decode cX6_refersTo 2 = .ok (.iload_n 3, 1) := dk_29 (dk_at dksX6_refersTo_0 2 rfl rfl)
theorem dX6_refersTo_3 : decode cX6_refersTo 3 = .ok (.sipush 144, 3) := dk_17 0 144 (dk_at dksX6_refersTo_0 3 rfl rfl)
theorem dX6_refersTo_6 : decode cX6_refersTo 6 = .ok (.if_icmp .ge 22, 3) := dk_162 0 22 (dk_at dksX6_refersTo_0 6 rfl rfl)
theorem dX6_refersTo_9 : decode cX6_refersTo 9 = .ok (.aload_n 0, 1) := dk_42 (dk_at dksX6_refersTo_0 9 rfl rfl)
theorem dX6_refersTo_10 : decode cX6_refersTo 10 = .ok (.getfield 47, 3) := dk_180 0 47 (dk_at dksX6_refersTo_0 10 rfl rfl)
theorem dX6_refersTo_13 : decode cX6_refersTo 13 = .ok (.sipush 144, 3) := dk_17 0 144 (dk_at dksX6_refersTo_0 13 rfl rfl)
theorem dX6_refersTo_16 : decode cX6_refersTo 16 = .ok (.iload_n 1, 1) := dk_27 (dk_at dksX6_refersTo_0 16 rfl rfl)
theorem dX6_refersTo_17 : decode cX6_refersTo 17 = .ok (.imul, 1) := dk_104 (dk_at dksX6_refersTo_0 17 rfl rfl)
theorem dX6_refersTo_18 : decode cX6_refersTo 18 = .ok (.iload_n 3, 1) := dk_29 (dk_at dksX6_refersTo_0 18 rfl rfl)
theorem dX6_refersTo_19 : decode cX6_refersTo 19 = .ok (.iadd, 1) := dk_96 (dk_at dksX6_refersTo_0 19 rfl rfl)
theorem dX6_refersTo_20 : decode cX6_refersTo 20 = .ok (.iconst 0, 1) := dk_3 (dk_at dksX6_refersTo_0 20 rfl rfl)
theorem dX6_refersTo_21 : decode cX6_refersTo 21 = .ok (.bastore, 1) := dk_84 (dk_at dksX6_refersTo_0 21 rfl rfl)
theorem dX6_refersTo_22 : decode cX6_refersTo 22 = .ok (.iinc 3 1, 3) := dk_132 3 1 (dk_at dksX6_refersTo_1 0 rfl rfl)
theorem dX6_refersTo_25 : decode cX6_refersTo 25 = .ok (.goto (-23), 3) := dk_167 255 233 (dk_at dksX6_refersTo_1 3 rfl rfl)
theorem dX6_refersTo_28 : decode cX6_refersTo 28 = .ok (.iconst 0, 1) := dk_3 (dk_at dksX6_refersTo_1 6 rfl rfl)
theorem dX6_refersTo_29 : decode cX6_refersTo 29 = .ok (.istore_n 3, 1) := dk_62 (dk_at dksX6_refersTo_1 7 rfl rfl)
theorem dX6_refersTo_30 : decode cX6_refersTo 30 = .ok (.iload_n 3, 1) := dk_29 (dk_at dksX6_refersTo_1 8 rfl rfl)
theorem dX6_refersTo_31 : decode cX6_refersTo 31 = .ok (.aload_n 0, 1) := dk_42 (dk_at dksX6_refersTo_1 9 rfl rfl)
theorem dX6_refersTo_32 : decode cX6_refersTo 32 = .ok (.iload_n 2, 1) := dk_28 (dk_at dksX6_refersTo_1 10 rfl rfl)
theorem dX6_refersTo_33 : decode cX6_refersTo 33 = .ok (.bipush 7, 2) := dk_16 7 (dk_at dksX6_refersTo_1 11 rfl rfl)
theorem dX6_refersTo_35 : decode cX6_refersTo 35 = .ok (.invokevirtual 105, 3) := dk_182 0 105 (dk_at dksX6_refersTo_1 13 rfl rfl)
theorem dX6_refersTo_38 : decode cX6_refersTo 38 = .ok (.if_icmp .ge 137, 3) := dk_162 0 137 (dk_at dksX6_refersTo_1 16 rfl rfl)
theorem dX6_refersTo_41 : decode cX6_refersTo 41 = .ok (.aload_n 0, 1) := dk_42 (dk_at dksX6_refersTo_1 19 rfl rfl)
theorem dX6_refersTo_42 : decode cX6_refersTo 42 = .ok (.iload_n 2, 1) := dk_28 (dk_at dksX6_refersTo_1 20 rfl rfl)
theorem dX6_refersTo_43 : decode cX6_refersTo 43 = .ok (.bipush 8, 2) := dk_16 8 (dk_at dksX6_refersTo_1 21 rfl rfl)
theorem dX6_refersTo_45 : decode cX6_refersTo 45 = .ok (.iload_n 3, 1) := dk_29 (dk_at dksX6_refersTo_1 23 rfl rfl)
theorem dX6_refersTo_46 : decode cX6_refersTo 46 = .ok (.iadd, 1) := dk_96 (dk_at dksX6_refersTo_2 0 rfl rfl)
theorem dX6_refersTo_47 : decode cX6_refersTo 47 = .ok (.invokevirtual 105, 3) := dk_182 0 105 (dk_at dksX6_refersTo_2 1 rfl rfl)
theorem dX6_refersTo_50 : decode cX6_refersTo 50 = .ok (.istore 4, 2) := dk_54 4 (dk_at dksX6_refersTo_2 4 rfl rfl)
theorem dX6_refersTo_52 : decode cX6_refersTo 52 = .ok (.iload 4, 2) := dk_21 4 (dk_at dksX6_refersTo_2 6 rfl rfl)
theorem dX6_refersTo_54 : decode cX6_refersTo 54 = .ok (.sipush 10000, 3) := dk_17 39 16 (dk_at dksX6_refersTo_2 8 rfl rfl)
theorem dX6_refersTo_57 : decode cX6_refersTo 57 = .ok (.if_icmp .lt 12, 3) := dk_161 0 12 (dk_at dksX6_refersTo_2 11 rfl rfl)
theorem dX6_refersTo_60 : decode cX6_refersTo 60 = .ok (.aload_n 0, 1) := dk_42 (dk_at dksX6_refersTo_2 14 rfl rfl)
theorem dX6_refersTo_61 : decode cX6_refersTo 61 = .ok (.iload 4, 2) := dk_21 4 (dk_at dksX6_refersTo_2 15 rfl rfl)
theorem dX6_refersTo_63 : decode cX6_refersTo 63 = .ok (.invokevirtual 199, 3) := dk_182 0 199 (dk_at dksX6_refersTo_2 17 rfl rfl)
theorem dX6_refersTo_66 : decode cX6_refersTo 66 = .ok (.goto 4, 3) := dk_167 0 4 (dk_at dksX6_refersTo_2 20 rfl rfl)
theorem dX6_refersTo_69 : decode cX6_refersTo 69 = .ok (.iconst (-1), 1) := dk_2 (dk_at dksX6_refersTo_2 23 rfl rfl)
theorem dX6_refersTo_70 : decode cX6_refersTo 70 = .ok (.istore 5, 2) := dk_54 5 (dk_at dksX6_refersTo_3 0 rfl rfl)
theorem dX6_refersTo_72 : decode cX6_refersTo 72 = .ok (.iload 5, 2) := dk_21 5 (dk_at dksX6_refersTo_3 2 rfl rfl)
theorem dX6_refersTo_74 : decode cX6_refersTo 74 = .ok (.iconst (-1), 1) := dk_2 (dk_at dksX6_refersTo_3 4 rfl rfl)
theorem dX6_refersTo_75 : decode cX6_refersTo 75 = .ok (.if_icmp .eq 17, 3) := dk_159 0 17 (dk_at dksX6_refersTo_3 5 rfl rfl)
theorem dX6_refersTo_78 : decode cX6_refersTo 78 = .ok (.aload_n 0, 1) := dk_42 (dk_at dksX6_refersTo_3 8 rfl rfl)
theorem dX6_refersTo_79 : decode cX6_refersTo 79 = .ok (.getfield 47, 3) := dk_180 0 47 (dk_at dksX6_refersTo_3 9 rfl rfl)
theorem dX6_refersTo_82 : decode cX6_refersTo 82 = .ok (.sipush 144, 3) := dk_17 0 144 (dk_at dksX6_refersTo_3 12 rfl rfl)
theorem dX6_refersTo_85 : decode cX6_refersTo 85 = .ok (.iload_n 1, 1) := dk_27 (dk_at dksX6_refersTo_3 15 rfl rfl)
theorem dX6_refersTo_86 : decode cX6_refersTo 86 = .ok (.imul, 1) := dk_104 (dk_at dksX6_refersTo_3 16 rfl rfl)
theorem dX6_refersTo_87 : decode cX6_refersTo 87 = .ok (.iload 5, 2) := dk_21 5 (dk_at dksX6_refersTo_3 17 rfl rfl)
theorem dX6_refersTo_89 : decode cX6_refersTo 89 = .ok (.iadd, 1) := dk_96 (dk_at dksX6_refersTo_3 19 rfl rfl)
theorem dX6_refersTo_90 : decode cX6_refersTo 90 = .ok (.iconst 1, 1) := dk_4 (dk_at dksX6_refersTo_3 20 rfl rfl)
theorem dX6_refersTo_91 : decode cX6_refersTo 91 = .ok (.bastore, 1) := dk_84 (dk_at dksX6_refersTo_3 21 rfl rfl)
theorem dX6_refersTo_92 : decode cX6_refersTo 92 = .ok (.iload 4, 2) := dk_21 4 (dk_at dksX6_refersTo_3 22 rfl rfl)
theorem dX6_refersTo_94 : decode cX6_refersTo 94 = .ok (.bipush (-4), 2) := dk_16 252 (dk_at dksX6_refersTo_4 0 rfl rfl)
theorem dX6_refersTo_96 : decode cX6_refersTo 96 = .ok (.if_icmp .ne 21, 3) := dk_160 0 21 (dk_at dksX6_refersTo_4 2 rfl rfl)
theorem dX6_refersTo_99 : decode cX6_refersTo 99 = .ok (.aload_n 0, 1) := dk_42 (dk_at dksX6_refersTo_4 5 rfl rfl)
theorem dX6_refersTo_100 : decode cX6_refersTo 100 = .ok (.aload_n 0, 1) := dk_42 (dk_at dksX6_refersTo_4 6 rfl rfl)
theorem dX6_refersTo_101 : decode cX6_refersTo 101 = .ok (.iload_n 2, 1) := dk_28 (dk_at dksX6_refersTo_4 7 rfl rfl)
theorem dX6_refersTo_102 : decode cX6_refersTo 102 = .ok (.bipush 8, 2) := dk_16 8 (dk_at dksX6_refersTo_4 8 rfl rfl)
theorem dX6_refersTo_104 : decode cX6_refersTo 104 = .ok (.iload_n 3, 1) := dk_29 (dk_at dksX6_refersTo_4 10 rfl rfl)
theorem dX6_refersTo_105 : decode cX6_refersTo 105 = .ok (.iadd, 1) := dk_96 (dk_at dksX6_refersTo_4 11 rfl rfl)
theorem dX6_refersTo_106 : decode cX6_refersTo 106 = .ok (.iconst 1, 1) := dk_4 (dk_at dksX6_refersTo_4 12 rfl rfl)
theorem dX6_refersTo_107 : decode cX6_refersTo 107 = .ok (.iadd, 1) := dk_96 (dk_at dksX6_refersTo_4 13 rfl rfl)
theorem dX6_refersTo_108 : decode cX6_refersTo 108 = .ok (.invokevirtual 105, 3) := dk_182 0 105 (dk_at dksX6_refersTo_4 14 rfl rfl)
theorem dX6_refersTo_111 : decode cX6_refersTo 111 = .ok (.invokevirtual 199, 3) := dk_182 0 199 (dk_at dksX6_refersTo_4 17 rfl rfl)
theorem dX6_refersTo_114 : decode cX6_refersTo 114 = .ok (.goto 4, 3) := dk_167 0 4 (dk_at dksX6_refersTo_4 20 rfl rfl)
theorem dX6_refersTo_117 : decode cX6_refersTo 117 = .ok (.iconst (-1), 1) := dk_2 (dk_at dksX6_refersTo_4 23 rfl rfl)
theorem dX6_refersTo_118 : decode cX6_refersTo 118 = .ok (.istore 6, 2) := dk_54 6 (dk_at dksX6_refersTo_5 0 rfl rfl)
theorem dX6_refersTo_120 : decode cX6_refersTo 120 = .ok (.iload 4, 2) := dk_21 4 (dk_at dksX6_refersTo_5 2 rfl rfl)
theorem dX6_refersTo_122 : decode cX6_refersTo 122 = .ok (.bipush (-4), 2) := dk_16 252 (dk_at dksX6_refersTo_5 4 rfl rfl)
theorem dX6_refersTo_124 : decode cX6_refersTo 124 = .ok (.if_icmp .ne 21, 3) := dk_160 0 21 (dk_at dksX6_refersTo_5 6 rfl rfl)
theorem dX6_refersTo_127 : decode cX6_refersTo 127 = .ok (.aload_n 0, 1) := dk_42 (dk_at dksX6_refersTo_5 9 rfl rfl)
theorem dX6_refersTo_128 : decode cX6_refersTo 128 = .ok (.aload_n 0, 1) := dk_42 (dk_at dksX6_refersTo_5 10 rfl rfl)
theorem dX6_refersTo_129 : decode cX6_refersTo 129 = .ok (.iload_n 2, 1) := dk_28 (dk_at dksX6_refersTo_5 11 rfl rfl)
theorem dX6_refersTo_130 : decode cX6_refersTo 130 = .ok (.bipush 8, 2) := dk_16 8 (dk_at dksX6_refersTo_5 12 rfl rfl)
theorem dX6_refersTo_132 : decode cX6_refersTo 132 = .ok (.iload_n 3, 1) := dk_29 (dk_at dksX6_refersTo_5 14 rfl rfl)
theorem dX6_refersTo_133 : decode cX6_refersTo 133 = .ok (.iadd, 1) := dk_96 (dk_at dksX6_refersTo_5 15 rfl rfl)
theorem dX6_refersTo_134 : decode cX6_refersTo 134 = .ok (.iconst 2, 1) := dk_5 (dk_at dksX6_refersTo_5 16 rfl rfl)
theorem dX6_refersTo_135 : decode cX6_refersTo 135 = .ok (.iadd, 1) := dk_96 (dk_at dksX6_refersTo_5 17 rfl rfl)
theorem dX6_refersTo_136 : decode cX6_refersTo 136 = .ok (.invokevirtual 105, 3) := dk_182 0 105 (dk_at dksX6_refersTo_5 18 rfl rfl)
theorem dX6_refersTo_139 : decode cX6_refersTo 139 = .ok (.invokevirtual 199, 3) := dk_182 0 199 (dk_at dksX6_refersTo_5 21 rfl rfl)
theorem dX6_refersTo_142 : decode cX6_refersTo 142 = .ok (.goto 4, 3) := dk_167 0 4 (dk_at dksX6_refersTo_6 0 rfl rfl)
theorem dX6_refersTo_145 : decode cX6_refersTo 145 = .ok (.iconst (-1), 1) := dk_2 (dk_at dksX6_refersTo_6 3 rfl rfl)
theorem dX6_refersTo_146 : decode cX6_refersTo 146 = .ok (.istore 7, 2) := dk_54 7 (dk_at dksX6_refersTo_6 4 rfl rfl)
theorem dX6_refersTo_148 : decode cX6_refersTo 148 = .ok (.iload 6, 2) := dk_21 6 (dk_at dksX6_refersTo_6 6 rfl rfl)
theorem dX6_refersTo_150 : decode cX6_refersTo 150 = .ok (.iconst (-1), 1) := dk_2 (dk_at dksX6_refersTo_6 8 rfl rfl)
theorem dX6_refersTo_151 : decode cX6_refersTo 151 = .ok (.if_icmp .eq 18, 3) := dk_159 0 18 (dk_at dksX6_refersTo_6 9 rfl rfl)
theorem dX6_refersTo_154 : decode cX6_refersTo 154 = .ok (.iload 7, 2) := dk_21 7 (dk_at dksX6_refersTo_6 12 rfl rfl)
theorem dX6_refersTo_156 : decode cX6_refersTo 156 = .ok (.iconst (-1), 1) := dk_2 (dk_at dksX6_refersTo_6 14 rfl rfl)
theorem dX6_refersTo_157 : decode cX6_refersTo 157 = .ok (.if_icmp .eq 12, 3) := dk_159 0 12 (dk_at dksX6_refersTo_6 15 rfl rfl)
theorem dX6_refersTo_160 : decode cX6_refersTo 160 = .ok (.aload_n 0, 1) := dk_42 (dk_at dksX6_refersTo_6 18 rfl rfl)
theorem dX6_refersTo_161 : decode cX6_refersTo 161 = .ok (.iload_n 1, 1) := dk_27 (dk_at dksX6_refersTo_6 19 rfl rfl)
theorem dX6_refersTo_162 : decode cX6_refersTo 162 = .ok (.iload 6, 2) := dk_21 6 (dk_at dksX6_refersTo_6 20 rfl rfl)
theorem dX6_refersTo_164 : decode cX6_refersTo 164 = .ok (.iload 7, 2) := dk_21 7 (dk_at dksX6_refersTo_6 22 rfl rfl)
theorem dX6_refersTo_166 : decode cX6_refersTo 166 = .ok (.invokevirtual 202, 3) := dk_182 0 202 (dk_at dksX6_refersTo_7 0 rfl rfl)
theorem dX6_refersTo_169 : decode cX6_refersTo 169 = .ok (.iinc 3 1, 3) := dk_132 3 1 (dk_at dksX6_refersTo_7 3 rfl rfl)
theorem dX6_refersTo_172 : decode cX6_refersTo 172 = .ok (.goto (-142), 3) := dk_167 255 114 (dk_at dksX6_refersTo_7 6 rfl rfl)
theorem dX6_refersTo_175 : decode cX6_refersTo 175 = .ok (.return_, 1) := dk_177 (dk_at dksX6_refersTo_7 9 rfl rfl)
abbrev cX6_seen : ByteArray := prog_15_method_43_code
def yX6_seen : MethodName := ⟨RX6, "seen", "(I)I"⟩
def dkwX6_seen_2 : List UInt8 := [160, 0, 7, 2, 167, 0, 9, 16, 12, 28, 104, 29, 96, 172]
abbrev dktX6_seen_2 : List UInt8 := dkwX6_seen_2 ++ []
def dkwX6_seen_1 : List UInt8 := [42, 180, 0, 102, 27, 17, 39, 16, 100, 16, 12, 112, 184, 0, 195, 62, 28, 2, 159, 0, 8, 29, 2]
abbrev dktX6_seen_1 : List UInt8 := dkwX6_seen_1 ++ dktX6_seen_2
def dkwX6_seen_0 : List UInt8 := [42, 180, 0, 22, 42, 180, 0, 99, 27, 17, 39, 16, 100, 16, 12, 108, 184, 0, 195, 61, 42, 180, 0, 25]
abbrev dktX6_seen_0 : List UInt8 := dkwX6_seen_0 ++ dktX6_seen_1
theorem dksX6_seen_0 : cX6_seen.data.toList.drop 0 = dktX6_seen_0 := by decide +kernel
theorem dksX6_seen_1 : cX6_seen.data.toList.drop 24 = dktX6_seen_1 := dk_seg dksX6_seen_0 24 rfl rfl
theorem dksX6_seen_2 : cX6_seen.data.toList.drop 47 = dktX6_seen_2 := dk_seg dksX6_seen_1 23 rfl rfl
theorem dX6_seen_0 : decode cX6_seen 0 = .ok (.aload_n 0, 1) := dk_42 (dk_at dksX6_seen_0 0 rfl rfl)
theorem dX6_seen_1 : decode cX6_seen 1 = .ok (.getfield 22, 3) := dk_180 0 22 (dk_at dksX6_seen_0 1 rfl rfl)
theorem dX6_seen_4 : decode cX6_seen 4 = .ok (.aload_n 0, 1) := dk_42 (dk_at dksX6_seen_0 4 rfl rfl)
theorem dX6_seen_5 : decode cX6_seen 5 = .ok (.getfield 99, 3) := dk_180 0 99 (dk_at dksX6_seen_0 5 rfl rfl)
theorem dX6_seen_8 : decode cX6_seen 8 = .ok (.iload_n 1, 1) := dk_27 (dk_at dksX6_seen_0 8 rfl rfl)
theorem dX6_seen_9 : decode cX6_seen 9 = .ok (.sipush 10000, 3) := dk_17 39 16 (dk_at dksX6_seen_0 9 rfl rfl)
theorem dX6_seen_12 : decode cX6_seen 12 = .ok (.isub, 1) := dk_100 (dk_at dksX6_seen_0 12 rfl rfl)
theorem dX6_seen_13 : decode cX6_seen 13 = .ok (.bipush 12, 2) := dk_16 12 (dk_at dksX6_seen_0 13 rfl rfl)
theorem dX6_seen_15 : decode cX6_seen 15 = .ok (.idiv, 1) := dk_108 (dk_at dksX6_seen_0 15 rfl rfl)
theorem dX6_seen_16 : decode cX6_seen 16 = .ok (.invokestatic 195, 3) := dk_184 0 195 (dk_at dksX6_seen_0 16 rfl rfl)
theorem dX6_seen_19 : decode cX6_seen 19 = .ok (.istore_n 2, 1) := dk_61 (dk_at dksX6_seen_0 19 rfl rfl)
theorem dX6_seen_20 : decode cX6_seen 20 = .ok (.aload_n 0, 1) := dk_42 (dk_at dksX6_seen_0 20 rfl rfl)
theorem dX6_seen_21 : decode cX6_seen 21 = .ok (.getfield 25, 3) := dk_180 0 25 (dk_at dksX6_seen_0 21 rfl rfl)
theorem dX6_seen_24 : decode cX6_seen 24 = .ok (.aload_n 0, 1) := dk_42 (dk_at dksX6_seen_1 0 rfl rfl)
theorem dX6_seen_25 : decode cX6_seen 25 = .ok (.getfield 102, 3) := dk_180 0 102 (dk_at dksX6_seen_1 1 rfl rfl)
theorem dX6_seen_28 : decode cX6_seen 28 = .ok (.iload_n 1, 1) := dk_27 (dk_at dksX6_seen_1 4 rfl rfl)
theorem dX6_seen_29 : decode cX6_seen 29 = .ok (.sipush 10000, 3) := dk_17 39 16 (dk_at dksX6_seen_1 5 rfl rfl)
theorem dX6_seen_32 : decode cX6_seen 32 = .ok (.isub, 1) := dk_100 (dk_at dksX6_seen_1 8 rfl rfl)
theorem dX6_seen_33 : decode cX6_seen 33 = .ok (.bipush 12, 2) := dk_16 12 (dk_at dksX6_seen_1 9 rfl rfl)
theorem dX6_seen_35 : decode cX6_seen 35 = .ok (.irem, 1) := dk_112 (dk_at dksX6_seen_1 11 rfl rfl)
theorem dX6_seen_36 : decode cX6_seen 36 = .ok (.invokestatic 195, 3) := dk_184 0 195 (dk_at dksX6_seen_1 12 rfl rfl)
theorem dX6_seen_39 : decode cX6_seen 39 = .ok (.istore_n 3, 1) := dk_62 (dk_at dksX6_seen_1 15 rfl rfl)
theorem dX6_seen_40 : decode cX6_seen 40 = .ok (.iload_n 2, 1) := dk_28 (dk_at dksX6_seen_1 16 rfl rfl)
theorem dX6_seen_41 : decode cX6_seen 41 = .ok (.iconst (-1), 1) := dk_2 (dk_at dksX6_seen_1 17 rfl rfl)
theorem dX6_seen_42 : decode cX6_seen 42 = .ok (.if_icmp .eq 8, 3) := dk_159 0 8 (dk_at dksX6_seen_1 18 rfl rfl)
theorem dX6_seen_45 : decode cX6_seen 45 = .ok (.iload_n 3, 1) := dk_29 (dk_at dksX6_seen_1 21 rfl rfl)
theorem dX6_seen_46 : decode cX6_seen 46 = .ok (.iconst (-1), 1) := dk_2 (dk_at dksX6_seen_1 22 rfl rfl)
theorem dX6_seen_47 : decode cX6_seen 47 = .ok (.if_icmp .ne 7, 3) := dk_160 0 7 (dk_at dksX6_seen_2 0 rfl rfl)
theorem dX6_seen_50 : decode cX6_seen 50 = .ok (.iconst (-1), 1) := dk_2 (dk_at dksX6_seen_2 3 rfl rfl)
theorem dX6_seen_51 : decode cX6_seen 51 = .ok (.goto 9, 3) := dk_167 0 9 (dk_at dksX6_seen_2 4 rfl rfl)
theorem dX6_seen_54 : decode cX6_seen 54 = .ok (.bipush 12, 2) := dk_16 12 (dk_at dksX6_seen_2 7 rfl rfl)
theorem dX6_seen_56 : decode cX6_seen 56 = .ok (.iload_n 2, 1) := dk_28 (dk_at dksX6_seen_2 9 rfl rfl)
theorem dX6_seen_57 : decode cX6_seen 57 = .ok (.imul, 1) := dk_104 (dk_at dksX6_seen_2 10 rfl rfl)
theorem dX6_seen_58 : decode cX6_seen 58 = .ok (.iload_n 3, 1) := dk_29 (dk_at dksX6_seen_2 11 rfl rfl)
theorem dX6_seen_59 : decode cX6_seen 59 = .ok (.iadd, 1) := dk_96 (dk_at dksX6_seen_2 12 rfl rfl)
theorem dX6_seen_60 : decode cX6_seen 60 = .ok (.ireturn, 1) := dk_172 (dk_at dksX6_seen_2 13 rfl rfl)
abbrev cX6_find : ByteArray := prog_15_method_42_code
def yX6_find : MethodName := ⟨RX6, "find", "([III)I"⟩
def dkwX6_find_0 : List UInt8 := [3, 62, 29, 27, 162, 0, 18, 42, 29, 46, 28, 160, 0, 5, 29, 172, 132, 3, 1, 167, 255, 239, 2, 172]
abbrev dktX6_find_0 : List UInt8 := dkwX6_find_0 ++ []
theorem dksX6_find_0 : cX6_find.data.toList.drop 0 = dktX6_find_0 := by decide +kernel
theorem dX6_find_0 : decode cX6_find 0 = .ok (.iconst 0, 1) := dk_3 (dk_at dksX6_find_0 0 rfl rfl)
theorem dX6_find_1 : decode cX6_find 1 = .ok (.istore_n 3, 1) := dk_62 (dk_at dksX6_find_0 1 rfl rfl)
theorem dX6_find_2 : decode cX6_find 2 = .ok (.iload_n 3, 1) := dk_29 (dk_at dksX6_find_0 2 rfl rfl)
theorem dX6_find_3 : decode cX6_find 3 = .ok (.iload_n 1, 1) := dk_27 (dk_at dksX6_find_0 3 rfl rfl)
theorem dX6_find_4 : decode cX6_find 4 = .ok (.if_icmp .ge 18, 3) := dk_162 0 18 (dk_at dksX6_find_0 4 rfl rfl)
theorem dX6_find_7 : decode cX6_find 7 = .ok (.aload_n 0, 1) := dk_42 (dk_at dksX6_find_0 7 rfl rfl)
theorem dX6_find_8 : decode cX6_find 8 = .ok (.iload_n 3, 1) := dk_29 (dk_at dksX6_find_0 8 rfl rfl)
theorem dX6_find_9 : decode cX6_find 9 = .ok (.iaload, 1) := dk_46 (dk_at dksX6_find_0 9 rfl rfl)
theorem dX6_find_10 : decode cX6_find 10 = .ok (.iload_n 2, 1) := dk_28 (dk_at dksX6_find_0 10 rfl rfl)
theorem dX6_find_11 : decode cX6_find 11 = .ok (.if_icmp .ne 5, 3) := dk_160 0 5 (dk_at dksX6_find_0 11 rfl rfl)
theorem dX6_find_14 : decode cX6_find 14 = .ok (.iload_n 3, 1) := dk_29 (dk_at dksX6_find_0 14 rfl rfl)
theorem dX6_find_15 : decode cX6_find 15 = .ok (.ireturn, 1) := dk_172 (dk_at dksX6_find_0 15 rfl rfl)
theorem dX6_find_16 : decode cX6_find 16 = .ok (.iinc 3 1, 3) := dk_132 3 1 (dk_at dksX6_find_0 16 rfl rfl)
theorem dX6_find_19 : decode cX6_find 19 = .ok (.goto (-17), 3) := dk_167 255 239 (dk_at dksX6_find_0 19 rfl rfl)
theorem dX6_find_22 : decode cX6_find 22 = .ok (.iconst (-1), 1) := dk_2 (dk_at dksX6_find_0 22 rfl rfl)
theorem dX6_find_23 : decode cX6_find 23 = .ok (.ireturn, 1) := dk_172 (dk_at dksX6_find_0 23 rfl rfl)
abbrev cX6_spans : ByteArray := prog_15_method_48_code
def yX6_spans : MethodName := ⟨RX6, "spans", "(III)V"⟩
def dkwX6_spans_3 : List UInt8 := [104, 96, 21, 5, 96, 4, 84, 132, 5, 1, 167, 255, 217, 132, 4, 1, 167, 255, 182, 177]
abbrev dktX6_spans_3 : List UInt8 := dkwX6_spans_3 ++ []
def dkwX6_spans_2 : List UInt8 := [112, 29, 16, 12, 112, 184, 0, 208, 163, 0, 29, 42, 180, 0, 47, 17, 0, 144, 27, 104, 16, 12, 21, 4]
abbrev dktX6_spans_2 : List UInt8 := dkwX6_spans_2 ++ dktX6_spans_3
def dkwX6_spans_1 : List UInt8 := [184, 0, 208, 163, 0, 64, 28, 16, 12, 112, 29, 16, 12, 112, 184, 0, 205, 54, 5, 21, 5, 28, 16, 12]
abbrev dktX6_spans_1 : List UInt8 := dkwX6_spans_1 ++ dktX6_spans_2
def dkwX6_spans_0 : List UInt8 := [28, 16, 12, 108, 29, 16, 12, 108, 184, 0, 205, 54, 4, 21, 4, 28, 16, 12, 108, 29, 16, 12, 108]
abbrev dktX6_spans_0 : List UInt8 := dkwX6_spans_0 ++ dktX6_spans_1
theorem dksX6_spans_0 : cX6_spans.data.toList.drop 0 = dktX6_spans_0 := by decide +kernel
theorem dksX6_spans_1 : cX6_spans.data.toList.drop 23 = dktX6_spans_1 := dk_seg dksX6_spans_0 23 rfl rfl
theorem dksX6_spans_2 : cX6_spans.data.toList.drop 47 = dktX6_spans_2 := dk_seg dksX6_spans_1 24 rfl rfl
theorem dksX6_spans_3 : cX6_spans.data.toList.drop 71 = dktX6_spans_3 := dk_seg dksX6_spans_2 24 rfl rfl
theorem dX6_spans_0 : decode cX6_spans 0 = .ok (.iload_n 2, 1) := dk_28 (dk_at dksX6_spans_0 0 rfl rfl)
theorem dX6_spans_1 : decode cX6_spans 1 = .ok (.bipush 12, 2) := dk_16 12 (dk_at dksX6_spans_0 1 rfl rfl)
theorem dX6_spans_3 : decode cX6_spans 3 = .ok (.idiv, 1) := dk_108 (dk_at dksX6_spans_0 3 rfl rfl)
theorem dX6_spans_4 : decode cX6_spans 4 = .ok (.iload_n 3, 1) := dk_29 (dk_at dksX6_spans_0 4 rfl rfl)
theorem dX6_spans_5 : decode cX6_spans 5 = .ok (.bipush 12, 2) := dk_16 12 (dk_at dksX6_spans_0 5 rfl rfl)
theorem dX6_spans_7 : decode cX6_spans 7 = .ok (.idiv, 1) := dk_108 (dk_at dksX6_spans_0 7 rfl rfl)
theorem dX6_spans_8 : decode cX6_spans 8 = .ok (.invokestatic 205, 3) := dk_184 0 205 (dk_at dksX6_spans_0 8 rfl rfl)
theorem dX6_spans_11 : decode cX6_spans 11 = .ok (.istore 4, 2) := dk_54 4 (dk_at dksX6_spans_0 11 rfl rfl)
theorem dX6_spans_13 : decode cX6_spans 13 = .ok (.iload 4, 2) := dk_21 4 (dk_at dksX6_spans_0 13 rfl rfl)
theorem dX6_spans_15 : decode cX6_spans 15 = .ok (.iload_n 2, 1) := dk_28 (dk_at dksX6_spans_0 15 rfl rfl)
theorem dX6_spans_16 : decode cX6_spans 16 = .ok (.bipush 12, 2) := dk_16 12 (dk_at dksX6_spans_0 16 rfl rfl)
theorem dX6_spans_18 : decode cX6_spans 18 = .ok (.idiv, 1) := dk_108 (dk_at dksX6_spans_0 18 rfl rfl)
theorem dX6_spans_19 : decode cX6_spans 19 = .ok (.iload_n 3, 1) := dk_29 (dk_at dksX6_spans_0 19 rfl rfl)
theorem dX6_spans_20 : decode cX6_spans 20 = .ok (.bipush 12, 2) := dk_16 12 (dk_at dksX6_spans_0 20 rfl rfl)
theorem dX6_spans_22 : decode cX6_spans 22 = .ok (.idiv, 1) := dk_108 (dk_at dksX6_spans_0 22 rfl rfl)
theorem dX6_spans_23 : decode cX6_spans 23 = .ok (.invokestatic 208, 3) := dk_184 0 208 (dk_at dksX6_spans_1 0 rfl rfl)
theorem dX6_spans_26 : decode cX6_spans 26 = .ok (.if_icmp .gt 64, 3) := dk_163 0 64 (dk_at dksX6_spans_1 3 rfl rfl)
theorem dX6_spans_29 : decode cX6_spans 29 = .ok (.iload_n 2, 1) := dk_28 (dk_at dksX6_spans_1 6 rfl rfl)
theorem dX6_spans_30 : decode cX6_spans 30 = .ok (.bipush 12, 2) := dk_16 12 (dk_at dksX6_spans_1 7 rfl rfl)
theorem dX6_spans_32 : decode cX6_spans 32 = .ok (.irem, 1) := dk_112 (dk_at dksX6_spans_1 9 rfl rfl)
theorem dX6_spans_33 : decode cX6_spans 33 = .ok (.iload_n 3, 1) := dk_29 (dk_at dksX6_spans_1 10 rfl rfl)
theorem dX6_spans_34 : decode cX6_spans 34 = .ok (.bipush 12, 2) := dk_16 12 (dk_at dksX6_spans_1 11 rfl rfl)
theorem dX6_spans_36 : decode cX6_spans 36 = .ok (.irem, 1) := dk_112 (dk_at dksX6_spans_1 13 rfl rfl)
theorem dX6_spans_37 : decode cX6_spans 37 = .ok (.invokestatic 205, 3) := dk_184 0 205 (dk_at dksX6_spans_1 14 rfl rfl)
theorem dX6_spans_40 : decode cX6_spans 40 = .ok (.istore 5, 2) := dk_54 5 (dk_at dksX6_spans_1 17 rfl rfl)
theorem dX6_spans_42 : decode cX6_spans 42 = .ok (.iload 5, 2) := dk_21 5 (dk_at dksX6_spans_1 19 rfl rfl)
theorem dX6_spans_44 : decode cX6_spans 44 = .ok (.iload_n 2, 1) := dk_28 (dk_at dksX6_spans_1 21 rfl rfl)
theorem dX6_spans_45 : decode cX6_spans 45 = .ok (.bipush 12, 2) := dk_16 12 (dk_at dksX6_spans_1 22 rfl rfl)
theorem dX6_spans_47 : decode cX6_spans 47 = .ok (.irem, 1) := dk_112 (dk_at dksX6_spans_2 0 rfl rfl)
theorem dX6_spans_48 : decode cX6_spans 48 = .ok (.iload_n 3, 1) := dk_29 (dk_at dksX6_spans_2 1 rfl rfl)
theorem dX6_spans_49 : decode cX6_spans 49 = .ok (.bipush 12, 2) := dk_16 12 (dk_at dksX6_spans_2 2 rfl rfl)
theorem dX6_spans_51 : decode cX6_spans 51 = .ok (.irem, 1) := dk_112 (dk_at dksX6_spans_2 4 rfl rfl)
theorem dX6_spans_52 : decode cX6_spans 52 = .ok (.invokestatic 208, 3) := dk_184 0 208 (dk_at dksX6_spans_2 5 rfl rfl)
theorem dX6_spans_55 : decode cX6_spans 55 = .ok (.if_icmp .gt 29, 3) := dk_163 0 29 (dk_at dksX6_spans_2 8 rfl rfl)
theorem dX6_spans_58 : decode cX6_spans 58 = .ok (.aload_n 0, 1) := dk_42 (dk_at dksX6_spans_2 11 rfl rfl)
theorem dX6_spans_59 : decode cX6_spans 59 = .ok (.getfield 47, 3) := dk_180 0 47 (dk_at dksX6_spans_2 12 rfl rfl)
theorem dX6_spans_62 : decode cX6_spans 62 = .ok (.sipush 144, 3) := dk_17 0 144 (dk_at dksX6_spans_2 15 rfl rfl)
theorem dX6_spans_65 : decode cX6_spans 65 = .ok (.iload_n 1, 1) := dk_27 (dk_at dksX6_spans_2 18 rfl rfl)
theorem dX6_spans_66 : decode cX6_spans 66 = .ok (.imul, 1) := dk_104 (dk_at dksX6_spans_2 19 rfl rfl)
theorem dX6_spans_67 : decode cX6_spans 67 = .ok (.bipush 12, 2) := dk_16 12 (dk_at dksX6_spans_2 20 rfl rfl)
theorem dX6_spans_69 : decode cX6_spans 69 = .ok (.iload 4, 2) := dk_21 4 (dk_at dksX6_spans_2 22 rfl rfl)
theorem dX6_spans_71 : decode cX6_spans 71 = .ok (.imul, 1) := dk_104 (dk_at dksX6_spans_3 0 rfl rfl)
theorem dX6_spans_72 : decode cX6_spans 72 = .ok (.iadd, 1) := dk_96 (dk_at dksX6_spans_3 1 rfl rfl)
theorem dX6_spans_73 : decode cX6_spans 73 = .ok (.iload 5, 2) := dk_21 5 (dk_at dksX6_spans_3 2 rfl rfl)
theorem dX6_spans_75 : decode cX6_spans 75 = .ok (.iadd, 1) := dk_96 (dk_at dksX6_spans_3 4 rfl rfl)
theorem dX6_spans_76 : decode cX6_spans 76 = .ok (.iconst 1, 1) := dk_4 (dk_at dksX6_spans_3 5 rfl rfl)
theorem dX6_spans_77 : decode cX6_spans 77 = .ok (.bastore, 1) := dk_84 (dk_at dksX6_spans_3 6 rfl rfl)
theorem dX6_spans_78 : decode cX6_spans 78 = .ok (.iinc 5 1, 3) := dk_132 5 1 (dk_at dksX6_spans_3 7 rfl rfl)
theorem dX6_spans_81 : decode cX6_spans 81 = .ok (.goto (-39), 3) := dk_167 255 217 (dk_at dksX6_spans_3 10 rfl rfl)
theorem dX6_spans_84 : decode cX6_spans 84 = .ok (.iinc 4 1, 3) := dk_132 4 1 (dk_at dksX6_spans_3 13 rfl rfl)
theorem dX6_spans_87 : decode cX6_spans 87 = .ok (.goto (-74), 3) := dk_167 255 182 (dk_at dksX6_spans_3 16 rfl rfl)
theorem dX6_spans_90 : decode cX6_spans 90 = .ok (.return_, 1) := dk_177 (dk_at dksX6_spans_3 19 rfl rfl)
abbrev cX6_least : ByteArray := prog_15_method_45_code
def yX6_least : MethodName := ⟨RX6, "least", "(II)I"⟩
def dkwX6_least_0 : List UInt8 := [26, 27, 162, 0, 7, 26, 167, 0, 4, 27, 172]
abbrev dktX6_least_0 : List UInt8 := dkwX6_least_0 ++ []
theorem dksX6_least_0 : cX6_least.data.toList.drop 0 = dktX6_least_0 := by decide +kernel
theorem dX6_least_0 : decode cX6_least 0 = .ok (.iload_n 0, 1) := dk_26 (dk_at dksX6_least_0 0 rfl rfl)
theorem dX6_least_1 : decode cX6_least 1 = .ok (.iload_n 1, 1) := dk_27 (dk_at dksX6_least_0 1 rfl rfl)
theorem dX6_least_2 : decode cX6_least 2 = .ok (.if_icmp .ge 7, 3) := dk_162 0 7 (dk_at dksX6_least_0 2 rfl rfl)
theorem dX6_least_5 : decode cX6_least 5 = .ok (.iload_n 0, 1) := dk_26 (dk_at dksX6_least_0 5 rfl rfl)
theorem dX6_least_6 : decode cX6_least 6 = .ok (.goto 4, 3) := dk_167 0 4 (dk_at dksX6_least_0 6 rfl rfl)
theorem dX6_least_9 : decode cX6_least 9 = .ok (.iload_n 1, 1) := dk_27 (dk_at dksX6_least_0 9 rfl rfl)
theorem dX6_least_10 : decode cX6_least 10 = .ok (.ireturn, 1) := dk_172 (dk_at dksX6_least_0 10 rfl rfl)
abbrev cX6_greatest : ByteArray := prog_15_method_46_code
def yX6_greatest : MethodName := ⟨RX6, "greatest", "(II)I"⟩
def dkwX6_greatest_0 : List UInt8 := [26, 27, 164, 0, 7, 26, 167, 0, 4, 27, 172]
abbrev dktX6_greatest_0 : List UInt8 := dkwX6_greatest_0 ++ []
theorem dksX6_greatest_0 : cX6_greatest.data.toList.drop 0 = dktX6_greatest_0 := by decide +kernel
theorem dX6_greatest_0 : decode cX6_greatest 0 = .ok (.iload_n 0, 1) := dk_26 (dk_at dksX6_greatest_0 0 rfl rfl)
theorem dX6_greatest_1 : decode cX6_greatest 1 = .ok (.iload_n 1, 1) := dk_27 (dk_at dksX6_greatest_0 1 rfl rfl)
theorem dX6_greatest_2 : decode cX6_greatest 2 = .ok (.if_icmp .le 7, 3) := dk_164 0 7 (dk_at dksX6_greatest_0 2 rfl rfl)
theorem dX6_greatest_5 : decode cX6_greatest 5 = .ok (.iload_n 0, 1) := dk_26 (dk_at dksX6_greatest_0 5 rfl rfl)
theorem dX6_greatest_6 : decode cX6_greatest 6 = .ok (.goto 4, 3) := dk_167 0 4 (dk_at dksX6_greatest_0 6 rfl rfl)
theorem dX6_greatest_9 : decode cX6_greatest 9 = .ok (.iload_n 1, 1) := dk_27 (dk_at dksX6_greatest_0 9 rfl rfl)
theorem dX6_greatest_10 : decode cX6_greatest 10 = .ok (.ireturn, 1) := dk_172 (dk_at dksX6_greatest_0 10 rfl rfl)
abbrev cX6_comesBack : ByteArray := prog_15_method_49_code
def yX6_comesBack : MethodName := ⟨RX6, "comesBack", "(I)Z"⟩
def dkwX6_comesBack_5 : List UInt8 := [180, 0, 57, 27, 51, 172]
abbrev dktX6_comesBack_5 : List UInt8 := dkwX6_comesBack_5 ++ []
def dkwX6_comesBack_4 : List UInt8 := [180, 0, 60, 28, 21, 4, 79, 132, 2, 1, 132, 4, 1, 167, 255, 189, 132, 3, 1, 167, 255, 175, 42]
abbrev dktX6_comesBack_4 : List UInt8 := dkwX6_comesBack_4 ++ dktX6_comesBack_5
def dkwX6_comesBack_3 : List UInt8 := [96, 51, 153, 0, 32, 42, 180, 0, 57, 21, 4, 51, 154, 0, 22, 42, 180, 0, 57, 21, 4, 4, 84, 42]
abbrev dktX6_comesBack_3 : List UInt8 := dkwX6_comesBack_3 ++ dktX6_comesBack_4
def dkwX6_comesBack_2 : List UInt8 := [162, 0, 64, 42, 180, 0, 47, 17, 0, 144, 42, 180, 0, 60, 29, 46, 104, 42, 180, 0, 34, 21, 4, 46]
abbrev dktX6_comesBack_2 : List UInt8 := dkwX6_comesBack_2 ++ dktX6_comesBack_3
def dkwX6_comesBack_1 : List UInt8 := [61, 42, 180, 0, 60, 3, 27, 79, 3, 62, 29, 28, 162, 0, 82, 3, 54, 4, 21, 4, 42, 180, 0, 211]
abbrev dktX6_comesBack_1 : List UInt8 := dkwX6_comesBack_1 ++ dktX6_comesBack_2
def dkwX6_comesBack_0 : List UInt8 := [3, 61, 28, 42, 180, 0, 211, 162, 0, 16, 42, 180, 0, 57, 28, 3, 84, 132, 2, 1, 167, 255, 238, 4]
abbrev dktX6_comesBack_0 : List UInt8 := dkwX6_comesBack_0 ++ dktX6_comesBack_1
theorem dksX6_comesBack_0 : cX6_comesBack.data.toList.drop 0 = dktX6_comesBack_0 := by decide +kernel
theorem dksX6_comesBack_1 : cX6_comesBack.data.toList.drop 24 = dktX6_comesBack_1 := dk_seg dksX6_comesBack_0 24 rfl rfl
theorem dksX6_comesBack_2 : cX6_comesBack.data.toList.drop 48 = dktX6_comesBack_2 := dk_seg dksX6_comesBack_1 24 rfl rfl
theorem dksX6_comesBack_3 : cX6_comesBack.data.toList.drop 72 = dktX6_comesBack_3 := dk_seg dksX6_comesBack_2 24 rfl rfl
theorem dksX6_comesBack_4 : cX6_comesBack.data.toList.drop 96 = dktX6_comesBack_4 := dk_seg dksX6_comesBack_3 24 rfl rfl
theorem dksX6_comesBack_5 : cX6_comesBack.data.toList.drop 119 = dktX6_comesBack_5 := dk_seg dksX6_comesBack_4 23 rfl rfl
theorem dX6_comesBack_0 : decode cX6_comesBack 0 = .ok (.iconst 0, 1) := dk_3 (dk_at dksX6_comesBack_0 0 rfl rfl)
theorem dX6_comesBack_1 : decode cX6_comesBack 1 = .ok (.istore_n 2, 1) := dk_61 (dk_at dksX6_comesBack_0 1 rfl rfl)
theorem dX6_comesBack_2 : decode cX6_comesBack 2 = .ok (.iload_n 2, 1) := dk_28 (dk_at dksX6_comesBack_0 2 rfl rfl)
theorem dX6_comesBack_3 : decode cX6_comesBack 3 = .ok (.aload_n 0, 1) := dk_42 (dk_at dksX6_comesBack_0 3 rfl rfl)
theorem dX6_comesBack_4 : decode cX6_comesBack 4 = .ok (.getfield 211, 3) := dk_180 0 211 (dk_at dksX6_comesBack_0 4 rfl rfl)
theorem dX6_comesBack_7 : decode cX6_comesBack 7 = .ok (.if_icmp .ge 16, 3) := dk_162 0 16 (dk_at dksX6_comesBack_0 7 rfl rfl)
theorem dX6_comesBack_10 : decode cX6_comesBack 10 = .ok (.aload_n 0, 1) := dk_42 (dk_at dksX6_comesBack_0 10 rfl rfl)
theorem dX6_comesBack_11 : decode cX6_comesBack 11 = .ok (.getfield 57, 3) := dk_180 0 57 (dk_at dksX6_comesBack_0 11 rfl rfl)
theorem dX6_comesBack_14 : decode cX6_comesBack 14 = .ok (.iload_n 2, 1) := dk_28 (dk_at dksX6_comesBack_0 14 rfl rfl)
theorem dX6_comesBack_15 : decode cX6_comesBack 15 = .ok (.iconst 0, 1) := dk_3 (dk_at dksX6_comesBack_0 15 rfl rfl)
theorem dX6_comesBack_16 : decode cX6_comesBack 16 = .ok (.bastore, 1) := dk_84 (dk_at dksX6_comesBack_0 16 rfl rfl)
theorem dX6_comesBack_17 : decode cX6_comesBack 17 = .ok (.iinc 2 1, 3) := dk_132 2 1 (dk_at dksX6_comesBack_0 17 rfl rfl)
theorem dX6_comesBack_20 : decode cX6_comesBack 20 = .ok (.goto (-18), 3) := dk_167 255 238 (dk_at dksX6_comesBack_0 20 rfl rfl)
theorem dX6_comesBack_23 : decode cX6_comesBack 23 = .ok (.iconst 1, 1) := dk_4 (dk_at dksX6_comesBack_0 23 rfl rfl)
theorem dX6_comesBack_24 : decode cX6_comesBack 24 = .ok (.istore_n 2, 1) := dk_61 (dk_at dksX6_comesBack_1 0 rfl rfl)
theorem dX6_comesBack_25 : decode cX6_comesBack 25 = .ok (.aload_n 0, 1) := dk_42 (dk_at dksX6_comesBack_1 1 rfl rfl)
theorem dX6_comesBack_26 : decode cX6_comesBack 26 = .ok (.getfield 60, 3) := dk_180 0 60 (dk_at dksX6_comesBack_1 2 rfl rfl)
theorem dX6_comesBack_29 : decode cX6_comesBack 29 = .ok (.iconst 0, 1) := dk_3 (dk_at dksX6_comesBack_1 5 rfl rfl)
theorem dX6_comesBack_30 : decode cX6_comesBack 30 = .ok (.iload_n 1, 1) := dk_27 (dk_at dksX6_comesBack_1 6 rfl rfl)
theorem dX6_comesBack_31 : decode cX6_comesBack 31 = .ok (.iastore, 1) := dk_79 (dk_at dksX6_comesBack_1 7 rfl rfl)
theorem dX6_comesBack_32 : decode cX6_comesBack 32 = .ok (.iconst 0, 1) := dk_3 (dk_at dksX6_comesBack_1 8 rfl rfl)
theorem dX6_comesBack_33 : decode cX6_comesBack 33 = .ok (.istore_n 3, 1) := dk_62 (dk_at dksX6_comesBack_1 9 rfl rfl)
theorem dX6_comesBack_34 : decode cX6_comesBack 34 = .ok (.iload_n 3, 1) := dk_29 (dk_at dksX6_comesBack_1 10 rfl rfl)
theorem dX6_comesBack_35 : decode cX6_comesBack 35 = .ok (.iload_n 2, 1) := dk_28 (dk_at dksX6_comesBack_1 11 rfl rfl)
theorem dX6_comesBack_36 : decode cX6_comesBack 36 = .ok (.if_icmp .ge 82, 3) := dk_162 0 82 (dk_at dksX6_comesBack_1 12 rfl rfl)
theorem dX6_comesBack_39 : decode cX6_comesBack 39 = .ok (.iconst 0, 1) := dk_3 (dk_at dksX6_comesBack_1 15 rfl rfl)
theorem dX6_comesBack_40 : decode cX6_comesBack 40 = .ok (.istore 4, 2) := dk_54 4 (dk_at dksX6_comesBack_1 16 rfl rfl)
theorem dX6_comesBack_42 : decode cX6_comesBack 42 = .ok (.iload 4, 2) := dk_21 4 (dk_at dksX6_comesBack_1 18 rfl rfl)
theorem dX6_comesBack_44 : decode cX6_comesBack 44 = .ok (.aload_n 0, 1) := dk_42 (dk_at dksX6_comesBack_1 20 rfl rfl)
theorem dX6_comesBack_45 : decode cX6_comesBack 45 = .ok (.getfield 211, 3) := dk_180 0 211 (dk_at dksX6_comesBack_1 21 rfl rfl)
theorem dX6_comesBack_48 : decode cX6_comesBack 48 = .ok (.if_icmp .ge 64, 3) := dk_162 0 64 (dk_at dksX6_comesBack_2 0 rfl rfl)
theorem dX6_comesBack_51 : decode cX6_comesBack 51 = .ok (.aload_n 0, 1) := dk_42 (dk_at dksX6_comesBack_2 3 rfl rfl)
theorem dX6_comesBack_52 : decode cX6_comesBack 52 = .ok (.getfield 47, 3) := dk_180 0 47 (dk_at dksX6_comesBack_2 4 rfl rfl)
theorem dX6_comesBack_55 : decode cX6_comesBack 55 = .ok (.sipush 144, 3) := dk_17 0 144 (dk_at dksX6_comesBack_2 7 rfl rfl)
theorem dX6_comesBack_58 : decode cX6_comesBack 58 = .ok (.aload_n 0, 1) := dk_42 (dk_at dksX6_comesBack_2 10 rfl rfl)
theorem dX6_comesBack_59 : decode cX6_comesBack 59 = .ok (.getfield 60, 3) := dk_180 0 60 (dk_at dksX6_comesBack_2 11 rfl rfl)
theorem dX6_comesBack_62 : decode cX6_comesBack 62 = .ok (.iload_n 3, 1) := dk_29 (dk_at dksX6_comesBack_2 14 rfl rfl)
theorem dX6_comesBack_63 : decode cX6_comesBack 63 = .ok (.iaload, 1) := dk_46 (dk_at dksX6_comesBack_2 15 rfl rfl)
theorem dX6_comesBack_64 : decode cX6_comesBack 64 = .ok (.imul, 1) := dk_104 (dk_at dksX6_comesBack_2 16 rfl rfl)
theorem dX6_comesBack_65 : decode cX6_comesBack 65 = .ok (.aload_n 0, 1) := dk_42 (dk_at dksX6_comesBack_2 17 rfl rfl)
theorem dX6_comesBack_66 : decode cX6_comesBack 66 = .ok (.getfield 34, 3) := dk_180 0 34 (dk_at dksX6_comesBack_2 18 rfl rfl)
theorem dX6_comesBack_69 : decode cX6_comesBack 69 = .ok (.iload 4, 2) := dk_21 4 (dk_at dksX6_comesBack_2 21 rfl rfl)
theorem dX6_comesBack_71 : decode cX6_comesBack 71 = .ok (.iaload, 1) := dk_46 (dk_at dksX6_comesBack_2 23 rfl rfl)
theorem dX6_comesBack_72 : decode cX6_comesBack 72 = .ok (.iadd, 1) := dk_96 (dk_at dksX6_comesBack_3 0 rfl rfl)
theorem dX6_comesBack_73 : decode cX6_comesBack 73 = .ok (.baload, 1) := dk_51 (dk_at dksX6_comesBack_3 1 rfl rfl)
theorem dX6_comesBack_74 : decode cX6_comesBack 74 = .ok (.ifCond .eq 32, 3) := dk_153 0 32 (dk_at dksX6_comesBack_3 2 rfl rfl)
theorem dX6_comesBack_77 : decode cX6_comesBack 77 = .ok (.aload_n 0, 1) := dk_42 (dk_at dksX6_comesBack_3 5 rfl rfl)
theorem dX6_comesBack_78 : decode cX6_comesBack 78 = .ok (.getfield 57, 3) := dk_180 0 57 (dk_at dksX6_comesBack_3 6 rfl rfl)
theorem dX6_comesBack_81 : decode cX6_comesBack 81 = .ok (.iload 4, 2) := dk_21 4 (dk_at dksX6_comesBack_3 9 rfl rfl)
theorem dX6_comesBack_83 : decode cX6_comesBack 83 = .ok (.baload, 1) := dk_51 (dk_at dksX6_comesBack_3 11 rfl rfl)
theorem dX6_comesBack_84 : decode cX6_comesBack 84 = .ok (.ifCond .ne 22, 3) := dk_154 0 22 (dk_at dksX6_comesBack_3 12 rfl rfl)
theorem dX6_comesBack_87 : decode cX6_comesBack 87 = .ok (.aload_n 0, 1) := dk_42 (dk_at dksX6_comesBack_3 15 rfl rfl)
theorem dX6_comesBack_88 : decode cX6_comesBack 88 = .ok (.getfield 57, 3) := dk_180 0 57 (dk_at dksX6_comesBack_3 16 rfl rfl)
theorem dX6_comesBack_91 : decode cX6_comesBack 91 = .ok (.iload 4, 2) := dk_21 4 (dk_at dksX6_comesBack_3 19 rfl rfl)
theorem dX6_comesBack_93 : decode cX6_comesBack 93 = .ok (.iconst 1, 1) := dk_4 (dk_at dksX6_comesBack_3 21 rfl rfl)
theorem dX6_comesBack_94 : decode cX6_comesBack 94 = .ok (.bastore, 1) := dk_84 (dk_at dksX6_comesBack_3 22 rfl rfl)
theorem dX6_comesBack_95 : decode cX6_comesBack 95 = .ok (.aload_n 0, 1) := dk_42 (dk_at dksX6_comesBack_3 23 rfl rfl)
theorem dX6_comesBack_96 : decode cX6_comesBack 96 = .ok (.getfield 60, 3) := dk_180 0 60 (dk_at dksX6_comesBack_4 0 rfl rfl)
theorem dX6_comesBack_99 : decode cX6_comesBack 99 = .ok (.iload_n 2, 1) := dk_28 (dk_at dksX6_comesBack_4 3 rfl rfl)
theorem dX6_comesBack_100 : decode cX6_comesBack 100 = .ok (.iload 4, 2) := dk_21 4 (dk_at dksX6_comesBack_4 4 rfl rfl)
theorem dX6_comesBack_102 : decode cX6_comesBack 102 = .ok (.iastore, 1) := dk_79 (dk_at dksX6_comesBack_4 6 rfl rfl)
theorem dX6_comesBack_103 : decode cX6_comesBack 103 = .ok (.iinc 2 1, 3) := dk_132 2 1 (dk_at dksX6_comesBack_4 7 rfl rfl)
theorem dX6_comesBack_106 : decode cX6_comesBack 106 = .ok (.iinc 4 1, 3) := dk_132 4 1 (dk_at dksX6_comesBack_4 10 rfl rfl)
theorem dX6_comesBack_109 : decode cX6_comesBack 109 = .ok (.goto (-67), 3) := dk_167 255 189 (dk_at dksX6_comesBack_4 13 rfl rfl)
theorem dX6_comesBack_112 : decode cX6_comesBack 112 = .ok (.iinc 3 1, 3) := dk_132 3 1 (dk_at dksX6_comesBack_4 16 rfl rfl)
theorem dX6_comesBack_115 : decode cX6_comesBack 115 = .ok (.goto (-81), 3) := dk_167 255 175 (dk_at dksX6_comesBack_4 19 rfl rfl)
theorem dX6_comesBack_118 : decode cX6_comesBack 118 = .ok (.aload_n 0, 1) := dk_42 (dk_at dksX6_comesBack_4 22 rfl rfl)
theorem dX6_comesBack_119 : decode cX6_comesBack 119 = .ok (.getfield 57, 3) := dk_180 0 57 (dk_at dksX6_comesBack_5 0 rfl rfl)
theorem dX6_comesBack_122 : decode cX6_comesBack 122 = .ok (.iload_n 1, 1) := dk_27 (dk_at dksX6_comesBack_5 3 rfl rfl)
theorem dX6_comesBack_123 : decode cX6_comesBack 123 = .ok (.baload, 1) := dk_51 (dk_at dksX6_comesBack_5 4 rfl rfl)
theorem dX6_comesBack_124 : decode cX6_comesBack 124 = .ok (.ireturn, 1) := dk_172 (dk_at dksX6_comesBack_5 5 rfl rfl)
abbrev cX6_told : ByteArray := prog_15_method_60_code
def yX6_told : MethodName := ⟨RX6, "told", "(III)I"⟩
def dkwX6_told_7 : List UInt8 := [51, 153, 0, 7, 4, 167, 0, 4, 3, 172]
abbrev dktX6_told_7 : List UInt8 := dkwX6_told_7 ++ []
def dkwX6_told_6 : List UInt8 := [21, 5, 182, 1, 1, 172, 42, 28, 182, 1, 4, 172, 21, 5, 2, 159, 0, 17, 42, 180, 0, 51, 21, 5]
abbrev dktX6_told_6 : List UInt8 := dkwX6_told_6 ++ dktX6_told_7
def dkwX6_told_5 : List UInt8 := [167, 0, 11, 42, 21, 4, 16, 6, 182, 0, 105, 172, 21, 5, 2, 160, 0, 7, 3, 167, 0, 9, 42]
abbrev dktX6_told_5 : List UInt8 := dkwX6_told_5 ++ dktX6_told_6
def dkwX6_told_4 : List UInt8 := [16, 40, 108, 172, 21, 4, 2, 159, 0, 14, 42, 21, 4, 8, 182, 0, 105, 4, 159, 0, 7, 3]
abbrev dktX6_told_4 : List UInt8 := dkwX6_told_4 ++ dktX6_told_5
def dkwX6_told_3 : List UInt8 := [2, 167, 0, 10, 42, 21, 4, 4, 182, 0, 105, 172, 21, 4, 2, 160, 0, 7, 2, 167, 0, 8, 21, 4]
abbrev dktX6_told_3 : List UInt8 := dkwX6_told_3 ++ dktX6_told_4
def dkwX6_told_2 : List UInt8 := [21, 4, 2, 160, 0, 7, 3, 167, 0, 10, 42, 21, 4, 8, 182, 0, 105, 172, 21, 4, 2, 160, 0, 7]
abbrev dktX6_told_2 : List UInt8 := dkwX6_told_2 ++ dktX6_told_3
def dkwX6_told_1 : List UInt8 := [170, 0, 0, 0, 0, 0, 144, 0, 0, 0, 0, 0, 0, 0, 5, 0, 0, 0, 39, 0, 0, 0, 57, 0, 0, 0, 75, 0, 0, 0, 91, 0, 0, 0, 121, 0, 0, 0, 138]
abbrev dktX6_told_1 : List UInt8 := dkwX6_told_1 ++ dktX6_told_2
def dkwX6_told_0 : List UInt8 := [42, 27, 28, 182, 0, 214, 54, 4, 42, 180, 0, 37, 28, 46, 54, 5, 29]
abbrev dktX6_told_0 : List UInt8 := dkwX6_told_0 ++ dktX6_told_1
theorem dksX6_told_0 : cX6_told.data.toList.drop 0 = dktX6_told_0 := by decide +kernel
theorem dksX6_told_1 : cX6_told.data.toList.drop 17 = dktX6_told_1 := dk_seg dksX6_told_0 17 rfl rfl
theorem dksX6_told_2 : cX6_told.data.toList.drop 56 = dktX6_told_2 := dk_seg dksX6_told_1 39 rfl rfl
theorem dksX6_told_3 : cX6_told.data.toList.drop 80 = dktX6_told_3 := dk_seg dksX6_told_2 24 rfl rfl
theorem dksX6_told_4 : cX6_told.data.toList.drop 104 = dktX6_told_4 := dk_seg dksX6_told_3 24 rfl rfl
theorem dksX6_told_5 : cX6_told.data.toList.drop 126 = dktX6_told_5 := dk_seg dksX6_told_4 22 rfl rfl
theorem dksX6_told_6 : cX6_told.data.toList.drop 149 = dktX6_told_6 := dk_seg dksX6_told_5 23 rfl rfl
theorem dksX6_told_7 : cX6_told.data.toList.drop 173 = dktX6_told_7 := dk_seg dksX6_told_6 24 rfl rfl
theorem dX6_told_0 : decode cX6_told 0 = .ok (.aload_n 0, 1) := dk_42 (dk_at dksX6_told_0 0 rfl rfl)
theorem dX6_told_1 : decode cX6_told 1 = .ok (.iload_n 1, 1) := dk_27 (dk_at dksX6_told_0 1 rfl rfl)
theorem dX6_told_2 : decode cX6_told 2 = .ok (.iload_n 2, 1) := dk_28 (dk_at dksX6_told_0 2 rfl rfl)
theorem dX6_told_3 : decode cX6_told 3 = .ok (.invokevirtual 214, 3) := dk_182 0 214 (dk_at dksX6_told_0 3 rfl rfl)
theorem dX6_told_6 : decode cX6_told 6 = .ok (.istore 4, 2) := dk_54 4 (dk_at dksX6_told_0 6 rfl rfl)
theorem dX6_told_8 : decode cX6_told 8 = .ok (.aload_n 0, 1) := dk_42 (dk_at dksX6_told_0 8 rfl rfl)
theorem dX6_told_9 : decode cX6_told 9 = .ok (.getfield 37, 3) := dk_180 0 37 (dk_at dksX6_told_0 9 rfl rfl)
theorem dX6_told_12 : decode cX6_told 12 = .ok (.iload_n 2, 1) := dk_28 (dk_at dksX6_told_0 12 rfl rfl)
theorem dX6_told_13 : decode cX6_told 13 = .ok (.iaload, 1) := dk_46 (dk_at dksX6_told_0 13 rfl rfl)
theorem dX6_told_14 : decode cX6_told 14 = .ok (.istore 5, 2) := dk_54 5 (dk_at dksX6_told_0 14 rfl rfl)
theorem dX6_told_16 : decode cX6_told 16 = .ok (.iload_n 3, 1) := dk_29 (dk_at dksX6_told_0 16 rfl rfl)
theorem dX6_told_17 : decode cX6_told 17 = .ok (.tableswitch 144 0 5 #[39, 57, 75, 91, 121, 138], 39) := by decide +kernel
theorem dX6_told_56 : decode cX6_told 56 = .ok (.iload 4, 2) := dk_21 4 (dk_at dksX6_told_2 0 rfl rfl)
theorem dX6_told_58 : decode cX6_told 58 = .ok (.iconst (-1), 1) := dk_2 (dk_at dksX6_told_2 2 rfl rfl)
theorem dX6_told_59 : decode cX6_told 59 = .ok (.if_icmp .ne 7, 3) := dk_160 0 7 (dk_at dksX6_told_2 3 rfl rfl)
theorem dX6_told_62 : decode cX6_told 62 = .ok (.iconst 0, 1) := dk_3 (dk_at dksX6_told_2 6 rfl rfl)
theorem dX6_told_63 : decode cX6_told 63 = .ok (.goto 10, 3) := dk_167 0 10 (dk_at dksX6_told_2 7 rfl rfl)
theorem dX6_told_66 : decode cX6_told 66 = .ok (.aload_n 0, 1) := dk_42 (dk_at dksX6_told_2 10 rfl rfl)
theorem dX6_told_67 : decode cX6_told 67 = .ok (.iload 4, 2) := dk_21 4 (dk_at dksX6_told_2 11 rfl rfl)
theorem dX6_told_69 : decode cX6_told 69 = .ok (.iconst 5, 1) := dk_8 (dk_at dksX6_told_2 13 rfl rfl)
theorem dX6_told_70 : decode cX6_told 70 = .ok (.invokevirtual 105, 3) := dk_182 0 105 (dk_at dksX6_told_2 14 rfl rfl)
theorem dX6_told_73 : decode cX6_told 73 = .ok (.ireturn, 1) := dk_172 (dk_at dksX6_told_2 17 rfl rfl)
theorem dX6_told_74 : decode cX6_told 74 = .ok (.iload 4, 2) := dk_21 4 (dk_at dksX6_told_2 18 rfl rfl)
theorem dX6_told_76 : decode cX6_told 76 = .ok (.iconst (-1), 1) := dk_2 (dk_at dksX6_told_2 20 rfl rfl)
theorem dX6_told_77 : decode cX6_told 77 = .ok (.if_icmp .ne 7, 3) := dk_160 0 7 (dk_at dksX6_told_2 21 rfl rfl)
theorem dX6_told_80 : decode cX6_told 80 = .ok (.iconst (-1), 1) := dk_2 (dk_at dksX6_told_3 0 rfl rfl)
theorem dX6_told_81 : decode cX6_told 81 = .ok (.goto 10, 3) := dk_167 0 10 (dk_at dksX6_told_3 1 rfl rfl)
theorem dX6_told_84 : decode cX6_told 84 = .ok (.aload_n 0, 1) := dk_42 (dk_at dksX6_told_3 4 rfl rfl)
theorem dX6_told_85 : decode cX6_told 85 = .ok (.iload 4, 2) := dk_21 4 (dk_at dksX6_told_3 5 rfl rfl)
theorem dX6_told_87 : decode cX6_told 87 = .ok (.iconst 1, 1) := dk_4 (dk_at dksX6_told_3 7 rfl rfl)
theorem dX6_told_88 : decode cX6_told 88 = .ok (.invokevirtual 105, 3) := dk_182 0 105 (dk_at dksX6_told_3 8 rfl rfl)
theorem dX6_told_91 : decode cX6_told 91 = .ok (.ireturn, 1) := dk_172 (dk_at dksX6_told_3 11 rfl rfl)
theorem dX6_told_92 : decode cX6_told 92 = .ok (.iload 4, 2) := dk_21 4 (dk_at dksX6_told_3 12 rfl rfl)
theorem dX6_told_94 : decode cX6_told 94 = .ok (.iconst (-1), 1) := dk_2 (dk_at dksX6_told_3 14 rfl rfl)
theorem dX6_told_95 : decode cX6_told 95 = .ok (.if_icmp .ne 7, 3) := dk_160 0 7 (dk_at dksX6_told_3 15 rfl rfl)
theorem dX6_told_98 : decode cX6_told 98 = .ok (.iconst (-1), 1) := dk_2 (dk_at dksX6_told_3 18 rfl rfl)
theorem dX6_told_99 : decode cX6_told 99 = .ok (.goto 8, 3) := dk_167 0 8 (dk_at dksX6_told_3 19 rfl rfl)
theorem dX6_told_102 : decode cX6_told 102 = .ok (.iload 4, 2) := dk_21 4 (dk_at dksX6_told_3 22 rfl rfl)
theorem dX6_told_104 : decode cX6_told 104 = .ok (.bipush 40, 2) := dk_16 40 (dk_at dksX6_told_4 0 rfl rfl)
theorem dX6_told_106 : decode cX6_told 106 = .ok (.idiv, 1) := dk_108 (dk_at dksX6_told_4 2 rfl rfl)
theorem dX6_told_107 : decode cX6_told 107 = .ok (.ireturn, 1) := dk_172 (dk_at dksX6_told_4 3 rfl rfl)
theorem dX6_told_108 : decode cX6_told 108 = .ok (.iload 4, 2) := dk_21 4 (dk_at dksX6_told_4 4 rfl rfl)
theorem dX6_told_110 : decode cX6_told 110 = .ok (.iconst (-1), 1) := dk_2 (dk_at dksX6_told_4 6 rfl rfl)
theorem dX6_told_111 : decode cX6_told 111 = .ok (.if_icmp .eq 14, 3) := dk_159 0 14 (dk_at dksX6_told_4 7 rfl rfl)
theorem dX6_told_114 : decode cX6_told 114 = .ok (.aload_n 0, 1) := dk_42 (dk_at dksX6_told_4 10 rfl rfl)
theorem dX6_told_115 : decode cX6_told 115 = .ok (.iload 4, 2) := dk_21 4 (dk_at dksX6_told_4 11 rfl rfl)
theorem dX6_told_117 : decode cX6_told 117 = .ok (.iconst 5, 1) := dk_8 (dk_at dksX6_told_4 13 rfl rfl)
theorem dX6_told_118 : decode cX6_told 118 = .ok (.invokevirtual 105, 3) := dk_182 0 105 (dk_at dksX6_told_4 14 rfl rfl)
theorem dX6_told_121 : decode cX6_told 121 = .ok (.iconst 1, 1) := dk_4 (dk_at dksX6_told_4 17 rfl rfl)
theorem dX6_told_122 : decode cX6_told 122 = .ok (.if_icmp .eq 7, 3) := dk_159 0 7 (dk_at dksX6_told_4 18 rfl rfl)
theorem dX6_told_125 : decode cX6_told 125 = .ok (.iconst 0, 1) := dk_3 (dk_at dksX6_told_4 21 rfl rfl)
theorem dX6_told_126 : decode cX6_told 126 = .ok (.goto 11, 3) := dk_167 0 11 (dk_at dksX6_told_5 0 rfl rfl)
theorem dX6_told_129 : decode cX6_told 129 = .ok (.aload_n 0, 1) := dk_42 (dk_at dksX6_told_5 3 rfl rfl)
theorem dX6_told_130 : decode cX6_told 130 = .ok (.iload 4, 2) := dk_21 4 (dk_at dksX6_told_5 4 rfl rfl)
theorem dX6_told_132 : decode cX6_told 132 = .ok (.bipush 6, 2) := dk_16 6 (dk_at dksX6_told_5 6 rfl rfl)
theorem dX6_told_134 : decode cX6_told 134 = .ok (.invokevirtual 105, 3) := dk_182 0 105 (dk_at dksX6_told_5 8 rfl rfl)
theorem dX6_told_137 : decode cX6_told 137 = .ok (.ireturn, 1) := dk_172 (dk_at dksX6_told_5 11 rfl rfl)
theorem dX6_told_138 : decode cX6_told 138 = .ok (.iload 5, 2) := dk_21 5 (dk_at dksX6_told_5 12 rfl rfl)
theorem dX6_told_140 : decode cX6_told 140 = .ok (.iconst (-1), 1) := dk_2 (dk_at dksX6_told_5 14 rfl rfl)
theorem dX6_told_141 : decode cX6_told 141 = .ok (.if_icmp .ne 7, 3) := dk_160 0 7 (dk_at dksX6_told_5 15 rfl rfl)
theorem dX6_told_144 : decode cX6_told 144 = .ok (.iconst 0, 1) := dk_3 (dk_at dksX6_told_5 18 rfl rfl)
theorem dX6_told_145 : decode cX6_told 145 = .ok (.goto 9, 3) := dk_167 0 9 (dk_at dksX6_told_5 19 rfl rfl)
theorem dX6_told_148 : decode cX6_told 148 = .ok (.aload_n 0, 1) := dk_42 (dk_at dksX6_told_5 22 rfl rfl)
theorem dX6_told_149 : decode cX6_told 149 = .ok (.iload 5, 2) := dk_21 5 (dk_at dksX6_told_6 0 rfl rfl)
theorem dX6_told_151 : decode cX6_told 151 = .ok (.invokevirtual 257, 3) := dk_182 1 1 (dk_at dksX6_told_6 2 rfl rfl)
theorem dX6_told_154 : decode cX6_told 154 = .ok (.ireturn, 1) := dk_172 (dk_at dksX6_told_6 5 rfl rfl)
theorem dX6_told_155 : decode cX6_told 155 = .ok (.aload_n 0, 1) := dk_42 (dk_at dksX6_told_6 6 rfl rfl)
theorem dX6_told_156 : decode cX6_told 156 = .ok (.iload_n 2, 1) := dk_28 (dk_at dksX6_told_6 7 rfl rfl)
theorem dX6_told_157 : decode cX6_told 157 = .ok (.invokevirtual 260, 3) := dk_182 1 4 (dk_at dksX6_told_6 8 rfl rfl)
theorem dX6_told_160 : decode cX6_told 160 = .ok (.ireturn, 1) := dk_172 (dk_at dksX6_told_6 11 rfl rfl)
theorem dX6_told_161 : decode cX6_told 161 = .ok (.iload 5, 2) := dk_21 5 (dk_at dksX6_told_6 12 rfl rfl)
theorem dX6_told_163 : decode cX6_told 163 = .ok (.iconst (-1), 1) := dk_2 (dk_at dksX6_told_6 14 rfl rfl)
theorem dX6_told_164 : decode cX6_told 164 = .ok (.if_icmp .eq 17, 3) := dk_159 0 17 (dk_at dksX6_told_6 15 rfl rfl)
theorem dX6_told_167 : decode cX6_told 167 = .ok (.aload_n 0, 1) := dk_42 (dk_at dksX6_told_6 18 rfl rfl)
theorem dX6_told_168 : decode cX6_told 168 = .ok (.getfield 51, 3) := dk_180 0 51 (dk_at dksX6_told_6 19 rfl rfl)
theorem dX6_told_171 : decode cX6_told 171 = .ok (.iload 5, 2) := dk_21 5 (dk_at dksX6_told_6 22 rfl rfl)
theorem dX6_told_173 : decode cX6_told 173 = .ok (.baload, 1) := dk_51 (dk_at dksX6_told_7 0 rfl rfl)
theorem dX6_told_174 : decode cX6_told 174 = .ok (.ifCond .eq 7, 3) := dk_153 0 7 (dk_at dksX6_told_7 1 rfl rfl)
theorem dX6_told_177 : decode cX6_told 177 = .ok (.iconst 1, 1) := dk_4 (dk_at dksX6_told_7 4 rfl rfl)
theorem dX6_told_178 : decode cX6_told 178 = .ok (.goto 4, 3) := dk_167 0 4 (dk_at dksX6_told_7 5 rfl rfl)
theorem dX6_told_181 : decode cX6_told 181 = .ok (.iconst 0, 1) := dk_3 (dk_at dksX6_told_7 8 rfl rfl)
theorem dX6_told_182 : decode cX6_told 182 = .ok (.ireturn, 1) := dk_172 (dk_at dksX6_told_7 9 rfl rfl)
abbrev cX6_referred : ByteArray := prog_15_method_58_code
def yX6_referred : MethodName := ⟨RX6, "referred", "(I)I"⟩
def dkwX6_referred_2 : List UInt8 := [167, 0, 4, 3, 96, 61, 132, 4, 1, 167, 255, 215, 132, 3, 1, 167, 255, 198, 28, 172]
abbrev dktX6_referred_2 : List UInt8 := dkwX6_referred_2 ++ []
def dkwX6_referred_1 : List UInt8 := [28, 42, 180, 0, 47, 17, 0, 144, 27, 104, 16, 12, 29, 104, 96, 21, 4, 96, 51, 153, 0, 7, 4]
abbrev dktX6_referred_1 : List UInt8 := dkwX6_referred_1 ++ dktX6_referred_2
def dkwX6_referred_0 : List UInt8 := [3, 61, 3, 62, 29, 42, 180, 0, 99, 162, 0, 56, 3, 54, 4, 21, 4, 42, 180, 0, 102, 162, 0, 38]
abbrev dktX6_referred_0 : List UInt8 := dkwX6_referred_0 ++ dktX6_referred_1
theorem dksX6_referred_0 : cX6_referred.data.toList.drop 0 = dktX6_referred_0 := by decide +kernel
theorem dksX6_referred_1 : cX6_referred.data.toList.drop 24 = dktX6_referred_1 := dk_seg dksX6_referred_0 24 rfl rfl
theorem dksX6_referred_2 : cX6_referred.data.toList.drop 47 = dktX6_referred_2 := dk_seg dksX6_referred_1 23 rfl rfl
theorem dX6_referred_0 : decode cX6_referred 0 = .ok (.iconst 0, 1) := dk_3 (dk_at dksX6_referred_0 0 rfl rfl)
theorem dX6_referred_1 : decode cX6_referred 1 = .ok (.istore_n 2, 1) := dk_61 (dk_at dksX6_referred_0 1 rfl rfl)
theorem dX6_referred_2 : decode cX6_referred 2 = .ok (.iconst 0, 1) := dk_3 (dk_at dksX6_referred_0 2 rfl rfl)
theorem dX6_referred_3 : decode cX6_referred 3 = .ok (.istore_n 3, 1) := dk_62 (dk_at dksX6_referred_0 3 rfl rfl)
theorem dX6_referred_4 : decode cX6_referred 4 = .ok (.iload_n 3, 1) := dk_29 (dk_at dksX6_referred_0 4 rfl rfl)
theorem dX6_referred_5 : decode cX6_referred 5 = .ok (.aload_n 0, 1) := dk_42 (dk_at dksX6_referred_0 5 rfl rfl)
theorem dX6_referred_6 : decode cX6_referred 6 = .ok (.getfield 99, 3) := dk_180 0 99 (dk_at dksX6_referred_0 6 rfl rfl)
theorem dX6_referred_9 : decode cX6_referred 9 = .ok (.if_icmp .ge 56, 3) := dk_162 0 56 (dk_at dksX6_referred_0 9 rfl rfl)
theorem dX6_referred_12 : decode cX6_referred 12 = .ok (.iconst 0, 1) := dk_3 (dk_at dksX6_referred_0 12 rfl rfl)
theorem dX6_referred_13 : decode cX6_referred 13 = .ok (.istore 4, 2) := dk_54 4 (dk_at dksX6_referred_0 13 rfl rfl)
theorem dX6_referred_15 : decode cX6_referred 15 = .ok (.iload 4, 2) := dk_21 4 (dk_at dksX6_referred_0 15 rfl rfl)
theorem dX6_referred_17 : decode cX6_referred 17 = .ok (.aload_n 0, 1) := dk_42 (dk_at dksX6_referred_0 17 rfl rfl)
theorem dX6_referred_18 : decode cX6_referred 18 = .ok (.getfield 102, 3) := dk_180 0 102 (dk_at dksX6_referred_0 18 rfl rfl)
theorem dX6_referred_21 : decode cX6_referred 21 = .ok (.if_icmp .ge 38, 3) := dk_162 0 38 (dk_at dksX6_referred_0 21 rfl rfl)
theorem dX6_referred_24 : decode cX6_referred 24 = .ok (.iload_n 2, 1) := dk_28 (dk_at dksX6_referred_1 0 rfl rfl)
theorem dX6_referred_25 : decode cX6_referred 25 = .ok (.aload_n 0, 1) := dk_42 (dk_at dksX6_referred_1 1 rfl rfl)
theorem dX6_referred_26 : decode cX6_referred 26 = .ok (.getfield 47, 3) := dk_180 0 47 (dk_at dksX6_referred_1 2 rfl rfl)
theorem dX6_referred_29 : decode cX6_referred 29 = .ok (.sipush 144, 3) := dk_17 0 144 (dk_at dksX6_referred_1 5 rfl rfl)
theorem dX6_referred_32 : decode cX6_referred 32 = .ok (.iload_n 1, 1) := dk_27 (dk_at dksX6_referred_1 8 rfl rfl)
theorem dX6_referred_33 : decode cX6_referred 33 = .ok (.imul, 1) := dk_104 (dk_at dksX6_referred_1 9 rfl rfl)
theorem dX6_referred_34 : decode cX6_referred 34 = .ok (.bipush 12, 2) := dk_16 12 (dk_at dksX6_referred_1 10 rfl rfl)
theorem dX6_referred_36 : decode cX6_referred 36 = .ok (.iload_n 3, 1) := dk_29 (dk_at dksX6_referred_1 12 rfl rfl)
theorem dX6_referred_37 : decode cX6_referred 37 = .ok (.imul, 1) := dk_104 (dk_at dksX6_referred_1 13 rfl rfl)
theorem dX6_referred_38 : decode cX6_referred 38 = .ok (.iadd, 1) := dk_96 (dk_at dksX6_referred_1 14 rfl rfl)
theorem dX6_referred_39 : decode cX6_referred 39 = .ok (.iload 4, 2) := dk_21 4 (dk_at dksX6_referred_1 15 rfl rfl)
theorem dX6_referred_41 : decode cX6_referred 41 = .ok (.iadd, 1) := dk_96 (dk_at dksX6_referred_1 17 rfl rfl)
theorem dX6_referred_42 : decode cX6_referred 42 = .ok (.baload, 1) := dk_51 (dk_at dksX6_referred_1 18 rfl rfl)
theorem dX6_referred_43 : decode cX6_referred 43 = .ok (.ifCond .eq 7, 3) := dk_153 0 7 (dk_at dksX6_referred_1 19 rfl rfl)
theorem dX6_referred_46 : decode cX6_referred 46 = .ok (.iconst 1, 1) := dk_4 (dk_at dksX6_referred_1 22 rfl rfl)
theorem dX6_referred_47 : decode cX6_referred 47 = .ok (.goto 4, 3) := dk_167 0 4 (dk_at dksX6_referred_2 0 rfl rfl)
theorem dX6_referred_50 : decode cX6_referred 50 = .ok (.iconst 0, 1) := dk_3 (dk_at dksX6_referred_2 3 rfl rfl)
theorem dX6_referred_51 : decode cX6_referred 51 = .ok (.iadd, 1) := dk_96 (dk_at dksX6_referred_2 4 rfl rfl)
theorem dX6_referred_52 : decode cX6_referred 52 = .ok (.istore_n 2, 1) := dk_61 (dk_at dksX6_referred_2 5 rfl rfl)
theorem dX6_referred_53 : decode cX6_referred 53 = .ok (.iinc 4 1, 3) := dk_132 4 1 (dk_at dksX6_referred_2 6 rfl rfl)
theorem dX6_referred_56 : decode cX6_referred 56 = .ok (.goto (-41), 3) := dk_167 255 215 (dk_at dksX6_referred_2 9 rfl rfl)
theorem dX6_referred_59 : decode cX6_referred 59 = .ok (.iinc 3 1, 3) := dk_132 3 1 (dk_at dksX6_referred_2 12 rfl rfl)
theorem dX6_referred_62 : decode cX6_referred 62 = .ok (.goto (-58), 3) := dk_167 255 198 (dk_at dksX6_referred_2 15 rfl rfl)
theorem dX6_referred_65 : decode cX6_referred 65 = .ok (.iload_n 2, 1) := dk_28 (dk_at dksX6_referred_2 18 rfl rfl)
theorem dX6_referred_66 : decode cX6_referred 66 = .ok (.ireturn, 1) := dk_172 (dk_at dksX6_referred_2 19 rfl rfl)
abbrev cX6_referring : ByteArray := prog_15_method_59_code
def yX6_referring : MethodName := ⟨RX6, "referring", "(I)I"⟩
def dkwX6_referring_1 : List UInt8 := [51, 153, 0, 7, 4, 167, 0, 4, 3, 96, 61, 132, 3, 1, 167, 255, 222, 28, 172]
abbrev dktX6_referring_1 : List UInt8 := dkwX6_referring_1 ++ []
def dkwX6_referring_0 : List UInt8 := [3, 61, 3, 62, 29, 42, 180, 0, 211, 162, 0, 32, 28, 42, 180, 0, 47, 17, 0, 144, 29, 104, 27, 96]
abbrev dktX6_referring_0 : List UInt8 := dkwX6_referring_0 ++ dktX6_referring_1
theorem dksX6_referring_0 : cX6_referring.data.toList.drop 0 = dktX6_referring_0 := by decide +kernel
theorem dksX6_referring_1 : cX6_referring.data.toList.drop 24 = dktX6_referring_1 := dk_seg dksX6_referring_0 24 rfl rfl
theorem dX6_referring_0 : decode cX6_referring 0 = .ok (.iconst 0, 1) := dk_3 (dk_at dksX6_referring_0 0 rfl rfl)
theorem dX6_referring_1 : decode cX6_referring 1 = .ok (.istore_n 2, 1) := dk_61 (dk_at dksX6_referring_0 1 rfl rfl)
theorem dX6_referring_2 : decode cX6_referring 2 = .ok (.iconst 0, 1) := dk_3 (dk_at dksX6_referring_0 2 rfl rfl)
theorem dX6_referring_3 : decode cX6_referring 3 = .ok (.istore_n 3, 1) := dk_62 (dk_at dksX6_referring_0 3 rfl rfl)
theorem dX6_referring_4 : decode cX6_referring 4 = .ok (.iload_n 3, 1) := dk_29 (dk_at dksX6_referring_0 4 rfl rfl)
theorem dX6_referring_5 : decode cX6_referring 5 = .ok (.aload_n 0, 1) := dk_42 (dk_at dksX6_referring_0 5 rfl rfl)
theorem dX6_referring_6 : decode cX6_referring 6 = .ok (.getfield 211, 3) := dk_180 0 211 (dk_at dksX6_referring_0 6 rfl rfl)
theorem dX6_referring_9 : decode cX6_referring 9 = .ok (.if_icmp .ge 32, 3) := dk_162 0 32 (dk_at dksX6_referring_0 9 rfl rfl)
theorem dX6_referring_12 : decode cX6_referring 12 = .ok (.iload_n 2, 1) := dk_28 (dk_at dksX6_referring_0 12 rfl rfl)
theorem dX6_referring_13 : decode cX6_referring 13 = .ok (.aload_n 0, 1) := dk_42 (dk_at dksX6_referring_0 13 rfl rfl)
theorem dX6_referring_14 : decode cX6_referring 14 = .ok (.getfield 47, 3) := dk_180 0 47 (dk_at dksX6_referring_0 14 rfl rfl)
theorem dX6_referring_17 : decode cX6_referring 17 = .ok (.sipush 144, 3) := dk_17 0 144 (dk_at dksX6_referring_0 17 rfl rfl)
theorem dX6_referring_20 : decode cX6_referring 20 = .ok (.iload_n 3, 1) := dk_29 (dk_at dksX6_referring_0 20 rfl rfl)
theorem dX6_referring_21 : decode cX6_referring 21 = .ok (.imul, 1) := dk_104 (dk_at dksX6_referring_0 21 rfl rfl)
theorem dX6_referring_22 : decode cX6_referring 22 = .ok (.iload_n 1, 1) := dk_27 (dk_at dksX6_referring_0 22 rfl rfl)
theorem dX6_referring_23 : decode cX6_referring 23 = .ok (.iadd, 1) := dk_96 (dk_at dksX6_referring_0 23 rfl rfl)
theorem dX6_referring_24 : decode cX6_referring 24 = .ok (.baload, 1) := dk_51 (dk_at dksX6_referring_1 0 rfl rfl)
theorem dX6_referring_25 : decode cX6_referring 25 = .ok (.ifCond .eq 7, 3) := dk_153 0 7 (dk_at dksX6_referring_1 1 rfl rfl)
theorem dX6_referring_28 : decode cX6_referring 28 = .ok (.iconst 1, 1) := dk_4 (dk_at dksX6_referring_1 4 rfl rfl)
theorem dX6_referring_29 : decode cX6_referring 29 = .ok (.goto 4, 3) := dk_167 0 4 (dk_at dksX6_referring_1 5 rfl rfl)
theorem dX6_referring_32 : decode cX6_referring 32 = .ok (.iconst 0, 1) := dk_3 (dk_at dksX6_referring_1 8 rfl rfl)
theorem dX6_referring_33 : decode cX6_referring 33 = .ok (.iadd, 1) := dk_96 (dk_at dksX6_referring_1 9 rfl rfl)
theorem dX6_referring_34 : decode cX6_referring 34 = .ok (.istore_n 2, 1) := dk_61 (dk_at dksX6_referring_1 10 rfl rfl)
theorem dX6_referring_35 : decode cX6_referring 35 = .ok (.iinc 3 1, 3) := dk_132 3 1 (dk_at dksX6_referring_1 11 rfl rfl)
theorem dX6_referring_38 : decode cX6_referring 38 = .ok (.goto (-34), 3) := dk_167 255 222 (dk_at dksX6_referring_1 14 rfl rfl)
theorem dX6_referring_41 : decode cX6_referring 41 = .ok (.iload_n 2, 1) := dk_28 (dk_at dksX6_referring_1 17 rfl rfl)
theorem dX6_referring_42 : decode cX6_referring 42 = .ok (.ireturn, 1) := dk_172 (dk_at dksX6_referring_1 18 rfl rfl)
abbrev cX6_value : ByteArray := prog_15_method_62_code
def yX6_value : MethodName := ⟨RX6, "value", "(III)I"⟩
def dkwX6_value_1 : List UInt8 := [180, 0, 40, 16, 12, 28, 104, 29, 96, 47, 136, 182, 0, 83, 172]
abbrev dktX6_value_1 : List UInt8 := dkwX6_value_1 ++ []
def dkwX6_value_0 : List UInt8 := [42, 27, 28, 29, 182, 0, 159, 154, 0, 9, 42, 4, 182, 0, 131, 172, 42, 27, 182, 1, 10, 42, 42]
abbrev dktX6_value_0 : List UInt8 := dkwX6_value_0 ++ dktX6_value_1
theorem dksX6_value_0 : cX6_value.data.toList.drop 0 = dktX6_value_0 := by decide +kernel
theorem dksX6_value_1 : cX6_value.data.toList.drop 23 = dktX6_value_1 := dk_seg dksX6_value_0 23 rfl rfl
theorem dX6_value_0 : decode cX6_value 0 = .ok (.aload_n 0, 1) := dk_42 (dk_at dksX6_value_0 0 rfl rfl)
theorem dX6_value_1 : decode cX6_value 1 = .ok (.iload_n 1, 1) := dk_27 (dk_at dksX6_value_0 1 rfl rfl)
theorem dX6_value_2 : decode cX6_value 2 = .ok (.iload_n 2, 1) := dk_28 (dk_at dksX6_value_0 2 rfl rfl)
theorem dX6_value_3 : decode cX6_value 3 = .ok (.iload_n 3, 1) := dk_29 (dk_at dksX6_value_0 3 rfl rfl)
theorem dX6_value_4 : decode cX6_value 4 = .ok (.invokevirtual 159, 3) := dk_182 0 159 (dk_at dksX6_value_0 4 rfl rfl)
theorem dX6_value_7 : decode cX6_value 7 = .ok (.ifCond .ne 9, 3) := dk_154 0 9 (dk_at dksX6_value_0 7 rfl rfl)
theorem dX6_value_10 : decode cX6_value 10 = .ok (.aload_n 0, 1) := dk_42 (dk_at dksX6_value_0 10 rfl rfl)
theorem dX6_value_11 : decode cX6_value 11 = .ok (.iconst 1, 1) := dk_4 (dk_at dksX6_value_0 11 rfl rfl)
theorem dX6_value_12 : decode cX6_value 12 = .ok (.invokevirtual 131, 3) := dk_182 0 131 (dk_at dksX6_value_0 12 rfl rfl)
theorem dX6_value_15 : decode cX6_value 15 = .ok (.ireturn, 1) := dk_172 (dk_at dksX6_value_0 15 rfl rfl)
theorem dX6_value_16 : decode cX6_value 16 = .ok (.aload_n 0, 1) := dk_42 (dk_at dksX6_value_0 16 rfl rfl)
theorem dX6_value_17 : decode cX6_value 17 = .ok (.iload_n 1, 1) := dk_27 (dk_at dksX6_value_0 17 rfl rfl)
theorem dX6_value_18 : decode cX6_value 18 = .ok (.invokevirtual 266, 3) := dk_182 1 10 (dk_at dksX6_value_0 18 rfl rfl)
theorem dX6_value_21 : decode cX6_value 21 = .ok (.aload_n 0, 1) := dk_42 (dk_at dksX6_value_0 21 rfl rfl)
theorem dX6_value_22 : decode cX6_value 22 = .ok (.aload_n 0, 1) := dk_42 (dk_at dksX6_value_0 22 rfl rfl)
theorem dX6_value_23 : decode cX6_value 23 = .ok (.getfield 40, 3) := dk_180 0 40 (dk_at dksX6_value_1 0 rfl rfl)
theorem dX6_value_26 : decode cX6_value 26 = .ok (.bipush 12, 2) := dk_16 12 (dk_at dksX6_value_1 3 rfl rfl)
theorem dX6_value_28 : decode cX6_value 28 = .ok (.iload_n 2, 1) := dk_28 (dk_at dksX6_value_1 5 rfl rfl)
theorem dX6_value_29 : decode cX6_value 29 = .ok (.imul, 1) := dk_104 (dk_at dksX6_value_1 6 rfl rfl)
theorem dX6_value_30 : decode cX6_value 30 = .ok (.iload_n 3, 1) := dk_29 (dk_at dksX6_value_1 7 rfl rfl)
theorem dX6_value_31 : decode cX6_value 31 = .ok (.iadd, 1) := dk_96 (dk_at dksX6_value_1 8 rfl rfl)
theorem dX6_value_32 : decode cX6_value 32 = .ok (.laload, 1) := dk_47 (dk_at dksX6_value_1 9 rfl rfl)
theorem dX6_value_33 : decode cX6_value 33 = .ok (.l2i, 1) := dk_136 (dk_at dksX6_value_1 10 rfl rfl)
theorem dX6_value_34 : decode cX6_value 34 = .ok (.invokevirtual 83, 3) := dk_182 0 83 (dk_at dksX6_value_1 11 rfl rfl)
theorem dX6_value_37 : decode cX6_value 37 = .ok (.ireturn, 1) := dk_172 (dk_at dksX6_value_1 14 rfl rfl)
abbrev cX6_works : ByteArray := prog_15_method_52_code
def yX6_works : MethodName := ⟨RX6, "works", "(I)V"⟩
def dkwX6_works_5 : List UInt8 := [4, 84, 4, 61, 132, 3, 1, 167, 255, 188, 167, 255, 177, 177]
abbrev dktX6_works_5 : List UInt8 := dkwX6_works_5 ++ []
def dkwX6_works_4 : List UInt8 := [180, 0, 34, 29, 46, 42, 27, 42, 180, 0, 34, 29, 46, 182, 0, 214, 182, 0, 230, 42, 180, 0, 54, 29]
abbrev dktX6_works_4 : List UInt8 := dkwX6_works_4 ++ dktX6_works_5
def dkwX6_works_3 : List UInt8 := [154, 0, 51, 42, 180, 0, 54, 29, 51, 154, 0, 42, 42, 29, 4, 182, 0, 226, 153, 0, 33, 42, 42]
abbrev dktX6_works_3 : List UInt8 := dkwX6_works_3 ++ dktX6_works_4
def dkwX6_works_2 : List UInt8 := [28, 153, 0, 81, 3, 61, 3, 62, 29, 42, 180, 0, 211, 162, 0, 66, 42, 180, 0, 51, 29, 51]
abbrev dktX6_works_2 : List UInt8 := dkwX6_works_2 ++ dktX6_works_3
def dkwX6_works_1 : List UInt8 := [46, 42, 180, 0, 51, 28, 51, 153, 0, 7, 4, 167, 0, 4, 3, 79, 132, 2, 1, 167, 255, 220, 4, 61]
abbrev dktX6_works_1 : List UInt8 := dkwX6_works_1 ++ dktX6_works_2
def dkwX6_works_0 : List UInt8 := [42, 27, 182, 0, 223, 3, 61, 28, 42, 180, 0, 211, 162, 0, 34, 42, 180, 0, 44, 42, 180, 0, 34, 28]
abbrev dktX6_works_0 : List UInt8 := dkwX6_works_0 ++ dktX6_works_1
theorem dksX6_works_0 : cX6_works.data.toList.drop 0 = dktX6_works_0 := by decide +kernel
theorem dksX6_works_1 : cX6_works.data.toList.drop 24 = dktX6_works_1 := dk_seg dksX6_works_0 24 rfl rfl
theorem dksX6_works_2 : cX6_works.data.toList.drop 48 = dktX6_works_2 := dk_seg dksX6_works_1 24 rfl rfl
theorem dksX6_works_3 : cX6_works.data.toList.drop 70 = dktX6_works_3 := dk_seg dksX6_works_2 22 rfl rfl
theorem dksX6_works_4 : cX6_works.data.toList.drop 93 = dktX6_works_4 := dk_seg dksX6_works_3 23 rfl rfl
theorem dksX6_works_5 : cX6_works.data.toList.drop 117 = dktX6_works_5 := dk_seg dksX6_works_4 24 rfl rfl
theorem dX6_works_0 : decode cX6_works 0 = .ok (.aload_n 0, 1) := dk_42 (dk_at dksX6_works_0 0 rfl rfl)
theorem dX6_works_1 : decode cX6_works 1 = .ok (.iload_n 1, 1) := dk_27 (dk_at dksX6_works_0 1 rfl rfl)
theorem dX6_works_2 : decode cX6_works 2 = .ok (.invokevirtual 223, 3) := dk_182 0 223 (dk_at dksX6_works_0 2 rfl rfl)
theorem dX6_works_5 : decode cX6_works 5 = .ok (.iconst 0, 1) := dk_3 (dk_at dksX6_works_0 5 rfl rfl)
theorem dX6_works_6 : decode cX6_works 6 = .ok (.istore_n 2, 1) := dk_61 (dk_at dksX6_works_0 6 rfl rfl)
theorem dX6_works_7 : decode cX6_works 7 = .ok (.iload_n 2, 1) := dk_28 (dk_at dksX6_works_0 7 rfl rfl)
theorem dX6_works_8 : decode cX6_works 8 = .ok (.aload_n 0, 1) := dk_42 (dk_at dksX6_works_0 8 rfl rfl)
theorem dX6_works_9 : decode cX6_works 9 = .ok (.getfield 211, 3) := dk_180 0 211 (dk_at dksX6_works_0 9 rfl rfl)
theorem dX6_works_12 : decode cX6_works 12 = .ok (.if_icmp .ge 34, 3) := dk_162 0 34 (dk_at dksX6_works_0 12 rfl rfl)
theorem dX6_works_15 : decode cX6_works 15 = .ok (.aload_n 0, 1) := dk_42 (dk_at dksX6_works_0 15 rfl rfl)
theorem dX6_works_16 : decode cX6_works 16 = .ok (.getfield 44, 3) := dk_180 0 44 (dk_at dksX6_works_0 16 rfl rfl)
theorem dX6_works_19 : decode cX6_works 19 = .ok (.aload_n 0, 1) := dk_42 (dk_at dksX6_works_0 19 rfl rfl)
theorem dX6_works_20 : decode cX6_works 20 = .ok (.getfield 34, 3) := dk_180 0 34 (dk_at dksX6_works_0 20 rfl rfl)
theorem dX6_works_23 : decode cX6_works 23 = .ok (.iload_n 2, 1) := dk_28 (dk_at dksX6_works_0 23 rfl rfl)
theorem dX6_works_24 : decode cX6_works 24 = .ok (.iaload, 1) := dk_46 (dk_at dksX6_works_1 0 rfl rfl)
theorem dX6_works_25 : decode cX6_works 25 = .ok (.aload_n 0, 1) := dk_42 (dk_at dksX6_works_1 1 rfl rfl)
theorem dX6_works_26 : decode cX6_works 26 = .ok (.getfield 51, 3) := dk_180 0 51 (dk_at dksX6_works_1 2 rfl rfl)
theorem dX6_works_29 : decode cX6_works 29 = .ok (.iload_n 2, 1) := dk_28 (dk_at dksX6_works_1 5 rfl rfl)
theorem dX6_works_30 : decode cX6_works 30 = .ok (.baload, 1) := dk_51 (dk_at dksX6_works_1 6 rfl rfl)
theorem dX6_works_31 : decode cX6_works 31 = .ok (.ifCond .eq 7, 3) := dk_153 0 7 (dk_at dksX6_works_1 7 rfl rfl)
theorem dX6_works_34 : decode cX6_works 34 = .ok (.iconst 1, 1) := dk_4 (dk_at dksX6_works_1 10 rfl rfl)
theorem dX6_works_35 : decode cX6_works 35 = .ok (.goto 4, 3) := dk_167 0 4 (dk_at dksX6_works_1 11 rfl rfl)
theorem dX6_works_38 : decode cX6_works 38 = .ok (.iconst 0, 1) := dk_3 (dk_at dksX6_works_1 14 rfl rfl)
theorem dX6_works_39 : decode cX6_works 39 = .ok (.iastore, 1) := dk_79 (dk_at dksX6_works_1 15 rfl rfl)
theorem dX6_works_40 : decode cX6_works 40 = .ok (.iinc 2 1, 3) := dk_132 2 1 (dk_at dksX6_works_1 16 rfl rfl)
theorem dX6_works_43 : decode cX6_works 43 = .ok (.goto (-36), 3) := dk_167 255 220 (dk_at dksX6_works_1 19 rfl rfl)
theorem dX6_works_46 : decode cX6_works 46 = .ok (.iconst 1, 1) := dk_4 (dk_at dksX6_works_1 22 rfl rfl)
theorem dX6_works_47 : decode cX6_works 47 = .ok (.istore_n 2, 1) := dk_61 (dk_at dksX6_works_1 23 rfl rfl)
theorem dX6_works_48 : decode cX6_works 48 = .ok (.iload_n 2, 1) := dk_28 (dk_at dksX6_works_2 0 rfl rfl)
theorem dX6_works_49 : decode cX6_works 49 = .ok (.ifCond .eq 81, 3) := dk_153 0 81 (dk_at dksX6_works_2 1 rfl rfl)
theorem dX6_works_52 : decode cX6_works 52 = .ok (.iconst 0, 1) := dk_3 (dk_at dksX6_works_2 4 rfl rfl)
theorem dX6_works_53 : decode cX6_works 53 = .ok (.istore_n 2, 1) := dk_61 (dk_at dksX6_works_2 5 rfl rfl)
theorem dX6_works_54 : decode cX6_works 54 = .ok (.iconst 0, 1) := dk_3 (dk_at dksX6_works_2 6 rfl rfl)
theorem dX6_works_55 : decode cX6_works 55 = .ok (.istore_n 3, 1) := dk_62 (dk_at dksX6_works_2 7 rfl rfl)
theorem dX6_works_56 : decode cX6_works 56 = .ok (.iload_n 3, 1) := dk_29 (dk_at dksX6_works_2 8 rfl rfl)
theorem dX6_works_57 : decode cX6_works 57 = .ok (.aload_n 0, 1) := dk_42 (dk_at dksX6_works_2 9 rfl rfl)
theorem dX6_works_58 : decode cX6_works 58 = .ok (.getfield 211, 3) := dk_180 0 211 (dk_at dksX6_works_2 10 rfl rfl)
theorem dX6_works_61 : decode cX6_works 61 = .ok (.if_icmp .ge 66, 3) := dk_162 0 66 (dk_at dksX6_works_2 13 rfl rfl)
theorem dX6_works_64 : decode cX6_works 64 = .ok (.aload_n 0, 1) := dk_42 (dk_at dksX6_works_2 16 rfl rfl)
theorem dX6_works_65 : decode cX6_works 65 = .ok (.getfield 51, 3) := dk_180 0 51 (dk_at dksX6_works_2 17 rfl rfl)
theorem dX6_works_68 : decode cX6_works 68 = .ok (.iload_n 3, 1) := dk_29 (dk_at dksX6_works_2 20 rfl rfl)
theorem dX6_works_69 : decode cX6_works 69 = .ok (.baload, 1) := dk_51 (dk_at dksX6_works_2 21 rfl rfl)
theorem dX6_works_70 : decode cX6_works 70 = .ok (.ifCond .ne 51, 3) := dk_154 0 51 (dk_at dksX6_works_3 0 rfl rfl)
theorem dX6_works_73 : decode cX6_works 73 = .ok (.aload_n 0, 1) := dk_42 (dk_at dksX6_works_3 3 rfl rfl)
theorem dX6_works_74 : decode cX6_works 74 = .ok (.getfield 54, 3) := dk_180 0 54 (dk_at dksX6_works_3 4 rfl rfl)
theorem dX6_works_77 : decode cX6_works 77 = .ok (.iload_n 3, 1) := dk_29 (dk_at dksX6_works_3 7 rfl rfl)
theorem dX6_works_78 : decode cX6_works 78 = .ok (.baload, 1) := dk_51 (dk_at dksX6_works_3 8 rfl rfl)
theorem dX6_works_79 : decode cX6_works 79 = .ok (.ifCond .ne 42, 3) := dk_154 0 42 (dk_at dksX6_works_3 9 rfl rfl)
theorem dX6_works_82 : decode cX6_works 82 = .ok (.aload_n 0, 1) := dk_42 (dk_at dksX6_works_3 12 rfl rfl)
theorem dX6_works_83 : decode cX6_works 83 = .ok (.iload_n 3, 1) := dk_29 (dk_at dksX6_works_3 13 rfl rfl)
theorem dX6_works_84 : decode cX6_works 84 = .ok (.iconst 1, 1) := dk_4 (dk_at dksX6_works_3 14 rfl rfl)
theorem dX6_works_85 : decode cX6_works 85 = .ok (.invokevirtual 226, 3) := dk_182 0 226 (dk_at dksX6_works_3 15 rfl rfl)
theorem dX6_works_88 : decode cX6_works 88 = .ok (.ifCond .eq 33, 3) := dk_153 0 33 (dk_at dksX6_works_3 18 rfl rfl)
theorem dX6_works_91 : decode cX6_works 91 = .ok (.aload_n 0, 1) := dk_42 (dk_at dksX6_works_3 21 rfl rfl)
theorem dX6_works_92 : decode cX6_works 92 = .ok (.aload_n 0, 1) := dk_42 (dk_at dksX6_works_3 22 rfl rfl)
theorem dX6_works_93 : decode cX6_works 93 = .ok (.getfield 34, 3) := dk_180 0 34 (dk_at dksX6_works_4 0 rfl rfl)
theorem dX6_works_96 : decode cX6_works 96 = .ok (.iload_n 3, 1) := dk_29 (dk_at dksX6_works_4 3 rfl rfl)
theorem dX6_works_97 : decode cX6_works 97 = .ok (.iaload, 1) := dk_46 (dk_at dksX6_works_4 4 rfl rfl)
theorem dX6_works_98 : decode cX6_works 98 = .ok (.aload_n 0, 1) := dk_42 (dk_at dksX6_works_4 5 rfl rfl)
theorem dX6_works_99 : decode cX6_works 99 = .ok (.iload_n 1, 1) := dk_27 (dk_at dksX6_works_4 6 rfl rfl)
theorem dX6_works_100 : decode cX6_works 100 = .ok (.aload_n 0, 1) := dk_42 (dk_at dksX6_works_4 7 rfl rfl)
theorem dX6_works_101 : decode cX6_works 101 = .ok (.getfield 34, 3) := dk_180 0 34 (dk_at dksX6_works_4 8 rfl rfl)
theorem dX6_works_104 : decode cX6_works 104 = .ok (.iload_n 3, 1) := dk_29 (dk_at dksX6_works_4 11 rfl rfl)
theorem dX6_works_105 : decode cX6_works 105 = .ok (.iaload, 1) := dk_46 (dk_at dksX6_works_4 12 rfl rfl)
theorem dX6_works_106 : decode cX6_works 106 = .ok (.invokevirtual 214, 3) := dk_182 0 214 (dk_at dksX6_works_4 13 rfl rfl)
theorem dX6_works_109 : decode cX6_works 109 = .ok (.invokevirtual 230, 3) := dk_182 0 230 (dk_at dksX6_works_4 16 rfl rfl)
theorem dX6_works_112 : decode cX6_works 112 = .ok (.aload_n 0, 1) := dk_42 (dk_at dksX6_works_4 19 rfl rfl)
theorem dX6_works_113 : decode cX6_works 113 = .ok (.getfield 54, 3) := dk_180 0 54 (dk_at dksX6_works_4 20 rfl rfl)
theorem dX6_works_116 : decode cX6_works 116 = .ok (.iload_n 3, 1) := dk_29 (dk_at dksX6_works_4 23 rfl rfl)
theorem dX6_works_117 : decode cX6_works 117 = .ok (.iconst 1, 1) := dk_4 (dk_at dksX6_works_5 0 rfl rfl)
theorem dX6_works_118 : decode cX6_works 118 = .ok (.bastore, 1) := dk_84 (dk_at dksX6_works_5 1 rfl rfl)
theorem dX6_works_119 : decode cX6_works 119 = .ok (.iconst 1, 1) := dk_4 (dk_at dksX6_works_5 2 rfl rfl)
theorem dX6_works_120 : decode cX6_works 120 = .ok (.istore_n 2, 1) := dk_61 (dk_at dksX6_works_5 3 rfl rfl)
theorem dX6_works_121 : decode cX6_works 121 = .ok (.iinc 3 1, 3) := dk_132 3 1 (dk_at dksX6_works_5 4 rfl rfl)
theorem dX6_works_124 : decode cX6_works 124 = .ok (.goto (-68), 3) := dk_167 255 188 (dk_at dksX6_works_5 7 rfl rfl)
theorem dX6_works_127 : decode cX6_works 127 = .ok (.goto (-79), 3) := dk_167 255 177 (dk_at dksX6_works_5 10 rfl rfl)
theorem dX6_works_130 : decode cX6_works 130 = .ok (.return_, 1) := dk_177 (dk_at dksX6_works_5 13 rfl rfl)
abbrev cX6_isReady : ByteArray := prog_15_method_50_code
def yX6_isReady : MethodName := ⟨RX6, "isReady", "(IZ)Z"⟩
def dkwX6_isReady_3 : List UInt8 := [132, 4, 1, 167, 255, 189, 29, 172]
abbrev dktX6_isReady_3 : List UInt8 := dkwX6_isReady_3 ++ []
def dkwX6_isReady_2 : List UInt8 := [154, 0, 17, 28, 153, 0, 17, 42, 180, 0, 51, 21, 4, 51, 153, 0, 7, 4, 167, 0, 4, 3, 62]
abbrev dktX6_isReady_2 : List UInt8 := dkwX6_isReady_2 ++ dktX6_isReady_3
def dkwX6_isReady_1 : List UInt8 := [17, 0, 144, 27, 104, 42, 180, 0, 34, 21, 4, 46, 96, 51, 153, 0, 27, 42, 180, 0, 54, 21, 4, 51]
abbrev dktX6_isReady_1 : List UInt8 := dkwX6_isReady_1 ++ dktX6_isReady_2
def dkwX6_isReady_0 : List UInt8 := [4, 62, 3, 54, 4, 21, 4, 42, 180, 0, 211, 162, 0, 64, 29, 153, 0, 52, 42, 180, 0, 47]
abbrev dktX6_isReady_0 : List UInt8 := dkwX6_isReady_0 ++ dktX6_isReady_1
theorem dksX6_isReady_0 : cX6_isReady.data.toList.drop 0 = dktX6_isReady_0 := by decide +kernel
theorem dksX6_isReady_1 : cX6_isReady.data.toList.drop 22 = dktX6_isReady_1 := dk_seg dksX6_isReady_0 22 rfl rfl
theorem dksX6_isReady_2 : cX6_isReady.data.toList.drop 46 = dktX6_isReady_2 := dk_seg dksX6_isReady_1 24 rfl rfl
theorem dksX6_isReady_3 : cX6_isReady.data.toList.drop 69 = dktX6_isReady_3 := dk_seg dksX6_isReady_2 23 rfl rfl
theorem dX6_isReady_0 : decode cX6_isReady 0 = .ok (.iconst 1, 1) := dk_4 (dk_at dksX6_isReady_0 0 rfl rfl)
theorem dX6_isReady_1 : decode cX6_isReady 1 = .ok (.istore_n 3, 1) := dk_62 (dk_at dksX6_isReady_0 1 rfl rfl)
theorem dX6_isReady_2 : decode cX6_isReady 2 = .ok (.iconst 0, 1) := dk_3 (dk_at dksX6_isReady_0 2 rfl rfl)
theorem dX6_isReady_3 : decode cX6_isReady 3 = .ok (.istore 4, 2) := dk_54 4 (dk_at dksX6_isReady_0 3 rfl rfl)
theorem dX6_isReady_5 : decode cX6_isReady 5 = .ok (.iload 4, 2) := dk_21 4 (dk_at dksX6_isReady_0 5 rfl rfl)
theorem dX6_isReady_7 : decode cX6_isReady 7 = .ok (.aload_n 0, 1) := dk_42 (dk_at dksX6_isReady_0 7 rfl rfl)
theorem dX6_isReady_8 : decode cX6_isReady 8 = .ok (.getfield 211, 3) := dk_180 0 211 (dk_at dksX6_isReady_0 8 rfl rfl)
theorem dX6_isReady_11 : decode cX6_isReady 11 = .ok (.if_icmp .ge 64, 3) := dk_162 0 64 (dk_at dksX6_isReady_0 11 rfl rfl)
theorem dX6_isReady_14 : decode cX6_isReady 14 = .ok (.iload_n 3, 1) := dk_29 (dk_at dksX6_isReady_0 14 rfl rfl)
theorem dX6_isReady_15 : decode cX6_isReady 15 = .ok (.ifCond .eq 52, 3) := dk_153 0 52 (dk_at dksX6_isReady_0 15 rfl rfl)
theorem dX6_isReady_18 : decode cX6_isReady 18 = .ok (.aload_n 0, 1) := dk_42 (dk_at dksX6_isReady_0 18 rfl rfl)
theorem dX6_isReady_19 : decode cX6_isReady 19 = .ok (.getfield 47, 3) := dk_180 0 47 (dk_at dksX6_isReady_0 19 rfl rfl)
theorem dX6_isReady_22 : decode cX6_isReady 22 = .ok (.sipush 144, 3) := dk_17 0 144 (dk_at dksX6_isReady_1 0 rfl rfl)
theorem dX6_isReady_25 : decode cX6_isReady 25 = .ok (.iload_n 1, 1) := dk_27 (dk_at dksX6_isReady_1 3 rfl rfl)
theorem dX6_isReady_26 : decode cX6_isReady 26 = .ok (.imul, 1) := dk_104 (dk_at dksX6_isReady_1 4 rfl rfl)
theorem dX6_isReady_27 : decode cX6_isReady 27 = .ok (.aload_n 0, 1) := dk_42 (dk_at dksX6_isReady_1 5 rfl rfl)
theorem dX6_isReady_28 : decode cX6_isReady 28 = .ok (.getfield 34, 3) := dk_180 0 34 (dk_at dksX6_isReady_1 6 rfl rfl)
theorem dX6_isReady_31 : decode cX6_isReady 31 = .ok (.iload 4, 2) := dk_21 4 (dk_at dksX6_isReady_1 9 rfl rfl)
theorem dX6_isReady_33 : decode cX6_isReady 33 = .ok (.iaload, 1) := dk_46 (dk_at dksX6_isReady_1 11 rfl rfl)
theorem dX6_isReady_34 : decode cX6_isReady 34 = .ok (.iadd, 1) := dk_96 (dk_at dksX6_isReady_1 12 rfl rfl)
theorem dX6_isReady_35 : decode cX6_isReady 35 = .ok (.baload, 1) := dk_51 (dk_at dksX6_isReady_1 13 rfl rfl)
theorem dX6_isReady_36 : decode cX6_isReady 36 = .ok (.ifCond .eq 27, 3) := dk_153 0 27 (dk_at dksX6_isReady_1 14 rfl rfl)
theorem dX6_isReady_39 : decode cX6_isReady 39 = .ok (.aload_n 0, 1) := dk_42 (dk_at dksX6_isReady_1 17 rfl rfl)
theorem dX6_isReady_40 : decode cX6_isReady 40 = .ok (.getfield 54, 3) := dk_180 0 54 (dk_at dksX6_isReady_1 18 rfl rfl)
theorem dX6_isReady_43 : decode cX6_isReady 43 = .ok (.iload 4, 2) := dk_21 4 (dk_at dksX6_isReady_1 21 rfl rfl)
theorem dX6_isReady_45 : decode cX6_isReady 45 = .ok (.baload, 1) := dk_51 (dk_at dksX6_isReady_1 23 rfl rfl)
theorem dX6_isReady_46 : decode cX6_isReady 46 = .ok (.ifCond .ne 17, 3) := dk_154 0 17 (dk_at dksX6_isReady_2 0 rfl rfl)
theorem dX6_isReady_49 : decode cX6_isReady 49 = .ok (.iload_n 2, 1) := dk_28 (dk_at dksX6_isReady_2 3 rfl rfl)
theorem dX6_isReady_50 : decode cX6_isReady 50 = .ok (.ifCond .eq 17, 3) := dk_153 0 17 (dk_at dksX6_isReady_2 4 rfl rfl)
theorem dX6_isReady_53 : decode cX6_isReady 53 = .ok (.aload_n 0, 1) := dk_42 (dk_at dksX6_isReady_2 7 rfl rfl)
theorem dX6_isReady_54 : decode cX6_isReady 54 = .ok (.getfield 51, 3) := dk_180 0 51 (dk_at dksX6_isReady_2 8 rfl rfl)
theorem dX6_isReady_57 : decode cX6_isReady 57 = .ok (.iload 4, 2) := dk_21 4 (dk_at dksX6_isReady_2 11 rfl rfl)
theorem dX6_isReady_59 : decode cX6_isReady 59 = .ok (.baload, 1) := dk_51 (dk_at dksX6_isReady_2 13 rfl rfl)
theorem dX6_isReady_60 : decode cX6_isReady 60 = .ok (.ifCond .eq 7, 3) := dk_153 0 7 (dk_at dksX6_isReady_2 14 rfl rfl)
theorem dX6_isReady_63 : decode cX6_isReady 63 = .ok (.iconst 1, 1) := dk_4 (dk_at dksX6_isReady_2 17 rfl rfl)
theorem dX6_isReady_64 : decode cX6_isReady 64 = .ok (.goto 4, 3) := dk_167 0 4 (dk_at dksX6_isReady_2 18 rfl rfl)
theorem dX6_isReady_67 : decode cX6_isReady 67 = .ok (.iconst 0, 1) := dk_3 (dk_at dksX6_isReady_2 21 rfl rfl)
theorem dX6_isReady_68 : decode cX6_isReady 68 = .ok (.istore_n 3, 1) := dk_62 (dk_at dksX6_isReady_2 22 rfl rfl)
theorem dX6_isReady_69 : decode cX6_isReady 69 = .ok (.iinc 4 1, 3) := dk_132 4 1 (dk_at dksX6_isReady_3 0 rfl rfl)
theorem dX6_isReady_72 : decode cX6_isReady 72 = .ok (.goto (-67), 3) := dk_167 255 189 (dk_at dksX6_isReady_3 3 rfl rfl)
theorem dX6_isReady_75 : decode cX6_isReady 75 = .ok (.iload_n 3, 1) := dk_29 (dk_at dksX6_isReady_3 6 rfl rfl)
theorem dX6_isReady_76 : decode cX6_isReady 76 = .ok (.ireturn, 1) := dk_172 (dk_at dksX6_isReady_3 7 rfl rfl)
abbrev cX6_calculates : ByteArray := prog_15_method_57_code
def yX6_calculates : MethodName := ⟨RX6, "calculates", "(II)V"⟩
def dkwX6_calculates_9 : List UInt8 := [180, 0, 237, 154, 0, 7, 33, 167, 0, 4, 9, 80, 177]
abbrev dktX6_calculates_9 : List UInt8 := dkwX6_calculates_9 ++ []
def dkwX6_calculates_8 : List UInt8 := [21, 11, 54, 7, 167, 255, 90, 42, 180, 0, 44, 27, 42, 180, 0, 237, 79, 42, 180, 0, 40, 27, 42]
abbrev dktX6_calculates_8 : List UInt8 := dkwX6_calculates_8 ++ dktX6_calculates_9
def dkwX6_calculates_7 : List UInt8 := [117, 167, 0, 5, 22, 5, 97, 66, 42, 33, 184, 0, 247, 153, 0, 7, 6, 167, 0, 4, 3, 181, 0, 237]
abbrev dktX6_calculates_7 : List UInt8 := dkwX6_calculates_7 ++ dktX6_calculates_8
def dkwX6_calculates_6 : List UInt8 := [54, 8, 21, 8, 153, 0, 48, 42, 180, 0, 237, 154, 0, 41, 33, 21, 7, 16, 254, 160, 0, 9, 22, 5]
abbrev dktX6_calculates_6 : List UInt8 := dkwX6_calculates_6 ++ dktX6_calculates_7
def dkwX6_calculates_5 : List UInt8 := [182, 0, 105, 167, 0, 4, 2, 54, 11, 132, 10, 1, 21, 11, 16, 253, 159, 0, 7, 4, 167, 0, 4, 3]
abbrev dktX6_calculates_5 : List UInt8 := dkwX6_calculates_5 ++ dktX6_calculates_6
def dkwX6_calculates_4 : List UInt8 := [167, 0, 7, 42, 180, 0, 237, 181, 0, 237, 21, 10, 21, 9, 162, 0, 16, 42, 28, 16, 8, 21, 10, 96]
abbrev dktX6_calculates_4 : List UInt8 := dkwX6_calculates_4 ++ dktX6_calculates_5
def dkwX6_calculates_3 : List UInt8 := [55, 5, 42, 42, 180, 0, 237, 154, 0, 20, 21, 8, 154, 0, 15, 22, 5, 184, 0, 247, 153, 0, 7, 6]
abbrev dktX6_calculates_3 : List UInt8 := dkwX6_calculates_3 ++ dktX6_calculates_4
def dkwX6_calculates_2 : List UInt8 := [182, 0, 254, 54, 10, 21, 8, 153, 0, 10, 42, 180, 0, 240, 167, 0, 10, 22, 5, 42, 180, 0, 240, 105]
abbrev dktX6_calculates_2 : List UInt8 := dkwX6_calculates_2 ++ dktX6_calculates_3
def dkwX6_calculates_1 : List UInt8 := [54, 9, 3, 54, 10, 21, 10, 21, 9, 162, 0, 165, 42, 180, 0, 237, 154, 0, 158, 42, 28, 21, 10]
abbrev dktX6_calculates_1 : List UInt8 := dkwX6_calculates_1 ++ dktX6_calculates_2
def dkwX6_calculates_0 : List UInt8 := [42, 3, 181, 0, 237, 9, 66, 10, 55, 5, 2, 54, 7, 4, 54, 8, 42, 28, 16, 7, 182, 0, 105]
abbrev dktX6_calculates_0 : List UInt8 := dkwX6_calculates_0 ++ dktX6_calculates_1
theorem dksX6_calculates_0 : cX6_calculates.data.toList.drop 0 = dktX6_calculates_0 := by decide +kernel
theorem dksX6_calculates_1 : cX6_calculates.data.toList.drop 23 = dktX6_calculates_1 := dk_seg dksX6_calculates_0 23 rfl rfl
theorem dksX6_calculates_2 : cX6_calculates.data.toList.drop 46 = dktX6_calculates_2 := dk_seg dksX6_calculates_1 23 rfl rfl
theorem dksX6_calculates_3 : cX6_calculates.data.toList.drop 70 = dktX6_calculates_3 := dk_seg dksX6_calculates_2 24 rfl rfl
theorem dksX6_calculates_4 : cX6_calculates.data.toList.drop 94 = dktX6_calculates_4 := dk_seg dksX6_calculates_3 24 rfl rfl
theorem dksX6_calculates_5 : cX6_calculates.data.toList.drop 118 = dktX6_calculates_5 := dk_seg dksX6_calculates_4 24 rfl rfl
theorem dksX6_calculates_6 : cX6_calculates.data.toList.drop 142 = dktX6_calculates_6 := dk_seg dksX6_calculates_5 24 rfl rfl
theorem dksX6_calculates_7 : cX6_calculates.data.toList.drop 166 = dktX6_calculates_7 := dk_seg dksX6_calculates_6 24 rfl rfl
theorem dksX6_calculates_8 : cX6_calculates.data.toList.drop 190 = dktX6_calculates_8 := dk_seg dksX6_calculates_7 24 rfl rfl
theorem dksX6_calculates_9 : cX6_calculates.data.toList.drop 213 = dktX6_calculates_9 := dk_seg dksX6_calculates_8 23 rfl rfl
theorem dX6_calculates_0 : decode cX6_calculates 0 = .ok (.aload_n 0, 1) := dk_42 (dk_at dksX6_calculates_0 0 rfl rfl)
theorem dX6_calculates_1 : decode cX6_calculates 1 = .ok (.iconst 0, 1) := dk_3 (dk_at dksX6_calculates_0 1 rfl rfl)
theorem dX6_calculates_2 : decode cX6_calculates 2 = .ok (.putfield 237, 3) := dk_181 0 237 (dk_at dksX6_calculates_0 2 rfl rfl)
theorem dX6_calculates_5 : decode cX6_calculates 5 = .ok (.lconst 0, 1) := dk_9 (dk_at dksX6_calculates_0 5 rfl rfl)
theorem dX6_calculates_6 : decode cX6_calculates 6 = .ok (.lstore_n 3, 1) := dk_66 (dk_at dksX6_calculates_0 6 rfl rfl)
theorem dX6_calculates_7 : decode cX6_calculates 7 = .ok (.lconst 1, 1) := dk_10 (dk_at dksX6_calculates_0 7 rfl rfl)
theorem dX6_calculates_8 : decode cX6_calculates 8 = .ok (.lstore 5, 2) := dk_55 5 (dk_at dksX6_calculates_0 8 rfl rfl)
theorem dX6_calculates_10 : decode cX6_calculates 10 = .ok (.iconst (-1), 1) := dk_2 (dk_at dksX6_calculates_0 10 rfl rfl)
theorem dX6_calculates_11 : decode cX6_calculates 11 = .ok (.istore 7, 2) := dk_54 7 (dk_at dksX6_calculates_0 11 rfl rfl)
theorem dX6_calculates_13 : decode cX6_calculates 13 = .ok (.iconst 1, 1) := dk_4 (dk_at dksX6_calculates_0 13 rfl rfl)
theorem dX6_calculates_14 : decode cX6_calculates 14 = .ok (.istore 8, 2) := dk_54 8 (dk_at dksX6_calculates_0 14 rfl rfl)
theorem dX6_calculates_16 : decode cX6_calculates 16 = .ok (.aload_n 0, 1) := dk_42 (dk_at dksX6_calculates_0 16 rfl rfl)
theorem dX6_calculates_17 : decode cX6_calculates 17 = .ok (.iload_n 2, 1) := dk_28 (dk_at dksX6_calculates_0 17 rfl rfl)
theorem dX6_calculates_18 : decode cX6_calculates 18 = .ok (.bipush 7, 2) := dk_16 7 (dk_at dksX6_calculates_0 18 rfl rfl)
theorem dX6_calculates_20 : decode cX6_calculates 20 = .ok (.invokevirtual 105, 3) := dk_182 0 105 (dk_at dksX6_calculates_0 20 rfl rfl)
theorem dX6_calculates_23 : decode cX6_calculates 23 = .ok (.istore 9, 2) := dk_54 9 (dk_at dksX6_calculates_1 0 rfl rfl)
theorem dX6_calculates_25 : decode cX6_calculates 25 = .ok (.iconst 0, 1) := dk_3 (dk_at dksX6_calculates_1 2 rfl rfl)
theorem dX6_calculates_26 : decode cX6_calculates 26 = .ok (.istore 10, 2) := dk_54 10 (dk_at dksX6_calculates_1 3 rfl rfl)
theorem dX6_calculates_28 : decode cX6_calculates 28 = .ok (.iload 10, 2) := dk_21 10 (dk_at dksX6_calculates_1 5 rfl rfl)
theorem dX6_calculates_30 : decode cX6_calculates 30 = .ok (.iload 9, 2) := dk_21 9 (dk_at dksX6_calculates_1 7 rfl rfl)
theorem dX6_calculates_32 : decode cX6_calculates 32 = .ok (.if_icmp .ge 165, 3) := dk_162 0 165 (dk_at dksX6_calculates_1 9 rfl rfl)
theorem dX6_calculates_35 : decode cX6_calculates 35 = .ok (.aload_n 0, 1) := dk_42 (dk_at dksX6_calculates_1 12 rfl rfl)
theorem dX6_calculates_36 : decode cX6_calculates 36 = .ok (.getfield 237, 3) := dk_180 0 237 (dk_at dksX6_calculates_1 13 rfl rfl)
theorem dX6_calculates_39 : decode cX6_calculates 39 = .ok (.ifCond .ne 158, 3) := dk_154 0 158 (dk_at dksX6_calculates_1 16 rfl rfl)
theorem dX6_calculates_42 : decode cX6_calculates 42 = .ok (.aload_n 0, 1) := dk_42 (dk_at dksX6_calculates_1 19 rfl rfl)
theorem dX6_calculates_43 : decode cX6_calculates 43 = .ok (.iload_n 2, 1) := dk_28 (dk_at dksX6_calculates_1 20 rfl rfl)
theorem dX6_calculates_44 : decode cX6_calculates 44 = .ok (.iload 10, 2) := dk_21 10 (dk_at dksX6_calculates_1 21 rfl rfl)
theorem dX6_calculates_46 : decode cX6_calculates 46 = .ok (.invokevirtual 254, 3) := dk_182 0 254 (dk_at dksX6_calculates_2 0 rfl rfl)
theorem dX6_calculates_49 : decode cX6_calculates 49 = .ok (.istore 10, 2) := dk_54 10 (dk_at dksX6_calculates_2 3 rfl rfl)
theorem dX6_calculates_51 : decode cX6_calculates 51 = .ok (.iload 8, 2) := dk_21 8 (dk_at dksX6_calculates_2 5 rfl rfl)
theorem dX6_calculates_53 : decode cX6_calculates 53 = .ok (.ifCond .eq 10, 3) := dk_153 0 10 (dk_at dksX6_calculates_2 7 rfl rfl)
theorem dX6_calculates_56 : decode cX6_calculates 56 = .ok (.aload_n 0, 1) := dk_42 (dk_at dksX6_calculates_2 10 rfl rfl)
theorem dX6_calculates_57 : decode cX6_calculates 57 = .ok (.getfield 240, 3) := dk_180 0 240 (dk_at dksX6_calculates_2 11 rfl rfl)
theorem dX6_calculates_60 : decode cX6_calculates 60 = .ok (.goto 10, 3) := dk_167 0 10 (dk_at dksX6_calculates_2 14 rfl rfl)
theorem dX6_calculates_63 : decode cX6_calculates 63 = .ok (.lload 5, 2) := dk_22 5 (dk_at dksX6_calculates_2 17 rfl rfl)
theorem dX6_calculates_65 : decode cX6_calculates 65 = .ok (.aload_n 0, 1) := dk_42 (dk_at dksX6_calculates_2 19 rfl rfl)
theorem dX6_calculates_66 : decode cX6_calculates 66 = .ok (.getfield 240, 3) := dk_180 0 240 (dk_at dksX6_calculates_2 20 rfl rfl)
theorem dX6_calculates_69 : decode cX6_calculates 69 = .ok (.lmul, 1) := dk_105 (dk_at dksX6_calculates_2 23 rfl rfl)
theorem dX6_calculates_70 : decode cX6_calculates 70 = .ok (.lstore 5, 2) := dk_55 5 (dk_at dksX6_calculates_3 0 rfl rfl)
theorem dX6_calculates_72 : decode cX6_calculates 72 = .ok (.aload_n 0, 1) := dk_42 (dk_at dksX6_calculates_3 2 rfl rfl)
theorem dX6_calculates_73 : decode cX6_calculates 73 = .ok (.aload_n 0, 1) := dk_42 (dk_at dksX6_calculates_3 3 rfl rfl)
theorem dX6_calculates_74 : decode cX6_calculates 74 = .ok (.getfield 237, 3) := dk_180 0 237 (dk_at dksX6_calculates_3 4 rfl rfl)
theorem dX6_calculates_77 : decode cX6_calculates 77 = .ok (.ifCond .ne 20, 3) := dk_154 0 20 (dk_at dksX6_calculates_3 7 rfl rfl)
theorem dX6_calculates_80 : decode cX6_calculates 80 = .ok (.iload 8, 2) := dk_21 8 (dk_at dksX6_calculates_3 10 rfl rfl)
theorem dX6_calculates_82 : decode cX6_calculates 82 = .ok (.ifCond .ne 15, 3) := dk_154 0 15 (dk_at dksX6_calculates_3 12 rfl rfl)
theorem dX6_calculates_85 : decode cX6_calculates 85 = .ok (.lload 5, 2) := dk_22 5 (dk_at dksX6_calculates_3 15 rfl rfl)
theorem dX6_calculates_87 : decode cX6_calculates 87 = .ok (.invokestatic 247, 3) := dk_184 0 247 (dk_at dksX6_calculates_3 17 rfl rfl)
theorem dX6_calculates_90 : decode cX6_calculates 90 = .ok (.ifCond .eq 7, 3) := dk_153 0 7 (dk_at dksX6_calculates_3 20 rfl rfl)
theorem dX6_calculates_93 : decode cX6_calculates 93 = .ok (.iconst 3, 1) := dk_6 (dk_at dksX6_calculates_3 23 rfl rfl)
theorem dX6_calculates_94 : decode cX6_calculates 94 = .ok (.goto 7, 3) := dk_167 0 7 (dk_at dksX6_calculates_4 0 rfl rfl)
theorem dX6_calculates_97 : decode cX6_calculates 97 = .ok (.aload_n 0, 1) := dk_42 (dk_at dksX6_calculates_4 3 rfl rfl)
theorem dX6_calculates_98 : decode cX6_calculates 98 = .ok (.getfield 237, 3) := dk_180 0 237 (dk_at dksX6_calculates_4 4 rfl rfl)
theorem dX6_calculates_101 : decode cX6_calculates 101 = .ok (.putfield 237, 3) := dk_181 0 237 (dk_at dksX6_calculates_4 7 rfl rfl)
theorem dX6_calculates_104 : decode cX6_calculates 104 = .ok (.iload 10, 2) := dk_21 10 (dk_at dksX6_calculates_4 10 rfl rfl)
theorem dX6_calculates_106 : decode cX6_calculates 106 = .ok (.iload 9, 2) := dk_21 9 (dk_at dksX6_calculates_4 12 rfl rfl)
theorem dX6_calculates_108 : decode cX6_calculates 108 = .ok (.if_icmp .ge 16, 3) := dk_162 0 16 (dk_at dksX6_calculates_4 14 rfl rfl)
theorem dX6_calculates_111 : decode cX6_calculates 111 = .ok (.aload_n 0, 1) := dk_42 (dk_at dksX6_calculates_4 17 rfl rfl)
theorem dX6_calculates_112 : decode cX6_calculates 112 = .ok (.iload_n 2, 1) := dk_28 (dk_at dksX6_calculates_4 18 rfl rfl)
theorem dX6_calculates_113 : decode cX6_calculates 113 = .ok (.bipush 8, 2) := dk_16 8 (dk_at dksX6_calculates_4 19 rfl rfl)
theorem dX6_calculates_115 : decode cX6_calculates 115 = .ok (.iload 10, 2) := dk_21 10 (dk_at dksX6_calculates_4 21 rfl rfl)
theorem dX6_calculates_117 : decode cX6_calculates 117 = .ok (.iadd, 1) := dk_96 (dk_at dksX6_calculates_4 23 rfl rfl)
theorem dX6_calculates_118 : decode cX6_calculates 118 = .ok (.invokevirtual 105, 3) := dk_182 0 105 (dk_at dksX6_calculates_5 0 rfl rfl)
theorem dX6_calculates_121 : decode cX6_calculates 121 = .ok (.goto 4, 3) := dk_167 0 4 (dk_at dksX6_calculates_5 3 rfl rfl)
theorem dX6_calculates_124 : decode cX6_calculates 124 = .ok (.iconst (-1), 1) := dk_2 (dk_at dksX6_calculates_5 6 rfl rfl)
theorem dX6_calculates_125 : decode cX6_calculates 125 = .ok (.istore 11, 2) := dk_54 11 (dk_at dksX6_calculates_5 7 rfl rfl)
theorem dX6_calculates_127 : decode cX6_calculates 127 = .ok (.iinc 10 1, 3) := dk_132 10 1 (dk_at dksX6_calculates_5 9 rfl rfl)
theorem dX6_calculates_130 : decode cX6_calculates 130 = .ok (.iload 11, 2) := dk_21 11 (dk_at dksX6_calculates_5 12 rfl rfl)
theorem dX6_calculates_132 : decode cX6_calculates 132 = .ok (.bipush (-3), 2) := dk_16 253 (dk_at dksX6_calculates_5 14 rfl rfl)
theorem dX6_calculates_134 : decode cX6_calculates 134 = .ok (.if_icmp .eq 7, 3) := dk_159 0 7 (dk_at dksX6_calculates_5 16 rfl rfl)
theorem dX6_calculates_137 : decode cX6_calculates 137 = .ok (.iconst 1, 1) := dk_4 (dk_at dksX6_calculates_5 19 rfl rfl)
theorem dX6_calculates_138 : decode cX6_calculates 138 = .ok (.goto 4, 3) := dk_167 0 4 (dk_at dksX6_calculates_5 20 rfl rfl)
theorem dX6_calculates_141 : decode cX6_calculates 141 = .ok (.iconst 0, 1) := dk_3 (dk_at dksX6_calculates_5 23 rfl rfl)
theorem dX6_calculates_142 : decode cX6_calculates 142 = .ok (.istore 8, 2) := dk_54 8 (dk_at dksX6_calculates_6 0 rfl rfl)
theorem dX6_calculates_144 : decode cX6_calculates 144 = .ok (.iload 8, 2) := dk_21 8 (dk_at dksX6_calculates_6 2 rfl rfl)
theorem dX6_calculates_146 : decode cX6_calculates 146 = .ok (.ifCond .eq 48, 3) := dk_153 0 48 (dk_at dksX6_calculates_6 4 rfl rfl)
theorem dX6_calculates_149 : decode cX6_calculates 149 = .ok (.aload_n 0, 1) := dk_42 (dk_at dksX6_calculates_6 7 rfl rfl)
theorem dX6_calculates_150 : decode cX6_calculates 150 = .ok (.getfield 237, 3) := dk_180 0 237 (dk_at dksX6_calculates_6 8 rfl rfl)
theorem dX6_calculates_153 : decode cX6_calculates 153 = .ok (.ifCond .ne 41, 3) := dk_154 0 41 (dk_at dksX6_calculates_6 11 rfl rfl)
theorem dX6_calculates_156 : decode cX6_calculates 156 = .ok (.lload_n 3, 1) := dk_33 (dk_at dksX6_calculates_6 14 rfl rfl)
theorem dX6_calculates_157 : decode cX6_calculates 157 = .ok (.iload 7, 2) := dk_21 7 (dk_at dksX6_calculates_6 15 rfl rfl)
theorem dX6_calculates_159 : decode cX6_calculates 159 = .ok (.bipush (-2), 2) := dk_16 254 (dk_at dksX6_calculates_6 17 rfl rfl)
theorem dX6_calculates_161 : decode cX6_calculates 161 = .ok (.if_icmp .ne 9, 3) := dk_160 0 9 (dk_at dksX6_calculates_6 19 rfl rfl)
theorem dX6_calculates_164 : decode cX6_calculates 164 = .ok (.lload 5, 2) := dk_22 5 (dk_at dksX6_calculates_6 22 rfl rfl)
theorem dX6_calculates_166 : decode cX6_calculates 166 = .ok (.lneg, 1) := dk_117 (dk_at dksX6_calculates_7 0 rfl rfl)
theorem dX6_calculates_167 : decode cX6_calculates 167 = .ok (.goto 5, 3) := dk_167 0 5 (dk_at dksX6_calculates_7 1 rfl rfl)
theorem dX6_calculates_170 : decode cX6_calculates 170 = .ok (.lload 5, 2) := dk_22 5 (dk_at dksX6_calculates_7 4 rfl rfl)
theorem dX6_calculates_172 : decode cX6_calculates 172 = .ok (.ladd, 1) := dk_97 (dk_at dksX6_calculates_7 6 rfl rfl)
theorem dX6_calculates_173 : decode cX6_calculates 173 = .ok (.lstore_n 3, 1) := dk_66 (dk_at dksX6_calculates_7 7 rfl rfl)
theorem dX6_calculates_174 : decode cX6_calculates 174 = .ok (.aload_n 0, 1) := dk_42 (dk_at dksX6_calculates_7 8 rfl rfl)
theorem dX6_calculates_175 : decode cX6_calculates 175 = .ok (.lload_n 3, 1) := dk_33 (dk_at dksX6_calculates_7 9 rfl rfl)
theorem dX6_calculates_176 : decode cX6_calculates 176 = .ok (.invokestatic 247, 3) := dk_184 0 247 (dk_at dksX6_calculates_7 10 rfl rfl)
theorem dX6_calculates_179 : decode cX6_calculates 179 = .ok (.ifCond .eq 7, 3) := dk_153 0 7 (dk_at dksX6_calculates_7 13 rfl rfl)
theorem dX6_calculates_182 : decode cX6_calculates 182 = .ok (.iconst 3, 1) := dk_6 (dk_at dksX6_calculates_7 16 rfl rfl)
theorem dX6_calculates_183 : decode cX6_calculates 183 = .ok (.goto 4, 3) := dk_167 0 4 (dk_at dksX6_calculates_7 17 rfl rfl)
theorem dX6_calculates_186 : decode cX6_calculates 186 = .ok (.iconst 0, 1) := dk_3 (dk_at dksX6_calculates_7 20 rfl rfl)
theorem dX6_calculates_187 : decode cX6_calculates 187 = .ok (.putfield 237, 3) := dk_181 0 237 (dk_at dksX6_calculates_7 21 rfl rfl)
theorem dX6_calculates_190 : decode cX6_calculates 190 = .ok (.iload 11, 2) := dk_21 11 (dk_at dksX6_calculates_8 0 rfl rfl)
theorem dX6_calculates_192 : decode cX6_calculates 192 = .ok (.istore 7, 2) := dk_54 7 (dk_at dksX6_calculates_8 2 rfl rfl)
theorem dX6_calculates_194 : decode cX6_calculates 194 = .ok (.goto (-166), 3) := dk_167 255 90 (dk_at dksX6_calculates_8 4 rfl rfl)
theorem dX6_calculates_197 : decode cX6_calculates 197 = .ok (.aload_n 0, 1) := dk_42 (dk_at dksX6_calculates_8 7 rfl rfl)
theorem dX6_calculates_198 : decode cX6_calculates 198 = .ok (.getfield 44, 3) := dk_180 0 44 (dk_at dksX6_calculates_8 8 rfl rfl)
theorem dX6_calculates_201 : decode cX6_calculates 201 = .ok (.iload_n 1, 1) := dk_27 (dk_at dksX6_calculates_8 11 rfl rfl)
theorem dX6_calculates_202 : decode cX6_calculates 202 = .ok (.aload_n 0, 1) := dk_42 (dk_at dksX6_calculates_8 12 rfl rfl)
theorem dX6_calculates_203 : decode cX6_calculates 203 = .ok (.getfield 237, 3) := dk_180 0 237 (dk_at dksX6_calculates_8 13 rfl rfl)
theorem dX6_calculates_206 : decode cX6_calculates 206 = .ok (.iastore, 1) := dk_79 (dk_at dksX6_calculates_8 16 rfl rfl)
theorem dX6_calculates_207 : decode cX6_calculates 207 = .ok (.aload_n 0, 1) := dk_42 (dk_at dksX6_calculates_8 17 rfl rfl)
theorem dX6_calculates_208 : decode cX6_calculates 208 = .ok (.getfield 40, 3) := dk_180 0 40 (dk_at dksX6_calculates_8 18 rfl rfl)
theorem dX6_calculates_211 : decode cX6_calculates 211 = .ok (.iload_n 1, 1) := dk_27 (dk_at dksX6_calculates_8 21 rfl rfl)
theorem dX6_calculates_212 : decode cX6_calculates 212 = .ok (.aload_n 0, 1) := dk_42 (dk_at dksX6_calculates_8 22 rfl rfl)
theorem dX6_calculates_213 : decode cX6_calculates 213 = .ok (.getfield 237, 3) := dk_180 0 237 (dk_at dksX6_calculates_9 0 rfl rfl)
theorem dX6_calculates_216 : decode cX6_calculates 216 = .ok (.ifCond .ne 7, 3) := dk_154 0 7 (dk_at dksX6_calculates_9 3 rfl rfl)
theorem dX6_calculates_219 : decode cX6_calculates 219 = .ok (.lload_n 3, 1) := dk_33 (dk_at dksX6_calculates_9 6 rfl rfl)
theorem dX6_calculates_220 : decode cX6_calculates 220 = .ok (.goto 4, 3) := dk_167 0 4 (dk_at dksX6_calculates_9 7 rfl rfl)
theorem dX6_calculates_223 : decode cX6_calculates 223 = .ok (.lconst 0, 1) := dk_9 (dk_at dksX6_calculates_9 10 rfl rfl)
theorem dX6_calculates_224 : decode cX6_calculates 224 = .ok (.lastore, 1) := dk_80 (dk_at dksX6_calculates_9 11 rfl rfl)
theorem dX6_calculates_225 : decode cX6_calculates 225 = .ok (.return_, 1) := dk_177 (dk_at dksX6_calculates_9 12 rfl rfl)
abbrev cX6_reckons : ByteArray := prog_15_method_56_code
def yX6_reckons : MethodName := ⟨RX6, "reckons", "(II)I"⟩
def dkwX6_reckons_5 : List UInt8 := [172]
abbrev dktX6_reckons_5 : List UInt8 := dkwX6_reckons_5 ++ []
def dkwX6_reckons_4 : List UInt8 := [161, 0, 15, 42, 42, 29, 182, 0, 199, 182, 0, 244, 167, 0, 9, 42, 29, 133, 181, 0, 240, 28, 4, 96]
abbrev dktX6_reckons_4 : List UInt8 := dkwX6_reckons_4 ++ dktX6_reckons_5
def dkwX6_reckons_3 : List UInt8 := [180, 0, 237, 154, 0, 11, 42, 21, 4, 21, 5, 182, 0, 251, 28, 6, 96, 172, 29, 17, 39, 16]
abbrev dktX6_reckons_3 : List UInt8 := dkwX6_reckons_3 ++ dktX6_reckons_4
def dkwX6_reckons_2 : List UInt8 := [54, 5, 42, 21, 4, 2, 159, 0, 9, 21, 5, 2, 160, 0, 7, 5, 167, 0, 4, 3, 181, 0, 237, 42]
abbrev dktX6_reckons_2 : List UInt8 := dkwX6_reckons_2 ++ dktX6_reckons_3
def dkwX6_reckons_1 : List UInt8 := [96, 182, 0, 105, 182, 0, 199, 54, 4, 42, 42, 27, 16, 8, 28, 96, 5, 96, 182, 0, 105, 182, 0, 199]
abbrev dktX6_reckons_1 : List UInt8 := dkwX6_reckons_1 ++ dktX6_reckons_2
def dkwX6_reckons_0 : List UInt8 := [42, 27, 16, 8, 28, 96, 182, 0, 105, 62, 29, 16, 252, 160, 0, 77, 42, 42, 27, 16, 8, 28, 96, 4]
abbrev dktX6_reckons_0 : List UInt8 := dkwX6_reckons_0 ++ dktX6_reckons_1
theorem dksX6_reckons_0 : cX6_reckons.data.toList.drop 0 = dktX6_reckons_0 := by decide +kernel
theorem dksX6_reckons_1 : cX6_reckons.data.toList.drop 24 = dktX6_reckons_1 := dk_seg dksX6_reckons_0 24 rfl rfl
theorem dksX6_reckons_2 : cX6_reckons.data.toList.drop 48 = dktX6_reckons_2 := dk_seg dksX6_reckons_1 24 rfl rfl
theorem dksX6_reckons_3 : cX6_reckons.data.toList.drop 72 = dktX6_reckons_3 := dk_seg dksX6_reckons_2 24 rfl rfl
theorem dksX6_reckons_4 : cX6_reckons.data.toList.drop 94 = dktX6_reckons_4 := dk_seg dksX6_reckons_3 22 rfl rfl
theorem dksX6_reckons_5 : cX6_reckons.data.toList.drop 118 = dktX6_reckons_5 := dk_seg dksX6_reckons_4 24 rfl rfl
theorem dX6_reckons_0 : decode cX6_reckons 0 = .ok (.aload_n 0, 1) := dk_42 (dk_at dksX6_reckons_0 0 rfl rfl)
theorem dX6_reckons_1 : decode cX6_reckons 1 = .ok (.iload_n 1, 1) := dk_27 (dk_at dksX6_reckons_0 1 rfl rfl)
theorem dX6_reckons_2 : decode cX6_reckons 2 = .ok (.bipush 8, 2) := dk_16 8 (dk_at dksX6_reckons_0 2 rfl rfl)
theorem dX6_reckons_4 : decode cX6_reckons 4 = .ok (.iload_n 2, 1) := dk_28 (dk_at dksX6_reckons_0 4 rfl rfl)
theorem dX6_reckons_5 : decode cX6_reckons 5 = .ok (.iadd, 1) := dk_96 (dk_at dksX6_reckons_0 5 rfl rfl)
theorem dX6_reckons_6 : decode cX6_reckons 6 = .ok (.invokevirtual 105, 3) := dk_182 0 105 (dk_at dksX6_reckons_0 6 rfl rfl)
theorem dX6_reckons_9 : decode cX6_reckons 9 = .ok (.istore_n 3, 1) := dk_62 (dk_at dksX6_reckons_0 9 rfl rfl)
theorem dX6_reckons_10 : decode cX6_reckons 10 = .ok (.iload_n 3, 1) := dk_29 (dk_at dksX6_reckons_0 10 rfl rfl)
theorem dX6_reckons_11 : decode cX6_reckons 11 = .ok (.bipush (-4), 2) := dk_16 252 (dk_at dksX6_reckons_0 11 rfl rfl)
theorem dX6_reckons_13 : decode cX6_reckons 13 = .ok (.if_icmp .ne 77, 3) := dk_160 0 77 (dk_at dksX6_reckons_0 13 rfl rfl)
theorem dX6_reckons_16 : decode cX6_reckons 16 = .ok (.aload_n 0, 1) := dk_42 (dk_at dksX6_reckons_0 16 rfl rfl)
theorem dX6_reckons_17 : decode cX6_reckons 17 = .ok (.aload_n 0, 1) := dk_42 (dk_at dksX6_reckons_0 17 rfl rfl)
theorem dX6_reckons_18 : decode cX6_reckons 18 = .ok (.iload_n 1, 1) := dk_27 (dk_at dksX6_reckons_0 18 rfl rfl)
theorem dX6_reckons_19 : decode cX6_reckons 19 = .ok (.bipush 8, 2) := dk_16 8 (dk_at dksX6_reckons_0 19 rfl rfl)
theorem dX6_reckons_21 : decode cX6_reckons 21 = .ok (.iload_n 2, 1) := dk_28 (dk_at dksX6_reckons_0 21 rfl rfl)
theorem dX6_reckons_22 : decode cX6_reckons 22 = .ok (.iadd, 1) := dk_96 (dk_at dksX6_reckons_0 22 rfl rfl)
theorem dX6_reckons_23 : decode cX6_reckons 23 = .ok (.iconst 1, 1) := dk_4 (dk_at dksX6_reckons_0 23 rfl rfl)
theorem dX6_reckons_24 : decode cX6_reckons 24 = .ok (.iadd, 1) := dk_96 (dk_at dksX6_reckons_1 0 rfl rfl)
theorem dX6_reckons_25 : decode cX6_reckons 25 = .ok (.invokevirtual 105, 3) := dk_182 0 105 (dk_at dksX6_reckons_1 1 rfl rfl)
theorem dX6_reckons_28 : decode cX6_reckons 28 = .ok (.invokevirtual 199, 3) := dk_182 0 199 (dk_at dksX6_reckons_1 4 rfl rfl)
theorem dX6_reckons_31 : decode cX6_reckons 31 = .ok (.istore 4, 2) := dk_54 4 (dk_at dksX6_reckons_1 7 rfl rfl)
theorem dX6_reckons_33 : decode cX6_reckons 33 = .ok (.aload_n 0, 1) := dk_42 (dk_at dksX6_reckons_1 9 rfl rfl)
theorem dX6_reckons_34 : decode cX6_reckons 34 = .ok (.aload_n 0, 1) := dk_42 (dk_at dksX6_reckons_1 10 rfl rfl)
theorem dX6_reckons_35 : decode cX6_reckons 35 = .ok (.iload_n 1, 1) := dk_27 (dk_at dksX6_reckons_1 11 rfl rfl)
theorem dX6_reckons_36 : decode cX6_reckons 36 = .ok (.bipush 8, 2) := dk_16 8 (dk_at dksX6_reckons_1 12 rfl rfl)
theorem dX6_reckons_38 : decode cX6_reckons 38 = .ok (.iload_n 2, 1) := dk_28 (dk_at dksX6_reckons_1 14 rfl rfl)
theorem dX6_reckons_39 : decode cX6_reckons 39 = .ok (.iadd, 1) := dk_96 (dk_at dksX6_reckons_1 15 rfl rfl)
theorem dX6_reckons_40 : decode cX6_reckons 40 = .ok (.iconst 2, 1) := dk_5 (dk_at dksX6_reckons_1 16 rfl rfl)
theorem dX6_reckons_41 : decode cX6_reckons 41 = .ok (.iadd, 1) := dk_96 (dk_at dksX6_reckons_1 17 rfl rfl)
theorem dX6_reckons_42 : decode cX6_reckons 42 = .ok (.invokevirtual 105, 3) := dk_182 0 105 (dk_at dksX6_reckons_1 18 rfl rfl)
theorem dX6_reckons_45 : decode cX6_reckons 45 = .ok (.invokevirtual 199, 3) := dk_182 0 199 (dk_at dksX6_reckons_1 21 rfl rfl)
theorem dX6_reckons_48 : decode cX6_reckons 48 = .ok (.istore 5, 2) := dk_54 5 (dk_at dksX6_reckons_2 0 rfl rfl)
theorem dX6_reckons_50 : decode cX6_reckons 50 = .ok (.aload_n 0, 1) := dk_42 (dk_at dksX6_reckons_2 2 rfl rfl)
theorem dX6_reckons_51 : decode cX6_reckons 51 = .ok (.iload 4, 2) := dk_21 4 (dk_at dksX6_reckons_2 3 rfl rfl)
theorem dX6_reckons_53 : decode cX6_reckons 53 = .ok (.iconst (-1), 1) := dk_2 (dk_at dksX6_reckons_2 5 rfl rfl)
theorem dX6_reckons_54 : decode cX6_reckons 54 = .ok (.if_icmp .eq 9, 3) := dk_159 0 9 (dk_at dksX6_reckons_2 6 rfl rfl)
theorem dX6_reckons_57 : decode cX6_reckons 57 = .ok (.iload 5, 2) := dk_21 5 (dk_at dksX6_reckons_2 9 rfl rfl)
theorem dX6_reckons_59 : decode cX6_reckons 59 = .ok (.iconst (-1), 1) := dk_2 (dk_at dksX6_reckons_2 11 rfl rfl)
theorem dX6_reckons_60 : decode cX6_reckons 60 = .ok (.if_icmp .ne 7, 3) := dk_160 0 7 (dk_at dksX6_reckons_2 12 rfl rfl)
theorem dX6_reckons_63 : decode cX6_reckons 63 = .ok (.iconst 2, 1) := dk_5 (dk_at dksX6_reckons_2 15 rfl rfl)
theorem dX6_reckons_64 : decode cX6_reckons 64 = .ok (.goto 4, 3) := dk_167 0 4 (dk_at dksX6_reckons_2 16 rfl rfl)
theorem dX6_reckons_67 : decode cX6_reckons 67 = .ok (.iconst 0, 1) := dk_3 (dk_at dksX6_reckons_2 19 rfl rfl)
theorem dX6_reckons_68 : decode cX6_reckons 68 = .ok (.putfield 237, 3) := dk_181 0 237 (dk_at dksX6_reckons_2 20 rfl rfl)
theorem dX6_reckons_71 : decode cX6_reckons 71 = .ok (.aload_n 0, 1) := dk_42 (dk_at dksX6_reckons_2 23 rfl rfl)
theorem dX6_reckons_72 : decode cX6_reckons 72 = .ok (.getfield 237, 3) := dk_180 0 237 (dk_at dksX6_reckons_3 0 rfl rfl)
theorem dX6_reckons_75 : decode cX6_reckons 75 = .ok (.ifCond .ne 11, 3) := dk_154 0 11 (dk_at dksX6_reckons_3 3 rfl rfl)
theorem dX6_reckons_78 : decode cX6_reckons 78 = .ok (.aload_n 0, 1) := dk_42 (dk_at dksX6_reckons_3 6 rfl rfl)
theorem dX6_reckons_79 : decode cX6_reckons 79 = .ok (.iload 4, 2) := dk_21 4 (dk_at dksX6_reckons_3 7 rfl rfl)
theorem dX6_reckons_81 : decode cX6_reckons 81 = .ok (.iload 5, 2) := dk_21 5 (dk_at dksX6_reckons_3 9 rfl rfl)
theorem dX6_reckons_83 : decode cX6_reckons 83 = .ok (.invokevirtual 251, 3) := dk_182 0 251 (dk_at dksX6_reckons_3 11 rfl rfl)
theorem dX6_reckons_86 : decode cX6_reckons 86 = .ok (.iload_n 2, 1) := dk_28 (dk_at dksX6_reckons_3 14 rfl rfl)
theorem dX6_reckons_87 : decode cX6_reckons 87 = .ok (.iconst 3, 1) := dk_6 (dk_at dksX6_reckons_3 15 rfl rfl)
theorem dX6_reckons_88 : decode cX6_reckons 88 = .ok (.iadd, 1) := dk_96 (dk_at dksX6_reckons_3 16 rfl rfl)
theorem dX6_reckons_89 : decode cX6_reckons 89 = .ok (.ireturn, 1) := dk_172 (dk_at dksX6_reckons_3 17 rfl rfl)
theorem dX6_reckons_90 : decode cX6_reckons 90 = .ok (.iload_n 3, 1) := dk_29 (dk_at dksX6_reckons_3 18 rfl rfl)
theorem dX6_reckons_91 : decode cX6_reckons 91 = .ok (.sipush 10000, 3) := dk_17 39 16 (dk_at dksX6_reckons_3 19 rfl rfl)
theorem dX6_reckons_94 : decode cX6_reckons 94 = .ok (.if_icmp .lt 15, 3) := dk_161 0 15 (dk_at dksX6_reckons_4 0 rfl rfl)
theorem dX6_reckons_97 : decode cX6_reckons 97 = .ok (.aload_n 0, 1) := dk_42 (dk_at dksX6_reckons_4 3 rfl rfl)
theorem dX6_reckons_98 : decode cX6_reckons 98 = .ok (.aload_n 0, 1) := dk_42 (dk_at dksX6_reckons_4 4 rfl rfl)
theorem dX6_reckons_99 : decode cX6_reckons 99 = .ok (.iload_n 3, 1) := dk_29 (dk_at dksX6_reckons_4 5 rfl rfl)
theorem dX6_reckons_100 : decode cX6_reckons 100 = .ok (.invokevirtual 199, 3) := dk_182 0 199 (dk_at dksX6_reckons_4 6 rfl rfl)
theorem dX6_reckons_103 : decode cX6_reckons 103 = .ok (.invokevirtual 244, 3) := dk_182 0 244 (dk_at dksX6_reckons_4 9 rfl rfl)
theorem dX6_reckons_106 : decode cX6_reckons 106 = .ok (.goto 9, 3) := dk_167 0 9 (dk_at dksX6_reckons_4 12 rfl rfl)
theorem dX6_reckons_109 : decode cX6_reckons 109 = .ok (.aload_n 0, 1) := dk_42 (dk_at dksX6_reckons_4 15 rfl rfl)
theorem dX6_reckons_110 : decode cX6_reckons 110 = .ok (.iload_n 3, 1) := dk_29 (dk_at dksX6_reckons_4 16 rfl rfl)
theorem dX6_reckons_111 : decode cX6_reckons 111 = .ok (.i2l, 1) := dk_133 (dk_at dksX6_reckons_4 17 rfl rfl)
theorem dX6_reckons_112 : decode cX6_reckons 112 = .ok (.putfield 240, 3) := dk_181 0 240 (dk_at dksX6_reckons_4 18 rfl rfl)
theorem dX6_reckons_115 : decode cX6_reckons 115 = .ok (.iload_n 2, 1) := dk_28 (dk_at dksX6_reckons_4 21 rfl rfl)
theorem dX6_reckons_116 : decode cX6_reckons 116 = .ok (.iconst 1, 1) := dk_4 (dk_at dksX6_reckons_4 22 rfl rfl)
theorem dX6_reckons_117 : decode cX6_reckons 117 = .ok (.iadd, 1) := dk_96 (dk_at dksX6_reckons_4 23 rfl rfl)
theorem dX6_reckons_118 : decode cX6_reckons 118 = .ok (.ireturn, 1) := dk_172 (dk_at dksX6_reckons_5 0 rfl rfl)
abbrev cX6_sums : ByteArray := prog_15_method_55_code
def yX6_sums : MethodName := ⟨RX6, "sums", "(II)V"⟩
def dkwX6_sums_6 : List UInt8 := [132, 5, 1, 167, 255, 132, 42, 33, 181, 0, 240, 177]
abbrev dktX6_sums_6 : List UInt8 := dkwX6_sums_6 ++ []
def dkwX6_sums_5 : List UInt8 := [184, 0, 247, 153, 0, 7, 6, 167, 0, 7, 42, 180, 0, 237, 181, 0, 237, 132, 6, 1, 167, 255, 174]
abbrev dktX6_sums_5 : List UInt8 := dkwX6_sums_5 ++ dktX6_sums_6
def dkwX6_sums_4 : List UInt8 := [154, 0, 10, 42, 180, 0, 240, 167, 0, 4, 9, 97, 66, 42, 42, 180, 0, 237, 154, 0, 14, 33]
abbrev dktX6_sums_4 : List UInt8 := dkwX6_sums_4 ++ dktX6_sums_5
def dkwX6_sums_3 : List UInt8 := [180, 0, 237, 154, 0, 65, 42, 16, 12, 21, 5, 104, 21, 6, 96, 182, 0, 244, 33, 42, 180, 0, 237]
abbrev dktX6_sums_3 : List UInt8 := dkwX6_sums_3 ++ dktX6_sums_4
def dkwX6_sums_2 : List UInt8 := [184, 0, 205, 54, 6, 21, 6, 27, 16, 12, 112, 28, 16, 12, 112, 184, 0, 208, 163, 0, 72, 42]
abbrev dktX6_sums_2 : List UInt8 := dkwX6_sums_2 ++ dktX6_sums_3
def dkwX6_sums_1 : List UInt8 := [108, 184, 0, 208, 163, 0, 114, 42, 180, 0, 237, 154, 0, 107, 27, 16, 12, 112, 28, 16, 12, 112]
abbrev dktX6_sums_1 : List UInt8 := dkwX6_sums_1 ++ dktX6_sums_2
def dkwX6_sums_0 : List UInt8 := [9, 66, 27, 16, 12, 108, 28, 16, 12, 108, 184, 0, 205, 54, 5, 21, 5, 27, 16, 12, 108, 28, 16, 12]
abbrev dktX6_sums_0 : List UInt8 := dkwX6_sums_0 ++ dktX6_sums_1
theorem dksX6_sums_0 : cX6_sums.data.toList.drop 0 = dktX6_sums_0 := by decide +kernel
theorem dksX6_sums_1 : cX6_sums.data.toList.drop 24 = dktX6_sums_1 := dk_seg dksX6_sums_0 24 rfl rfl
theorem dksX6_sums_2 : cX6_sums.data.toList.drop 46 = dktX6_sums_2 := dk_seg dksX6_sums_1 22 rfl rfl
theorem dksX6_sums_3 : cX6_sums.data.toList.drop 68 = dktX6_sums_3 := dk_seg dksX6_sums_2 22 rfl rfl
theorem dksX6_sums_4 : cX6_sums.data.toList.drop 91 = dktX6_sums_4 := dk_seg dksX6_sums_3 23 rfl rfl
theorem dksX6_sums_5 : cX6_sums.data.toList.drop 113 = dktX6_sums_5 := dk_seg dksX6_sums_4 22 rfl rfl
theorem dksX6_sums_6 : cX6_sums.data.toList.drop 136 = dktX6_sums_6 := dk_seg dksX6_sums_5 23 rfl rfl
theorem dX6_sums_0 : decode cX6_sums 0 = .ok (.lconst 0, 1) := dk_9 (dk_at dksX6_sums_0 0 rfl rfl)
theorem dX6_sums_1 : decode cX6_sums 1 = .ok (.lstore_n 3, 1) := dk_66 (dk_at dksX6_sums_0 1 rfl rfl)
theorem dX6_sums_2 : decode cX6_sums 2 = .ok (.iload_n 1, 1) := dk_27 (dk_at dksX6_sums_0 2 rfl rfl)
theorem dX6_sums_3 : decode cX6_sums 3 = .ok (.bipush 12, 2) := dk_16 12 (dk_at dksX6_sums_0 3 rfl rfl)
theorem dX6_sums_5 : decode cX6_sums 5 = .ok (.idiv, 1) := dk_108 (dk_at dksX6_sums_0 5 rfl rfl)
theorem dX6_sums_6 : decode cX6_sums 6 = .ok (.iload_n 2, 1) := dk_28 (dk_at dksX6_sums_0 6 rfl rfl)
theorem dX6_sums_7 : decode cX6_sums 7 = .ok (.bipush 12, 2) := dk_16 12 (dk_at dksX6_sums_0 7 rfl rfl)
theorem dX6_sums_9 : decode cX6_sums 9 = .ok (.idiv, 1) := dk_108 (dk_at dksX6_sums_0 9 rfl rfl)
theorem dX6_sums_10 : decode cX6_sums 10 = .ok (.invokestatic 205, 3) := dk_184 0 205 (dk_at dksX6_sums_0 10 rfl rfl)
theorem dX6_sums_13 : decode cX6_sums 13 = .ok (.istore 5, 2) := dk_54 5 (dk_at dksX6_sums_0 13 rfl rfl)
theorem dX6_sums_15 : decode cX6_sums 15 = .ok (.iload 5, 2) := dk_21 5 (dk_at dksX6_sums_0 15 rfl rfl)
theorem dX6_sums_17 : decode cX6_sums 17 = .ok (.iload_n 1, 1) := dk_27 (dk_at dksX6_sums_0 17 rfl rfl)
theorem dX6_sums_18 : decode cX6_sums 18 = .ok (.bipush 12, 2) := dk_16 12 (dk_at dksX6_sums_0 18 rfl rfl)
theorem dX6_sums_20 : decode cX6_sums 20 = .ok (.idiv, 1) := dk_108 (dk_at dksX6_sums_0 20 rfl rfl)
theorem dX6_sums_21 : decode cX6_sums 21 = .ok (.iload_n 2, 1) := dk_28 (dk_at dksX6_sums_0 21 rfl rfl)
theorem dX6_sums_22 : decode cX6_sums 22 = .ok (.bipush 12, 2) := dk_16 12 (dk_at dksX6_sums_0 22 rfl rfl)
theorem dX6_sums_24 : decode cX6_sums 24 = .ok (.idiv, 1) := dk_108 (dk_at dksX6_sums_1 0 rfl rfl)
theorem dX6_sums_25 : decode cX6_sums 25 = .ok (.invokestatic 208, 3) := dk_184 0 208 (dk_at dksX6_sums_1 1 rfl rfl)
theorem dX6_sums_28 : decode cX6_sums 28 = .ok (.if_icmp .gt 114, 3) := dk_163 0 114 (dk_at dksX6_sums_1 4 rfl rfl)
theorem dX6_sums_31 : decode cX6_sums 31 = .ok (.aload_n 0, 1) := dk_42 (dk_at dksX6_sums_1 7 rfl rfl)
theorem dX6_sums_32 : decode cX6_sums 32 = .ok (.getfield 237, 3) := dk_180 0 237 (dk_at dksX6_sums_1 8 rfl rfl)
theorem dX6_sums_35 : decode cX6_sums 35 = .ok (.ifCond .ne 107, 3) := dk_154 0 107 (dk_at dksX6_sums_1 11 rfl rfl)
theorem dX6_sums_38 : decode cX6_sums 38 = .ok (.iload_n 1, 1) := dk_27 (dk_at dksX6_sums_1 14 rfl rfl)
theorem dX6_sums_39 : decode cX6_sums 39 = .ok (.bipush 12, 2) := dk_16 12 (dk_at dksX6_sums_1 15 rfl rfl)
theorem dX6_sums_41 : decode cX6_sums 41 = .ok (.irem, 1) := dk_112 (dk_at dksX6_sums_1 17 rfl rfl)
theorem dX6_sums_42 : decode cX6_sums 42 = .ok (.iload_n 2, 1) := dk_28 (dk_at dksX6_sums_1 18 rfl rfl)
theorem dX6_sums_43 : decode cX6_sums 43 = .ok (.bipush 12, 2) := dk_16 12 (dk_at dksX6_sums_1 19 rfl rfl)
theorem dX6_sums_45 : decode cX6_sums 45 = .ok (.irem, 1) := dk_112 (dk_at dksX6_sums_1 21 rfl rfl)
theorem dX6_sums_46 : decode cX6_sums 46 = .ok (.invokestatic 205, 3) := dk_184 0 205 (dk_at dksX6_sums_2 0 rfl rfl)
theorem dX6_sums_49 : decode cX6_sums 49 = .ok (.istore 6, 2) := dk_54 6 (dk_at dksX6_sums_2 3 rfl rfl)
theorem dX6_sums_51 : decode cX6_sums 51 = .ok (.iload 6, 2) := dk_21 6 (dk_at dksX6_sums_2 5 rfl rfl)
theorem dX6_sums_53 : decode cX6_sums 53 = .ok (.iload_n 1, 1) := dk_27 (dk_at dksX6_sums_2 7 rfl rfl)
theorem dX6_sums_54 : decode cX6_sums 54 = .ok (.bipush 12, 2) := dk_16 12 (dk_at dksX6_sums_2 8 rfl rfl)
theorem dX6_sums_56 : decode cX6_sums 56 = .ok (.irem, 1) := dk_112 (dk_at dksX6_sums_2 10 rfl rfl)
theorem dX6_sums_57 : decode cX6_sums 57 = .ok (.iload_n 2, 1) := dk_28 (dk_at dksX6_sums_2 11 rfl rfl)
theorem dX6_sums_58 : decode cX6_sums 58 = .ok (.bipush 12, 2) := dk_16 12 (dk_at dksX6_sums_2 12 rfl rfl)
theorem dX6_sums_60 : decode cX6_sums 60 = .ok (.irem, 1) := dk_112 (dk_at dksX6_sums_2 14 rfl rfl)
theorem dX6_sums_61 : decode cX6_sums 61 = .ok (.invokestatic 208, 3) := dk_184 0 208 (dk_at dksX6_sums_2 15 rfl rfl)
theorem dX6_sums_64 : decode cX6_sums 64 = .ok (.if_icmp .gt 72, 3) := dk_163 0 72 (dk_at dksX6_sums_2 18 rfl rfl)
theorem dX6_sums_67 : decode cX6_sums 67 = .ok (.aload_n 0, 1) := dk_42 (dk_at dksX6_sums_2 21 rfl rfl)
theorem dX6_sums_68 : decode cX6_sums 68 = .ok (.getfield 237, 3) := dk_180 0 237 (dk_at dksX6_sums_3 0 rfl rfl)
theorem dX6_sums_71 : decode cX6_sums 71 = .ok (.ifCond .ne 65, 3) := dk_154 0 65 (dk_at dksX6_sums_3 3 rfl rfl)
theorem dX6_sums_74 : decode cX6_sums 74 = .ok (.aload_n 0, 1) := dk_42 (dk_at dksX6_sums_3 6 rfl rfl)
theorem dX6_sums_75 : decode cX6_sums 75 = .ok (.bipush 12, 2) := dk_16 12 (dk_at dksX6_sums_3 7 rfl rfl)
theorem dX6_sums_77 : decode cX6_sums 77 = .ok (.iload 5, 2) := dk_21 5 (dk_at dksX6_sums_3 9 rfl rfl)
theorem dX6_sums_79 : decode cX6_sums 79 = .ok (.imul, 1) := dk_104 (dk_at dksX6_sums_3 11 rfl rfl)
theorem dX6_sums_80 : decode cX6_sums 80 = .ok (.iload 6, 2) := dk_21 6 (dk_at dksX6_sums_3 12 rfl rfl)
theorem dX6_sums_82 : decode cX6_sums 82 = .ok (.iadd, 1) := dk_96 (dk_at dksX6_sums_3 14 rfl rfl)
theorem dX6_sums_83 : decode cX6_sums 83 = .ok (.invokevirtual 244, 3) := dk_182 0 244 (dk_at dksX6_sums_3 15 rfl rfl)
theorem dX6_sums_86 : decode cX6_sums 86 = .ok (.lload_n 3, 1) := dk_33 (dk_at dksX6_sums_3 18 rfl rfl)
theorem dX6_sums_87 : decode cX6_sums 87 = .ok (.aload_n 0, 1) := dk_42 (dk_at dksX6_sums_3 19 rfl rfl)
theorem dX6_sums_88 : decode cX6_sums 88 = .ok (.getfield 237, 3) := dk_180 0 237 (dk_at dksX6_sums_3 20 rfl rfl)
theorem dX6_sums_91 : decode cX6_sums 91 = .ok (.ifCond .ne 10, 3) := dk_154 0 10 (dk_at dksX6_sums_4 0 rfl rfl)
theorem dX6_sums_94 : decode cX6_sums 94 = .ok (.aload_n 0, 1) := dk_42 (dk_at dksX6_sums_4 3 rfl rfl)
theorem dX6_sums_95 : decode cX6_sums 95 = .ok (.getfield 240, 3) := dk_180 0 240 (dk_at dksX6_sums_4 4 rfl rfl)
theorem dX6_sums_98 : decode cX6_sums 98 = .ok (.goto 4, 3) := dk_167 0 4 (dk_at dksX6_sums_4 7 rfl rfl)
theorem dX6_sums_101 : decode cX6_sums 101 = .ok (.lconst 0, 1) := dk_9 (dk_at dksX6_sums_4 10 rfl rfl)
theorem dX6_sums_102 : decode cX6_sums 102 = .ok (.ladd, 1) := dk_97 (dk_at dksX6_sums_4 11 rfl rfl)
theorem dX6_sums_103 : decode cX6_sums 103 = .ok (.lstore_n 3, 1) := dk_66 (dk_at dksX6_sums_4 12 rfl rfl)
theorem dX6_sums_104 : decode cX6_sums 104 = .ok (.aload_n 0, 1) := dk_42 (dk_at dksX6_sums_4 13 rfl rfl)
theorem dX6_sums_105 : decode cX6_sums 105 = .ok (.aload_n 0, 1) := dk_42 (dk_at dksX6_sums_4 14 rfl rfl)
theorem dX6_sums_106 : decode cX6_sums 106 = .ok (.getfield 237, 3) := dk_180 0 237 (dk_at dksX6_sums_4 15 rfl rfl)
theorem dX6_sums_109 : decode cX6_sums 109 = .ok (.ifCond .ne 14, 3) := dk_154 0 14 (dk_at dksX6_sums_4 18 rfl rfl)
theorem dX6_sums_112 : decode cX6_sums 112 = .ok (.lload_n 3, 1) := dk_33 (dk_at dksX6_sums_4 21 rfl rfl)
theorem dX6_sums_113 : decode cX6_sums 113 = .ok (.invokestatic 247, 3) := dk_184 0 247 (dk_at dksX6_sums_5 0 rfl rfl)
theorem dX6_sums_116 : decode cX6_sums 116 = .ok (.ifCond .eq 7, 3) := dk_153 0 7 (dk_at dksX6_sums_5 3 rfl rfl)
theorem dX6_sums_119 : decode cX6_sums 119 = .ok (.iconst 3, 1) := dk_6 (dk_at dksX6_sums_5 6 rfl rfl)
theorem dX6_sums_120 : decode cX6_sums 120 = .ok (.goto 7, 3) := dk_167 0 7 (dk_at dksX6_sums_5 7 rfl rfl)
theorem dX6_sums_123 : decode cX6_sums 123 = .ok (.aload_n 0, 1) := dk_42 (dk_at dksX6_sums_5 10 rfl rfl)
theorem dX6_sums_124 : decode cX6_sums 124 = .ok (.getfield 237, 3) := dk_180 0 237 (dk_at dksX6_sums_5 11 rfl rfl)
theorem dX6_sums_127 : decode cX6_sums 127 = .ok (.putfield 237, 3) := dk_181 0 237 (dk_at dksX6_sums_5 14 rfl rfl)
theorem dX6_sums_130 : decode cX6_sums 130 = .ok (.iinc 6 1, 3) := dk_132 6 1 (dk_at dksX6_sums_5 17 rfl rfl)
theorem dX6_sums_133 : decode cX6_sums 133 = .ok (.goto (-82), 3) := dk_167 255 174 (dk_at dksX6_sums_5 20 rfl rfl)
theorem dX6_sums_136 : decode cX6_sums 136 = .ok (.iinc 5 1, 3) := dk_132 5 1 (dk_at dksX6_sums_6 0 rfl rfl)
theorem dX6_sums_139 : decode cX6_sums 139 = .ok (.goto (-124), 3) := dk_167 255 132 (dk_at dksX6_sums_6 3 rfl rfl)
theorem dX6_sums_142 : decode cX6_sums 142 = .ok (.aload_n 0, 1) := dk_42 (dk_at dksX6_sums_6 6 rfl rfl)
theorem dX6_sums_143 : decode cX6_sums 143 = .ok (.lload_n 3, 1) := dk_33 (dk_at dksX6_sums_6 7 rfl rfl)
theorem dX6_sums_144 : decode cX6_sums 144 = .ok (.putfield 240, 3) := dk_181 0 240 (dk_at dksX6_sums_6 8 rfl rfl)
theorem dX6_sums_147 : decode cX6_sums 147 = .ok (.return_, 1) := dk_177 (dk_at dksX6_sums_6 11 rfl rfl)
abbrev cX6_meets : ByteArray := prog_15_method_54_code
def yX6_meets : MethodName := ⟨RX6, "meets", "(I)V"⟩
def dkwX6_meets_1 : List UInt8 := [160, 0, 7, 9, 167, 0, 9, 42, 180, 0, 40, 27, 47, 181, 0, 240, 177]
abbrev dktX6_meets_1 : List UInt8 := dkwX6_meets_1 ++ []
def dkwX6_meets_0 : List UInt8 := [42, 27, 2, 160, 0, 7, 5, 167, 0, 9, 42, 180, 0, 44, 27, 46, 181, 0, 237, 42, 27, 2]
abbrev dktX6_meets_0 : List UInt8 := dkwX6_meets_0 ++ dktX6_meets_1
theorem dksX6_meets_0 : cX6_meets.data.toList.drop 0 = dktX6_meets_0 := by decide +kernel
theorem dksX6_meets_1 : cX6_meets.data.toList.drop 22 = dktX6_meets_1 := dk_seg dksX6_meets_0 22 rfl rfl
theorem dX6_meets_0 : decode cX6_meets 0 = .ok (.aload_n 0, 1) := dk_42 (dk_at dksX6_meets_0 0 rfl rfl)
theorem dX6_meets_1 : decode cX6_meets 1 = .ok (.iload_n 1, 1) := dk_27 (dk_at dksX6_meets_0 1 rfl rfl)
theorem dX6_meets_2 : decode cX6_meets 2 = .ok (.iconst (-1), 1) := dk_2 (dk_at dksX6_meets_0 2 rfl rfl)
theorem dX6_meets_3 : decode cX6_meets 3 = .ok (.if_icmp .ne 7, 3) := dk_160 0 7 (dk_at dksX6_meets_0 3 rfl rfl)
theorem dX6_meets_6 : decode cX6_meets 6 = .ok (.iconst 2, 1) := dk_5 (dk_at dksX6_meets_0 6 rfl rfl)
theorem dX6_meets_7 : decode cX6_meets 7 = .ok (.goto 9, 3) := dk_167 0 9 (dk_at dksX6_meets_0 7 rfl rfl)
theorem dX6_meets_10 : decode cX6_meets 10 = .ok (.aload_n 0, 1) := dk_42 (dk_at dksX6_meets_0 10 rfl rfl)
theorem dX6_meets_11 : decode cX6_meets 11 = .ok (.getfield 44, 3) := dk_180 0 44 (dk_at dksX6_meets_0 11 rfl rfl)
theorem dX6_meets_14 : decode cX6_meets 14 = .ok (.iload_n 1, 1) := dk_27 (dk_at dksX6_meets_0 14 rfl rfl)
theorem dX6_meets_15 : decode cX6_meets 15 = .ok (.iaload, 1) := dk_46 (dk_at dksX6_meets_0 15 rfl rfl)
theorem dX6_meets_16 : decode cX6_meets 16 = .ok (.putfield 237, 3) := dk_181 0 237 (dk_at dksX6_meets_0 16 rfl rfl)
theorem dX6_meets_19 : decode cX6_meets 19 = .ok (.aload_n 0, 1) := dk_42 (dk_at dksX6_meets_0 19 rfl rfl)
theorem dX6_meets_20 : decode cX6_meets 20 = .ok (.iload_n 1, 1) := dk_27 (dk_at dksX6_meets_0 20 rfl rfl)
theorem dX6_meets_21 : decode cX6_meets 21 = .ok (.iconst (-1), 1) := dk_2 (dk_at dksX6_meets_0 21 rfl rfl)
theorem dX6_meets_22 : decode cX6_meets 22 = .ok (.if_icmp .ne 7, 3) := dk_160 0 7 (dk_at dksX6_meets_1 0 rfl rfl)
theorem dX6_meets_25 : decode cX6_meets 25 = .ok (.lconst 0, 1) := dk_9 (dk_at dksX6_meets_1 3 rfl rfl)
theorem dX6_meets_26 : decode cX6_meets 26 = .ok (.goto 9, 3) := dk_167 0 9 (dk_at dksX6_meets_1 4 rfl rfl)
theorem dX6_meets_29 : decode cX6_meets 29 = .ok (.aload_n 0, 1) := dk_42 (dk_at dksX6_meets_1 7 rfl rfl)
theorem dX6_meets_30 : decode cX6_meets 30 = .ok (.getfield 40, 3) := dk_180 0 40 (dk_at dksX6_meets_1 8 rfl rfl)
theorem dX6_meets_33 : decode cX6_meets 33 = .ok (.iload_n 1, 1) := dk_27 (dk_at dksX6_meets_1 11 rfl rfl)
theorem dX6_meets_34 : decode cX6_meets 34 = .ok (.laload, 1) := dk_47 (dk_at dksX6_meets_1 12 rfl rfl)
theorem dX6_meets_35 : decode cX6_meets 35 = .ok (.putfield 240, 3) := dk_181 0 240 (dk_at dksX6_meets_1 13 rfl rfl)
theorem dX6_meets_38 : decode cX6_meets 38 = .ok (.return_, 1) := dk_177 (dk_at dksX6_meets_1 16 rfl rfl)
abbrev cX6_isFar : ByteArray := prog_15_method_53_code
def yX6_isFar : MethodName := ⟨RX6, "isFar", "(J)Z"⟩
def dkwX6_isFar_0 : List UInt8 := [30, 20, 0, 233, 148, 155, 0, 11, 30, 20, 0, 235, 148, 158, 0, 7, 4, 167, 0, 4, 3, 172]
abbrev dktX6_isFar_0 : List UInt8 := dkwX6_isFar_0 ++ []
theorem dksX6_isFar_0 : cX6_isFar.data.toList.drop 0 = dktX6_isFar_0 := by decide +kernel
theorem dX6_isFar_0 : decode cX6_isFar 0 = .ok (.lload_n 0, 1) := dk_30 (dk_at dksX6_isFar_0 0 rfl rfl)
theorem dX6_isFar_1 : decode cX6_isFar 1 = .ok (.ldc2_w 233, 3) := dk_20 0 233 (dk_at dksX6_isFar_0 1 rfl rfl)
theorem dX6_isFar_4 : decode cX6_isFar 4 = .ok (.lcmp, 1) := dk_148 (dk_at dksX6_isFar_0 4 rfl rfl)
theorem dX6_isFar_5 : decode cX6_isFar 5 = .ok (.ifCond .lt 11, 3) := dk_155 0 11 (dk_at dksX6_isFar_0 5 rfl rfl)
theorem dX6_isFar_8 : decode cX6_isFar 8 = .ok (.lload_n 0, 1) := dk_30 (dk_at dksX6_isFar_0 8 rfl rfl)
theorem dX6_isFar_9 : decode cX6_isFar 9 = .ok (.ldc2_w 235, 3) := dk_20 0 235 (dk_at dksX6_isFar_0 9 rfl rfl)
theorem dX6_isFar_12 : decode cX6_isFar 12 = .ok (.lcmp, 1) := dk_148 (dk_at dksX6_isFar_0 12 rfl rfl)
theorem dX6_isFar_13 : decode cX6_isFar 13 = .ok (.ifCond .le 7, 3) := dk_158 0 7 (dk_at dksX6_isFar_0 13 rfl rfl)
theorem dX6_isFar_16 : decode cX6_isFar 16 = .ok (.iconst 1, 1) := dk_4 (dk_at dksX6_isFar_0 16 rfl rfl)
theorem dX6_isFar_17 : decode cX6_isFar 17 = .ok (.goto 4, 3) := dk_167 0 4 (dk_at dksX6_isFar_0 17 rfl rfl)
theorem dX6_isFar_20 : decode cX6_isFar 20 = .ok (.iconst 0, 1) := dk_3 (dk_at dksX6_isFar_0 20 rfl rfl)
theorem dX6_isFar_21 : decode cX6_isFar 21 = .ok (.ireturn, 1) := dk_172 (dk_at dksX6_isFar_0 21 rfl rfl)
abbrev cX6_error : ByteArray := prog_15_method_63_code
def yX6_error : MethodName := ⟨RX6, "error", "(III)I"⟩
def dkwX6_error_1 : List UInt8 := [180, 0, 44, 16, 12, 28, 104, 29, 96, 46, 182, 0, 83, 172]
abbrev dktX6_error_1 : List UInt8 := dkwX6_error_1 ++ []
def dkwX6_error_0 : List UInt8 := [42, 27, 28, 29, 182, 0, 159, 154, 0, 9, 42, 4, 182, 0, 131, 172, 42, 27, 182, 1, 10, 42, 42]
abbrev dktX6_error_0 : List UInt8 := dkwX6_error_0 ++ dktX6_error_1
theorem dksX6_error_0 : cX6_error.data.toList.drop 0 = dktX6_error_0 := by decide +kernel
theorem dksX6_error_1 : cX6_error.data.toList.drop 23 = dktX6_error_1 := dk_seg dksX6_error_0 23 rfl rfl
theorem dX6_error_0 : decode cX6_error 0 = .ok (.aload_n 0, 1) := dk_42 (dk_at dksX6_error_0 0 rfl rfl)
theorem dX6_error_1 : decode cX6_error 1 = .ok (.iload_n 1, 1) := dk_27 (dk_at dksX6_error_0 1 rfl rfl)
theorem dX6_error_2 : decode cX6_error 2 = .ok (.iload_n 2, 1) := dk_28 (dk_at dksX6_error_0 2 rfl rfl)
theorem dX6_error_3 : decode cX6_error 3 = .ok (.iload_n 3, 1) := dk_29 (dk_at dksX6_error_0 3 rfl rfl)
theorem dX6_error_4 : decode cX6_error 4 = .ok (.invokevirtual 159, 3) := dk_182 0 159 (dk_at dksX6_error_0 4 rfl rfl)
theorem dX6_error_7 : decode cX6_error 7 = .ok (.ifCond .ne 9, 3) := dk_154 0 9 (dk_at dksX6_error_0 7 rfl rfl)
theorem dX6_error_10 : decode cX6_error 10 = .ok (.aload_n 0, 1) := dk_42 (dk_at dksX6_error_0 10 rfl rfl)
theorem dX6_error_11 : decode cX6_error 11 = .ok (.iconst 1, 1) := dk_4 (dk_at dksX6_error_0 11 rfl rfl)
theorem dX6_error_12 : decode cX6_error 12 = .ok (.invokevirtual 131, 3) := dk_182 0 131 (dk_at dksX6_error_0 12 rfl rfl)
theorem dX6_error_15 : decode cX6_error 15 = .ok (.ireturn, 1) := dk_172 (dk_at dksX6_error_0 15 rfl rfl)
theorem dX6_error_16 : decode cX6_error 16 = .ok (.aload_n 0, 1) := dk_42 (dk_at dksX6_error_0 16 rfl rfl)
theorem dX6_error_17 : decode cX6_error 17 = .ok (.iload_n 1, 1) := dk_27 (dk_at dksX6_error_0 17 rfl rfl)
theorem dX6_error_18 : decode cX6_error 18 = .ok (.invokevirtual 266, 3) := dk_182 1 10 (dk_at dksX6_error_0 18 rfl rfl)
theorem dX6_error_21 : decode cX6_error 21 = .ok (.aload_n 0, 1) := dk_42 (dk_at dksX6_error_0 21 rfl rfl)
theorem dX6_error_22 : decode cX6_error 22 = .ok (.aload_n 0, 1) := dk_42 (dk_at dksX6_error_0 22 rfl rfl)
theorem dX6_error_23 : decode cX6_error 23 = .ok (.getfield 44, 3) := dk_180 0 44 (dk_at dksX6_error_1 0 rfl rfl)
theorem dX6_error_26 : decode cX6_error 26 = .ok (.bipush 12, 2) := dk_16 12 (dk_at dksX6_error_1 3 rfl rfl)
theorem dX6_error_28 : decode cX6_error 28 = .ok (.iload_n 2, 1) := dk_28 (dk_at dksX6_error_1 5 rfl rfl)
theorem dX6_error_29 : decode cX6_error 29 = .ok (.imul, 1) := dk_104 (dk_at dksX6_error_1 6 rfl rfl)
theorem dX6_error_30 : decode cX6_error 30 = .ok (.iload_n 3, 1) := dk_29 (dk_at dksX6_error_1 7 rfl rfl)
theorem dX6_error_31 : decode cX6_error 31 = .ok (.iadd, 1) := dk_96 (dk_at dksX6_error_1 8 rfl rfl)
theorem dX6_error_32 : decode cX6_error 32 = .ok (.iaload, 1) := dk_46 (dk_at dksX6_error_1 9 rfl rfl)
theorem dX6_error_33 : decode cX6_error 33 = .ok (.invokevirtual 83, 3) := dk_182 0 83 (dk_at dksX6_error_1 10 rfl rfl)
theorem dX6_error_36 : decode cX6_error 36 = .ok (.ireturn, 1) := dk_172 (dk_at dksX6_error_1 13 rfl rfl)
abbrev cX6_write : ByteArray := prog_15_method_67_code
def yX6_write : MethodName := ⟨RX6, "write", "(III)I"⟩
def dkwX6_write_9 : List UInt8 := [182, 1, 13, 132, 6, 1, 167, 255, 105, 42, 42, 180, 0, 176, 182, 0, 83, 172]
abbrev dktX6_write_9 : List UInt8 := dkwX6_write_9 ++ []
def dkwX6_write_8 : List UInt8 := [160, 0, 8, 16, 43, 167, 0, 17, 21, 7, 16, 254, 160, 0, 8, 16, 45, 167, 0, 5, 16, 42]
abbrev dktX6_write_8 : List UInt8 := dkwX6_write_8 ++ dktX6_write_9
def dkwX6_write_7 : List UInt8 := [54, 5, 167, 0, 46, 21, 7, 155, 0, 12, 42, 21, 7, 182, 1, 19, 167, 0, 32, 42, 21, 7, 2]
abbrev dktX6_write_7 : List UInt8 := dkwX6_write_7 ++ dktX6_write_8
def dkwX6_write_6 : List UInt8 := [16, 58, 167, 0, 5, 16, 41, 182, 1, 13, 21, 5, 21, 5, 158, 0, 7, 4, 167, 0, 4, 3, 100]
abbrev dktX6_write_6 : List UInt8 := dkwX6_write_6 ++ dktX6_write_7
def dkwX6_write_5 : List UInt8 := [17, 39, 16, 161, 0, 49, 42, 21, 7, 182, 1, 16, 21, 5, 158, 0, 20, 42, 21, 5, 5, 160, 0, 8]
abbrev dktX6_write_5 : List UInt8 := dkwX6_write_5 ++ dktX6_write_6
def dkwX6_write_4 : List UInt8 := [160, 0, 21, 42, 16, 83, 182, 1, 13, 42, 16, 40, 182, 1, 13, 5, 54, 5, 167, 0, 100, 21, 7]
abbrev dktX6_write_4 : List UInt8 := dkwX6_write_4 ++ dktX6_write_5
def dkwX6_write_3 : List UInt8 := [182, 0, 105, 162, 0, 144, 42, 21, 4, 16, 8, 21, 6, 96, 182, 0, 105, 54, 7, 21, 7, 16, 252]
abbrev dktX6_write_3 : List UInt8 := dkwX6_write_3 ++ dktX6_write_4
def dkwX6_write_2 : List UInt8 := [182, 0, 131, 172, 42, 3, 181, 0, 176, 3, 54, 5, 3, 54, 6, 21, 6, 42, 21, 4, 16, 7]
abbrev dktX6_write_2 : List UInt8 := dkwX6_write_2 ++ dktX6_write_3
def dkwX6_write_1 : List UInt8 := [182, 0, 214, 54, 4, 21, 4, 2, 159, 0, 14, 42, 21, 4, 8, 182, 0, 105, 5, 159, 0, 9, 42, 5]
abbrev dktX6_write_1 : List UInt8 := dkwX6_write_1 ++ dktX6_write_2
def dkwX6_write_0 : List UInt8 := [42, 27, 28, 29, 182, 0, 159, 154, 0, 9, 42, 4, 182, 0, 131, 172, 42, 27, 16, 12, 28, 104, 29, 96]
abbrev dktX6_write_0 : List UInt8 := dkwX6_write_0 ++ dktX6_write_1
theorem dksX6_write_0 : cX6_write.data.toList.drop 0 = dktX6_write_0 := by decide +kernel
theorem dksX6_write_1 : cX6_write.data.toList.drop 24 = dktX6_write_1 := dk_seg dksX6_write_0 24 rfl rfl
theorem dksX6_write_2 : cX6_write.data.toList.drop 48 = dktX6_write_2 := dk_seg dksX6_write_1 24 rfl rfl
theorem dksX6_write_3 : cX6_write.data.toList.drop 70 = dktX6_write_3 := dk_seg dksX6_write_2 22 rfl rfl
theorem dksX6_write_4 : cX6_write.data.toList.drop 93 = dktX6_write_4 := dk_seg dksX6_write_3 23 rfl rfl
theorem dksX6_write_5 : cX6_write.data.toList.drop 116 = dktX6_write_5 := dk_seg dksX6_write_4 23 rfl rfl
theorem dksX6_write_6 : cX6_write.data.toList.drop 140 = dktX6_write_6 := dk_seg dksX6_write_5 24 rfl rfl
theorem dksX6_write_7 : cX6_write.data.toList.drop 163 = dktX6_write_7 := dk_seg dksX6_write_6 23 rfl rfl
theorem dksX6_write_8 : cX6_write.data.toList.drop 186 = dktX6_write_8 := dk_seg dksX6_write_7 23 rfl rfl
theorem dksX6_write_9 : cX6_write.data.toList.drop 208 = dktX6_write_9 := dk_seg dksX6_write_8 22 rfl rfl
theorem dX6_write_0 : decode cX6_write 0 = .ok (.aload_n 0, 1) := dk_42 (dk_at dksX6_write_0 0 rfl rfl)
theorem dX6_write_1 : decode cX6_write 1 = .ok (.iload_n 1, 1) := dk_27 (dk_at dksX6_write_0 1 rfl rfl)
theorem dX6_write_2 : decode cX6_write 2 = .ok (.iload_n 2, 1) := dk_28 (dk_at dksX6_write_0 2 rfl rfl)
theorem dX6_write_3 : decode cX6_write 3 = .ok (.iload_n 3, 1) := dk_29 (dk_at dksX6_write_0 3 rfl rfl)
theorem dX6_write_4 : decode cX6_write 4 = .ok (.invokevirtual 159, 3) := dk_182 0 159 (dk_at dksX6_write_0 4 rfl rfl)
theorem dX6_write_7 : decode cX6_write 7 = .ok (.ifCond .ne 9, 3) := dk_154 0 9 (dk_at dksX6_write_0 7 rfl rfl)
theorem dX6_write_10 : decode cX6_write 10 = .ok (.aload_n 0, 1) := dk_42 (dk_at dksX6_write_0 10 rfl rfl)
theorem dX6_write_11 : decode cX6_write 11 = .ok (.iconst 1, 1) := dk_4 (dk_at dksX6_write_0 11 rfl rfl)
theorem dX6_write_12 : decode cX6_write 12 = .ok (.invokevirtual 131, 3) := dk_182 0 131 (dk_at dksX6_write_0 12 rfl rfl)
theorem dX6_write_15 : decode cX6_write 15 = .ok (.ireturn, 1) := dk_172 (dk_at dksX6_write_0 15 rfl rfl)
theorem dX6_write_16 : decode cX6_write 16 = .ok (.aload_n 0, 1) := dk_42 (dk_at dksX6_write_0 16 rfl rfl)
theorem dX6_write_17 : decode cX6_write 17 = .ok (.iload_n 1, 1) := dk_27 (dk_at dksX6_write_0 17 rfl rfl)
theorem dX6_write_18 : decode cX6_write 18 = .ok (.bipush 12, 2) := dk_16 12 (dk_at dksX6_write_0 18 rfl rfl)
theorem dX6_write_20 : decode cX6_write 20 = .ok (.iload_n 2, 1) := dk_28 (dk_at dksX6_write_0 20 rfl rfl)
theorem dX6_write_21 : decode cX6_write 21 = .ok (.imul, 1) := dk_104 (dk_at dksX6_write_0 21 rfl rfl)
theorem dX6_write_22 : decode cX6_write 22 = .ok (.iload_n 3, 1) := dk_29 (dk_at dksX6_write_0 22 rfl rfl)
theorem dX6_write_23 : decode cX6_write 23 = .ok (.iadd, 1) := dk_96 (dk_at dksX6_write_0 23 rfl rfl)
theorem dX6_write_24 : decode cX6_write 24 = .ok (.invokevirtual 214, 3) := dk_182 0 214 (dk_at dksX6_write_1 0 rfl rfl)
theorem dX6_write_27 : decode cX6_write 27 = .ok (.istore 4, 2) := dk_54 4 (dk_at dksX6_write_1 3 rfl rfl)
theorem dX6_write_29 : decode cX6_write 29 = .ok (.iload 4, 2) := dk_21 4 (dk_at dksX6_write_1 5 rfl rfl)
theorem dX6_write_31 : decode cX6_write 31 = .ok (.iconst (-1), 1) := dk_2 (dk_at dksX6_write_1 7 rfl rfl)
theorem dX6_write_32 : decode cX6_write 32 = .ok (.if_icmp .eq 14, 3) := dk_159 0 14 (dk_at dksX6_write_1 8 rfl rfl)
theorem dX6_write_35 : decode cX6_write 35 = .ok (.aload_n 0, 1) := dk_42 (dk_at dksX6_write_1 11 rfl rfl)
theorem dX6_write_36 : decode cX6_write 36 = .ok (.iload 4, 2) := dk_21 4 (dk_at dksX6_write_1 12 rfl rfl)
theorem dX6_write_38 : decode cX6_write 38 = .ok (.iconst 5, 1) := dk_8 (dk_at dksX6_write_1 14 rfl rfl)
theorem dX6_write_39 : decode cX6_write 39 = .ok (.invokevirtual 105, 3) := dk_182 0 105 (dk_at dksX6_write_1 15 rfl rfl)
theorem dX6_write_42 : decode cX6_write 42 = .ok (.iconst 2, 1) := dk_5 (dk_at dksX6_write_1 18 rfl rfl)
theorem dX6_write_43 : decode cX6_write 43 = .ok (.if_icmp .eq 9, 3) := dk_159 0 9 (dk_at dksX6_write_1 19 rfl rfl)
theorem dX6_write_46 : decode cX6_write 46 = .ok (.aload_n 0, 1) := dk_42 (dk_at dksX6_write_1 22 rfl rfl)
theorem dX6_write_47 : decode cX6_write 47 = .ok (.iconst 2, 1) := dk_5 (dk_at dksX6_write_1 23 rfl rfl)
theorem dX6_write_48 : decode cX6_write 48 = .ok (.invokevirtual 131, 3) := dk_182 0 131 (dk_at dksX6_write_2 0 rfl rfl)
theorem dX6_write_51 : decode cX6_write 51 = .ok (.ireturn, 1) := dk_172 (dk_at dksX6_write_2 3 rfl rfl)
theorem dX6_write_52 : decode cX6_write 52 = .ok (.aload_n 0, 1) := dk_42 (dk_at dksX6_write_2 4 rfl rfl)
theorem dX6_write_53 : decode cX6_write 53 = .ok (.iconst 0, 1) := dk_3 (dk_at dksX6_write_2 5 rfl rfl)
theorem dX6_write_54 : decode cX6_write 54 = .ok (.putfield 176, 3) := dk_181 0 176 (dk_at dksX6_write_2 6 rfl rfl)
theorem dX6_write_57 : decode cX6_write 57 = .ok (.iconst 0, 1) := dk_3 (dk_at dksX6_write_2 9 rfl rfl)
theorem dX6_write_58 : decode cX6_write 58 = .ok (.istore 5, 2) := dk_54 5 (dk_at dksX6_write_2 10 rfl rfl)
theorem dX6_write_60 : decode cX6_write 60 = .ok (.iconst 0, 1) := dk_3 (dk_at dksX6_write_2 12 rfl rfl)
theorem dX6_write_61 : decode cX6_write 61 = .ok (.istore 6, 2) := dk_54 6 (dk_at dksX6_write_2 13 rfl rfl)
theorem dX6_write_63 : decode cX6_write 63 = .ok (.iload 6, 2) := dk_21 6 (dk_at dksX6_write_2 15 rfl rfl)
theorem dX6_write_65 : decode cX6_write 65 = .ok (.aload_n 0, 1) := dk_42 (dk_at dksX6_write_2 17 rfl rfl)
theorem dX6_write_66 : decode cX6_write 66 = .ok (.iload 4, 2) := dk_21 4 (dk_at dksX6_write_2 18 rfl rfl)
theorem dX6_write_68 : decode cX6_write 68 = .ok (.bipush 7, 2) := dk_16 7 (dk_at dksX6_write_2 20 rfl rfl)
theorem dX6_write_70 : decode cX6_write 70 = .ok (.invokevirtual 105, 3) := dk_182 0 105 (dk_at dksX6_write_3 0 rfl rfl)
theorem dX6_write_73 : decode cX6_write 73 = .ok (.if_icmp .ge 144, 3) := dk_162 0 144 (dk_at dksX6_write_3 3 rfl rfl)
theorem dX6_write_76 : decode cX6_write 76 = .ok (.aload_n 0, 1) := dk_42 (dk_at dksX6_write_3 6 rfl rfl)
theorem dX6_write_77 : decode cX6_write 77 = .ok (.iload 4, 2) := dk_21 4 (dk_at dksX6_write_3 7 rfl rfl)
theorem dX6_write_79 : decode cX6_write 79 = .ok (.bipush 8, 2) := dk_16 8 (dk_at dksX6_write_3 9 rfl rfl)
theorem dX6_write_81 : decode cX6_write 81 = .ok (.iload 6, 2) := dk_21 6 (dk_at dksX6_write_3 11 rfl rfl)
theorem dX6_write_83 : decode cX6_write 83 = .ok (.iadd, 1) := dk_96 (dk_at dksX6_write_3 13 rfl rfl)
theorem dX6_write_84 : decode cX6_write 84 = .ok (.invokevirtual 105, 3) := dk_182 0 105 (dk_at dksX6_write_3 14 rfl rfl)
theorem dX6_write_87 : decode cX6_write 87 = .ok (.istore 7, 2) := dk_54 7 (dk_at dksX6_write_3 17 rfl rfl)
theorem dX6_write_89 : decode cX6_write 89 = .ok (.iload 7, 2) := dk_21 7 (dk_at dksX6_write_3 19 rfl rfl)
theorem dX6_write_91 : decode cX6_write 91 = .ok (.bipush (-4), 2) := dk_16 252 (dk_at dksX6_write_3 21 rfl rfl)
theorem dX6_write_93 : decode cX6_write 93 = .ok (.if_icmp .ne 21, 3) := dk_160 0 21 (dk_at dksX6_write_4 0 rfl rfl)
theorem dX6_write_96 : decode cX6_write 96 = .ok (.aload_n 0, 1) := dk_42 (dk_at dksX6_write_4 3 rfl rfl)
theorem dX6_write_97 : decode cX6_write 97 = .ok (.bipush 83, 2) := dk_16 83 (dk_at dksX6_write_4 4 rfl rfl)
theorem dX6_write_99 : decode cX6_write 99 = .ok (.invokevirtual 269, 3) := dk_182 1 13 (dk_at dksX6_write_4 6 rfl rfl)
theorem dX6_write_102 : decode cX6_write 102 = .ok (.aload_n 0, 1) := dk_42 (dk_at dksX6_write_4 9 rfl rfl)
theorem dX6_write_103 : decode cX6_write 103 = .ok (.bipush 40, 2) := dk_16 40 (dk_at dksX6_write_4 10 rfl rfl)
theorem dX6_write_105 : decode cX6_write 105 = .ok (.invokevirtual 269, 3) := dk_182 1 13 (dk_at dksX6_write_4 12 rfl rfl)
theorem dX6_write_108 : decode cX6_write 108 = .ok (.iconst 2, 1) := dk_5 (dk_at dksX6_write_4 15 rfl rfl)
theorem dX6_write_109 : decode cX6_write 109 = .ok (.istore 5, 2) := dk_54 5 (dk_at dksX6_write_4 16 rfl rfl)
theorem dX6_write_111 : decode cX6_write 111 = .ok (.goto 100, 3) := dk_167 0 100 (dk_at dksX6_write_4 18 rfl rfl)
theorem dX6_write_114 : decode cX6_write 114 = .ok (.iload 7, 2) := dk_21 7 (dk_at dksX6_write_4 21 rfl rfl)
theorem dX6_write_116 : decode cX6_write 116 = .ok (.sipush 10000, 3) := dk_17 39 16 (dk_at dksX6_write_5 0 rfl rfl)
theorem dX6_write_119 : decode cX6_write 119 = .ok (.if_icmp .lt 49, 3) := dk_161 0 49 (dk_at dksX6_write_5 3 rfl rfl)
theorem dX6_write_122 : decode cX6_write 122 = .ok (.aload_n 0, 1) := dk_42 (dk_at dksX6_write_5 6 rfl rfl)
theorem dX6_write_123 : decode cX6_write 123 = .ok (.iload 7, 2) := dk_21 7 (dk_at dksX6_write_5 7 rfl rfl)
theorem dX6_write_125 : decode cX6_write 125 = .ok (.invokevirtual 272, 3) := dk_182 1 16 (dk_at dksX6_write_5 9 rfl rfl)
theorem dX6_write_128 : decode cX6_write 128 = .ok (.iload 5, 2) := dk_21 5 (dk_at dksX6_write_5 12 rfl rfl)
theorem dX6_write_130 : decode cX6_write 130 = .ok (.ifCond .le 20, 3) := dk_158 0 20 (dk_at dksX6_write_5 14 rfl rfl)
theorem dX6_write_133 : decode cX6_write 133 = .ok (.aload_n 0, 1) := dk_42 (dk_at dksX6_write_5 17 rfl rfl)
theorem dX6_write_134 : decode cX6_write 134 = .ok (.iload 5, 2) := dk_21 5 (dk_at dksX6_write_5 18 rfl rfl)
theorem dX6_write_136 : decode cX6_write 136 = .ok (.iconst 2, 1) := dk_5 (dk_at dksX6_write_5 20 rfl rfl)
theorem dX6_write_137 : decode cX6_write 137 = .ok (.if_icmp .ne 8, 3) := dk_160 0 8 (dk_at dksX6_write_5 21 rfl rfl)
theorem dX6_write_140 : decode cX6_write 140 = .ok (.bipush 58, 2) := dk_16 58 (dk_at dksX6_write_6 0 rfl rfl)
theorem dX6_write_142 : decode cX6_write 142 = .ok (.goto 5, 3) := dk_167 0 5 (dk_at dksX6_write_6 2 rfl rfl)
theorem dX6_write_145 : decode cX6_write 145 = .ok (.bipush 41, 2) := dk_16 41 (dk_at dksX6_write_6 5 rfl rfl)
theorem dX6_write_147 : decode cX6_write 147 = .ok (.invokevirtual 269, 3) := dk_182 1 13 (dk_at dksX6_write_6 7 rfl rfl)
theorem dX6_write_150 : decode cX6_write 150 = .ok (.iload 5, 2) := dk_21 5 (dk_at dksX6_write_6 10 rfl rfl)
theorem dX6_write_152 : decode cX6_write 152 = .ok (.iload 5, 2) := dk_21 5 (dk_at dksX6_write_6 12 rfl rfl)
theorem dX6_write_154 : decode cX6_write 154 = .ok (.ifCond .le 7, 3) := dk_158 0 7 (dk_at dksX6_write_6 14 rfl rfl)
theorem dX6_write_157 : decode cX6_write 157 = .ok (.iconst 1, 1) := dk_4 (dk_at dksX6_write_6 17 rfl rfl)
theorem dX6_write_158 : decode cX6_write 158 = .ok (.goto 4, 3) := dk_167 0 4 (dk_at dksX6_write_6 18 rfl rfl)
theorem dX6_write_161 : decode cX6_write 161 = .ok (.iconst 0, 1) := dk_3 (dk_at dksX6_write_6 21 rfl rfl)
theorem dX6_write_162 : decode cX6_write 162 = .ok (.isub, 1) := dk_100 (dk_at dksX6_write_6 22 rfl rfl)
theorem dX6_write_163 : decode cX6_write 163 = .ok (.istore 5, 2) := dk_54 5 (dk_at dksX6_write_7 0 rfl rfl)
theorem dX6_write_165 : decode cX6_write 165 = .ok (.goto 46, 3) := dk_167 0 46 (dk_at dksX6_write_7 2 rfl rfl)
theorem dX6_write_168 : decode cX6_write 168 = .ok (.iload 7, 2) := dk_21 7 (dk_at dksX6_write_7 5 rfl rfl)
theorem dX6_write_170 : decode cX6_write 170 = .ok (.ifCond .lt 12, 3) := dk_155 0 12 (dk_at dksX6_write_7 7 rfl rfl)
theorem dX6_write_173 : decode cX6_write 173 = .ok (.aload_n 0, 1) := dk_42 (dk_at dksX6_write_7 10 rfl rfl)
theorem dX6_write_174 : decode cX6_write 174 = .ok (.iload 7, 2) := dk_21 7 (dk_at dksX6_write_7 11 rfl rfl)
theorem dX6_write_176 : decode cX6_write 176 = .ok (.invokevirtual 275, 3) := dk_182 1 19 (dk_at dksX6_write_7 13 rfl rfl)
theorem dX6_write_179 : decode cX6_write 179 = .ok (.goto 32, 3) := dk_167 0 32 (dk_at dksX6_write_7 16 rfl rfl)
theorem dX6_write_182 : decode cX6_write 182 = .ok (.aload_n 0, 1) := dk_42 (dk_at dksX6_write_7 19 rfl rfl)
theorem dX6_write_183 : decode cX6_write 183 = .ok (.iload 7, 2) := dk_21 7 (dk_at dksX6_write_7 20 rfl rfl)
theorem dX6_write_185 : decode cX6_write 185 = .ok (.iconst (-1), 1) := dk_2 (dk_at dksX6_write_7 22 rfl rfl)
theorem dX6_write_186 : decode cX6_write 186 = .ok (.if_icmp .ne 8, 3) := dk_160 0 8 (dk_at dksX6_write_8 0 rfl rfl)
theorem dX6_write_189 : decode cX6_write 189 = .ok (.bipush 43, 2) := dk_16 43 (dk_at dksX6_write_8 3 rfl rfl)
theorem dX6_write_191 : decode cX6_write 191 = .ok (.goto 17, 3) := dk_167 0 17 (dk_at dksX6_write_8 5 rfl rfl)
theorem dX6_write_194 : decode cX6_write 194 = .ok (.iload 7, 2) := dk_21 7 (dk_at dksX6_write_8 8 rfl rfl)
theorem dX6_write_196 : decode cX6_write 196 = .ok (.bipush (-2), 2) := dk_16 254 (dk_at dksX6_write_8 10 rfl rfl)
theorem dX6_write_198 : decode cX6_write 198 = .ok (.if_icmp .ne 8, 3) := dk_160 0 8 (dk_at dksX6_write_8 12 rfl rfl)
theorem dX6_write_201 : decode cX6_write 201 = .ok (.bipush 45, 2) := dk_16 45 (dk_at dksX6_write_8 15 rfl rfl)
theorem dX6_write_203 : decode cX6_write 203 = .ok (.goto 5, 3) := dk_167 0 5 (dk_at dksX6_write_8 17 rfl rfl)
theorem dX6_write_206 : decode cX6_write 206 = .ok (.bipush 42, 2) := dk_16 42 (dk_at dksX6_write_8 20 rfl rfl)
theorem dX6_write_208 : decode cX6_write 208 = .ok (.invokevirtual 269, 3) := dk_182 1 13 (dk_at dksX6_write_9 0 rfl rfl)
theorem dX6_write_211 : decode cX6_write 211 = .ok (.iinc 6 1, 3) := dk_132 6 1 (dk_at dksX6_write_9 3 rfl rfl)
theorem dX6_write_214 : decode cX6_write 214 = .ok (.goto (-151), 3) := dk_167 255 105 (dk_at dksX6_write_9 6 rfl rfl)
theorem dX6_write_217 : decode cX6_write 217 = .ok (.aload_n 0, 1) := dk_42 (dk_at dksX6_write_9 9 rfl rfl)
theorem dX6_write_218 : decode cX6_write 218 = .ok (.aload_n 0, 1) := dk_42 (dk_at dksX6_write_9 10 rfl rfl)
theorem dX6_write_219 : decode cX6_write 219 = .ok (.getfield 176, 3) := dk_180 0 176 (dk_at dksX6_write_9 11 rfl rfl)
theorem dX6_write_222 : decode cX6_write 222 = .ok (.invokevirtual 83, 3) := dk_182 0 83 (dk_at dksX6_write_9 14 rfl rfl)
theorem dX6_write_225 : decode cX6_write 225 = .ok (.ireturn, 1) := dk_172 (dk_at dksX6_write_9 17 rfl rfl)
abbrev cX6_shows : ByteArray := prog_15_method_64_code
def yX6_shows : MethodName := ⟨RX6, "shows", "(I)V"⟩
def dkwX6_shows_0 : List UInt8 := [42, 180, 0, 19, 42, 180, 0, 176, 27, 79, 42, 89, 180, 0, 176, 4, 96, 181, 0, 176, 177]
abbrev dktX6_shows_0 : List UInt8 := dkwX6_shows_0 ++ []
theorem dksX6_shows_0 : cX6_shows.data.toList.drop 0 = dktX6_shows_0 := by decide +kernel
theorem dX6_shows_0 : decode cX6_shows 0 = .ok (.aload_n 0, 1) := dk_42 (dk_at dksX6_shows_0 0 rfl rfl)
theorem dX6_shows_1 : decode cX6_shows 1 = .ok (.getfield 19, 3) := dk_180 0 19 (dk_at dksX6_shows_0 1 rfl rfl)
theorem dX6_shows_4 : decode cX6_shows 4 = .ok (.aload_n 0, 1) := dk_42 (dk_at dksX6_shows_0 4 rfl rfl)
theorem dX6_shows_5 : decode cX6_shows 5 = .ok (.getfield 176, 3) := dk_180 0 176 (dk_at dksX6_shows_0 5 rfl rfl)
theorem dX6_shows_8 : decode cX6_shows 8 = .ok (.iload_n 1, 1) := dk_27 (dk_at dksX6_shows_0 8 rfl rfl)
theorem dX6_shows_9 : decode cX6_shows 9 = .ok (.iastore, 1) := dk_79 (dk_at dksX6_shows_0 9 rfl rfl)
theorem dX6_shows_10 : decode cX6_shows 10 = .ok (.aload_n 0, 1) := dk_42 (dk_at dksX6_shows_0 10 rfl rfl)
theorem dX6_shows_11 : decode cX6_shows 11 = .ok (.dup, 1) := dk_89 (dk_at dksX6_shows_0 11 rfl rfl)
theorem dX6_shows_12 : decode cX6_shows 12 = .ok (.getfield 176, 3) := dk_180 0 176 (dk_at dksX6_shows_0 12 rfl rfl)
theorem dX6_shows_15 : decode cX6_shows 15 = .ok (.iconst 1, 1) := dk_4 (dk_at dksX6_shows_0 15 rfl rfl)
theorem dX6_shows_16 : decode cX6_shows 16 = .ok (.iadd, 1) := dk_96 (dk_at dksX6_shows_0 16 rfl rfl)
theorem dX6_shows_17 : decode cX6_shows 17 = .ok (.putfield 176, 3) := dk_181 0 176 (dk_at dksX6_shows_0 17 rfl rfl)
theorem dX6_shows_20 : decode cX6_shows 20 = .ok (.return_, 1) := dk_177 (dk_at dksX6_shows_0 20 rfl rfl)
abbrev cX6_showsNamed : ByteArray := prog_15_method_65_code
def yX6_showsNamed : MethodName := ⟨RX6, "showsNamed", "(I)V"⟩
def dkwX6_showsNamed_2 : List UInt8 := [96, 182, 1, 13, 177]
abbrev dktX6_showsNamed_2 : List UInt8 := dkwX6_showsNamed_2 ++ []
def dkwX6_showsNamed_1 : List UInt8 := [182, 1, 13, 167, 0, 25, 42, 16, 65, 28, 16, 12, 112, 96, 182, 1, 13, 42, 16, 49, 28, 16, 12, 108]
abbrev dktX6_showsNamed_1 : List UInt8 := dkwX6_showsNamed_1 ++ dktX6_showsNamed_2
def dkwX6_showsNamed_0 : List UInt8 := [42, 27, 182, 0, 199, 61, 28, 2, 159, 0, 12, 28, 16, 12, 108, 16, 8, 164, 0, 12, 42, 16, 35]
abbrev dktX6_showsNamed_0 : List UInt8 := dkwX6_showsNamed_0 ++ dktX6_showsNamed_1
theorem dksX6_showsNamed_0 : cX6_showsNamed.data.toList.drop 0 = dktX6_showsNamed_0 := by decide +kernel
theorem dksX6_showsNamed_1 : cX6_showsNamed.data.toList.drop 23 = dktX6_showsNamed_1 := dk_seg dksX6_showsNamed_0 23 rfl rfl
theorem dksX6_showsNamed_2 : cX6_showsNamed.data.toList.drop 47 = dktX6_showsNamed_2 := dk_seg dksX6_showsNamed_1 24 rfl rfl
theorem dX6_showsNamed_0 : decode cX6_showsNamed 0 = .ok (.aload_n 0, 1) := dk_42 (dk_at dksX6_showsNamed_0 0 rfl rfl)
theorem dX6_showsNamed_1 : decode cX6_showsNamed 1 = .ok (.iload_n 1, 1) := dk_27 (dk_at dksX6_showsNamed_0 1 rfl rfl)
theorem dX6_showsNamed_2 : decode cX6_showsNamed 2 = .ok (.invokevirtual 199, 3) := dk_182 0 199 (dk_at dksX6_showsNamed_0 2 rfl rfl)
theorem dX6_showsNamed_5 : decode cX6_showsNamed 5 = .ok (.istore_n 2, 1) := dk_61 (dk_at dksX6_showsNamed_0 5 rfl rfl)
theorem dX6_showsNamed_6 : decode cX6_showsNamed 6 = .ok (.iload_n 2, 1) := dk_28 (dk_at dksX6_showsNamed_0 6 rfl rfl)
theorem dX6_showsNamed_7 : decode cX6_showsNamed 7 = .ok (.iconst (-1), 1) := dk_2 (dk_at dksX6_showsNamed_0 7 rfl rfl)
theorem dX6_showsNamed_8 : decode cX6_showsNamed 8 = .ok (.if_icmp .eq 12, 3) := dk_159 0 12 (dk_at dksX6_showsNamed_0 8 rfl rfl)
theorem dX6_showsNamed_11 : decode cX6_showsNamed 11 = .ok (.iload_n 2, 1) := dk_28 (dk_at dksX6_showsNamed_0 11 rfl rfl)
theorem dX6_showsNamed_12 : decode cX6_showsNamed 12 = .ok (.bipush 12, 2) := dk_16 12 (dk_at dksX6_showsNamed_0 12 rfl rfl)
theorem dX6_showsNamed_14 : decode cX6_showsNamed 14 = .ok (.idiv, 1) := dk_108 (dk_at dksX6_showsNamed_0 14 rfl rfl)
theorem dX6_showsNamed_15 : decode cX6_showsNamed 15 = .ok (.bipush 8, 2) := dk_16 8 (dk_at dksX6_showsNamed_0 15 rfl rfl)
theorem dX6_showsNamed_17 : decode cX6_showsNamed 17 = .ok (.if_icmp .le 12, 3) := dk_164 0 12 (dk_at dksX6_showsNamed_0 17 rfl rfl)
theorem dX6_showsNamed_20 : decode cX6_showsNamed 20 = .ok (.aload_n 0, 1) := dk_42 (dk_at dksX6_showsNamed_0 20 rfl rfl)
theorem dX6_showsNamed_21 : decode cX6_showsNamed 21 = .ok (.bipush 35, 2) := dk_16 35 (dk_at dksX6_showsNamed_0 21 rfl rfl)
theorem dX6_showsNamed_23 : decode cX6_showsNamed 23 = .ok (.invokevirtual 269, 3) := dk_182 1 13 (dk_at dksX6_showsNamed_1 0 rfl rfl)
theorem dX6_showsNamed_26 : decode cX6_showsNamed 26 = .ok (.goto 25, 3) := dk_167 0 25 (dk_at dksX6_showsNamed_1 3 rfl rfl)
theorem dX6_showsNamed_29 : decode cX6_showsNamed 29 = .ok (.aload_n 0, 1) := dk_42 (dk_at dksX6_showsNamed_1 6 rfl rfl)
theorem dX6_showsNamed_30 : decode cX6_showsNamed 30 = .ok (.bipush 65, 2) := dk_16 65 (dk_at dksX6_showsNamed_1 7 rfl rfl)
theorem dX6_showsNamed_32 : decode cX6_showsNamed 32 = .ok (.iload_n 2, 1) := dk_28 (dk_at dksX6_showsNamed_1 9 rfl rfl)
theorem dX6_showsNamed_33 : decode cX6_showsNamed 33 = .ok (.bipush 12, 2) := dk_16 12 (dk_at dksX6_showsNamed_1 10 rfl rfl)
theorem dX6_showsNamed_35 : decode cX6_showsNamed 35 = .ok (.irem, 1) := dk_112 (dk_at dksX6_showsNamed_1 12 rfl rfl)
theorem dX6_showsNamed_36 : decode cX6_showsNamed 36 = .ok (.iadd, 1) := dk_96 (dk_at dksX6_showsNamed_1 13 rfl rfl)
theorem dX6_showsNamed_37 : decode cX6_showsNamed 37 = .ok (.invokevirtual 269, 3) := dk_182 1 13 (dk_at dksX6_showsNamed_1 14 rfl rfl)
theorem dX6_showsNamed_40 : decode cX6_showsNamed 40 = .ok (.aload_n 0, 1) := dk_42 (dk_at dksX6_showsNamed_1 17 rfl rfl)
theorem dX6_showsNamed_41 : decode cX6_showsNamed 41 = .ok (.bipush 49, 2) := dk_16 49 (dk_at dksX6_showsNamed_1 18 rfl rfl)
theorem dX6_showsNamed_43 : decode cX6_showsNamed 43 = .ok (.iload_n 2, 1) := dk_28 (dk_at dksX6_showsNamed_1 20 rfl rfl)
theorem dX6_showsNamed_44 : decode cX6_showsNamed 44 = .ok (.bipush 12, 2) := dk_16 12 (dk_at dksX6_showsNamed_1 21 rfl rfl)
theorem dX6_showsNamed_46 : decode cX6_showsNamed 46 = .ok (.idiv, 1) := dk_108 (dk_at dksX6_showsNamed_1 23 rfl rfl)
theorem dX6_showsNamed_47 : decode cX6_showsNamed 47 = .ok (.iadd, 1) := dk_96 (dk_at dksX6_showsNamed_2 0 rfl rfl)
theorem dX6_showsNamed_48 : decode cX6_showsNamed 48 = .ok (.invokevirtual 269, 3) := dk_182 1 13 (dk_at dksX6_showsNamed_2 1 rfl rfl)
theorem dX6_showsNamed_51 : decode cX6_showsNamed 51 = .ok (.return_, 1) := dk_177 (dk_at dksX6_showsNamed_2 4 rfl rfl)
abbrev cX6_showsNumber : ByteArray := prog_15_method_66_code
def yX6_showsNumber : MethodName := ⟨RX6, "showsNumber", "(I)V"⟩
def dkwX6_showsNumber_2 : List UInt8 := [16, 10, 108, 62, 167, 255, 210, 177]
abbrev dktX6_showsNumber_2 : List UInt8 := dkwX6_showsNumber_2 ++ []
def dkwX6_showsNumber_1 : List UInt8 := [4, 167, 0, 4, 3, 61, 28, 153, 0, 16, 42, 16, 48, 27, 29, 108, 16, 10, 112, 96, 182, 1, 13, 29]
abbrev dktX6_showsNumber_1 : List UInt8 := dkwX6_showsNumber_1 ++ dktX6_showsNumber_2
def dkwX6_showsNumber_0 : List UInt8 := [3, 61, 17, 3, 232, 62, 29, 158, 0, 48, 28, 154, 0, 13, 27, 29, 162, 0, 8, 29, 4, 160, 0, 7]
abbrev dktX6_showsNumber_0 : List UInt8 := dkwX6_showsNumber_0 ++ dktX6_showsNumber_1
theorem dksX6_showsNumber_0 : cX6_showsNumber.data.toList.drop 0 = dktX6_showsNumber_0 := by decide +kernel
theorem dksX6_showsNumber_1 : cX6_showsNumber.data.toList.drop 24 = dktX6_showsNumber_1 := dk_seg dksX6_showsNumber_0 24 rfl rfl
theorem dksX6_showsNumber_2 : cX6_showsNumber.data.toList.drop 48 = dktX6_showsNumber_2 := dk_seg dksX6_showsNumber_1 24 rfl rfl
theorem dX6_showsNumber_0 : decode cX6_showsNumber 0 = .ok (.iconst 0, 1) := dk_3 (dk_at dksX6_showsNumber_0 0 rfl rfl)
theorem dX6_showsNumber_1 : decode cX6_showsNumber 1 = .ok (.istore_n 2, 1) := dk_61 (dk_at dksX6_showsNumber_0 1 rfl rfl)
theorem dX6_showsNumber_2 : decode cX6_showsNumber 2 = .ok (.sipush 1000, 3) := dk_17 3 232 (dk_at dksX6_showsNumber_0 2 rfl rfl)
theorem dX6_showsNumber_5 : decode cX6_showsNumber 5 = .ok (.istore_n 3, 1) := dk_62 (dk_at dksX6_showsNumber_0 5 rfl rfl)
theorem dX6_showsNumber_6 : decode cX6_showsNumber 6 = .ok (.iload_n 3, 1) := dk_29 (dk_at dksX6_showsNumber_0 6 rfl rfl)
theorem dX6_showsNumber_7 : decode cX6_showsNumber 7 = .ok (.ifCond .le 48, 3) := dk_158 0 48 (dk_at dksX6_showsNumber_0 7 rfl rfl)
theorem dX6_showsNumber_10 : decode cX6_showsNumber 10 = .ok (.iload_n 2, 1) := dk_28 (dk_at dksX6_showsNumber_0 10 rfl rfl)
theorem dX6_showsNumber_11 : decode cX6_showsNumber 11 = .ok (.ifCond .ne 13, 3) := dk_154 0 13 (dk_at dksX6_showsNumber_0 11 rfl rfl)
theorem dX6_showsNumber_14 : decode cX6_showsNumber 14 = .ok (.iload_n 1, 1) := dk_27 (dk_at dksX6_showsNumber_0 14 rfl rfl)
theorem dX6_showsNumber_15 : decode cX6_showsNumber 15 = .ok (.iload_n 3, 1) := dk_29 (dk_at dksX6_showsNumber_0 15 rfl rfl)
theorem dX6_showsNumber_16 : decode cX6_showsNumber 16 = .ok (.if_icmp .ge 8, 3) := dk_162 0 8 (dk_at dksX6_showsNumber_0 16 rfl rfl)
theorem dX6_showsNumber_19 : decode cX6_showsNumber 19 = .ok (.iload_n 3, 1) := dk_29 (dk_at dksX6_showsNumber_0 19 rfl rfl)
theorem dX6_showsNumber_20 : decode cX6_showsNumber 20 = .ok (.iconst 1, 1) := dk_4 (dk_at dksX6_showsNumber_0 20 rfl rfl)
theorem dX6_showsNumber_21 : decode cX6_showsNumber 21 = .ok (.if_icmp .ne 7, 3) := dk_160 0 7 (dk_at dksX6_showsNumber_0 21 rfl rfl)
theorem dX6_showsNumber_24 : decode cX6_showsNumber 24 = .ok (.iconst 1, 1) := dk_4 (dk_at dksX6_showsNumber_1 0 rfl rfl)
theorem dX6_showsNumber_25 : decode cX6_showsNumber 25 = .ok (.goto 4, 3) := dk_167 0 4 (dk_at dksX6_showsNumber_1 1 rfl rfl)
theorem dX6_showsNumber_28 : decode cX6_showsNumber 28 = .ok (.iconst 0, 1) := dk_3 (dk_at dksX6_showsNumber_1 4 rfl rfl)
theorem dX6_showsNumber_29 : decode cX6_showsNumber 29 = .ok (.istore_n 2, 1) := dk_61 (dk_at dksX6_showsNumber_1 5 rfl rfl)
theorem dX6_showsNumber_30 : decode cX6_showsNumber 30 = .ok (.iload_n 2, 1) := dk_28 (dk_at dksX6_showsNumber_1 6 rfl rfl)
theorem dX6_showsNumber_31 : decode cX6_showsNumber 31 = .ok (.ifCond .eq 16, 3) := dk_153 0 16 (dk_at dksX6_showsNumber_1 7 rfl rfl)
theorem dX6_showsNumber_34 : decode cX6_showsNumber 34 = .ok (.aload_n 0, 1) := dk_42 (dk_at dksX6_showsNumber_1 10 rfl rfl)
theorem dX6_showsNumber_35 : decode cX6_showsNumber 35 = .ok (.bipush 48, 2) := dk_16 48 (dk_at dksX6_showsNumber_1 11 rfl rfl)
theorem dX6_showsNumber_37 : decode cX6_showsNumber 37 = .ok (.iload_n 1, 1) := dk_27 (dk_at dksX6_showsNumber_1 13 rfl rfl)
theorem dX6_showsNumber_38 : decode cX6_showsNumber 38 = .ok (.iload_n 3, 1) := dk_29 (dk_at dksX6_showsNumber_1 14 rfl rfl)
theorem dX6_showsNumber_39 : decode cX6_showsNumber 39 = .ok (.idiv, 1) := dk_108 (dk_at dksX6_showsNumber_1 15 rfl rfl)
theorem dX6_showsNumber_40 : decode cX6_showsNumber 40 = .ok (.bipush 10, 2) := dk_16 10 (dk_at dksX6_showsNumber_1 16 rfl rfl)
theorem dX6_showsNumber_42 : decode cX6_showsNumber 42 = .ok (.irem, 1) := dk_112 (dk_at dksX6_showsNumber_1 18 rfl rfl)
theorem dX6_showsNumber_43 : decode cX6_showsNumber 43 = .ok (.iadd, 1) := dk_96 (dk_at dksX6_showsNumber_1 19 rfl rfl)
theorem dX6_showsNumber_44 : decode cX6_showsNumber 44 = .ok (.invokevirtual 269, 3) := dk_182 1 13 (dk_at dksX6_showsNumber_1 20 rfl rfl)
theorem dX6_showsNumber_47 : decode cX6_showsNumber 47 = .ok (.iload_n 3, 1) := dk_29 (dk_at dksX6_showsNumber_1 23 rfl rfl)
theorem dX6_showsNumber_48 : decode cX6_showsNumber 48 = .ok (.bipush 10, 2) := dk_16 10 (dk_at dksX6_showsNumber_2 0 rfl rfl)
theorem dX6_showsNumber_50 : decode cX6_showsNumber 50 = .ok (.idiv, 1) := dk_108 (dk_at dksX6_showsNumber_2 2 rfl rfl)
theorem dX6_showsNumber_51 : decode cX6_showsNumber 51 = .ok (.istore_n 3, 1) := dk_62 (dk_at dksX6_showsNumber_2 3 rfl rfl)
theorem dX6_showsNumber_52 : decode cX6_showsNumber 52 = .ok (.goto (-46), 3) := dk_167 255 210 (dk_at dksX6_showsNumber_2 4 rfl rfl)
theorem dX6_showsNumber_55 : decode cX6_showsNumber 55 = .ok (.return_, 1) := dk_177 (dk_at dksX6_showsNumber_2 7 rfl rfl)
abbrev cX6_cycles : ByteArray := prog_15_method_69_code
def yX6_cycles : MethodName := ⟨RX6, "cycles", "(I)I"⟩
def dkwX6_cycles_1 : List UInt8 := [182, 0, 83, 172]
abbrev dktX6_cycles_1 : List UInt8 := dkwX6_cycles_1 ++ []
def dkwX6_cycles_0 : List UInt8 := [27, 184, 0, 127, 154, 0, 9, 42, 4, 182, 0, 131, 172, 42, 27, 182, 0, 223, 42, 42, 182, 1, 22]
abbrev dktX6_cycles_0 : List UInt8 := dkwX6_cycles_0 ++ dktX6_cycles_1
theorem dksX6_cycles_0 : cX6_cycles.data.toList.drop 0 = dktX6_cycles_0 := by decide +kernel
theorem dksX6_cycles_1 : cX6_cycles.data.toList.drop 23 = dktX6_cycles_1 := dk_seg dksX6_cycles_0 23 rfl rfl
theorem dX6_cycles_0 : decode cX6_cycles 0 = .ok (.iload_n 1, 1) := dk_27 (dk_at dksX6_cycles_0 0 rfl rfl)
theorem dX6_cycles_1 : decode cX6_cycles 1 = .ok (.invokestatic 127, 3) := dk_184 0 127 (dk_at dksX6_cycles_0 1 rfl rfl)
theorem dX6_cycles_4 : decode cX6_cycles 4 = .ok (.ifCond .ne 9, 3) := dk_154 0 9 (dk_at dksX6_cycles_0 4 rfl rfl)
theorem dX6_cycles_7 : decode cX6_cycles 7 = .ok (.aload_n 0, 1) := dk_42 (dk_at dksX6_cycles_0 7 rfl rfl)
theorem dX6_cycles_8 : decode cX6_cycles 8 = .ok (.iconst 1, 1) := dk_4 (dk_at dksX6_cycles_0 8 rfl rfl)
theorem dX6_cycles_9 : decode cX6_cycles 9 = .ok (.invokevirtual 131, 3) := dk_182 0 131 (dk_at dksX6_cycles_0 9 rfl rfl)
theorem dX6_cycles_12 : decode cX6_cycles 12 = .ok (.ireturn, 1) := dk_172 (dk_at dksX6_cycles_0 12 rfl rfl)
theorem dX6_cycles_13 : decode cX6_cycles 13 = .ok (.aload_n 0, 1) := dk_42 (dk_at dksX6_cycles_0 13 rfl rfl)
theorem dX6_cycles_14 : decode cX6_cycles 14 = .ok (.iload_n 1, 1) := dk_27 (dk_at dksX6_cycles_0 14 rfl rfl)
theorem dX6_cycles_15 : decode cX6_cycles 15 = .ok (.invokevirtual 223, 3) := dk_182 0 223 (dk_at dksX6_cycles_0 15 rfl rfl)
theorem dX6_cycles_18 : decode cX6_cycles 18 = .ok (.aload_n 0, 1) := dk_42 (dk_at dksX6_cycles_0 18 rfl rfl)
theorem dX6_cycles_19 : decode cX6_cycles 19 = .ok (.aload_n 0, 1) := dk_42 (dk_at dksX6_cycles_0 19 rfl rfl)
theorem dX6_cycles_20 : decode cX6_cycles 20 = .ok (.invokevirtual 278, 3) := dk_182 1 22 (dk_at dksX6_cycles_0 20 rfl rfl)
theorem dX6_cycles_23 : decode cX6_cycles 23 = .ok (.invokevirtual 83, 3) := dk_182 0 83 (dk_at dksX6_cycles_1 0 rfl rfl)
theorem dX6_cycles_26 : decode cX6_cycles 26 = .ok (.ireturn, 1) := dk_172 (dk_at dksX6_cycles_1 3 rfl rfl)
abbrev cX6_cycleMany : ByteArray := prog_15_method_68_code
def yX6_cycleMany : MethodName := ⟨RX6, "cycleMany", "()I"⟩
def dkwX6_cycleMany_1 : List UInt8 := [167, 0, 4, 3, 96, 60, 132, 2, 1, 167, 255, 228, 27, 172]
abbrev dktX6_cycleMany_1 : List UInt8 := dkwX6_cycleMany_1 ++ []
def dkwX6_cycleMany_0 : List UInt8 := [3, 60, 3, 61, 28, 42, 180, 0, 211, 162, 0, 26, 27, 42, 180, 0, 51, 28, 51, 153, 0, 7, 4]
abbrev dktX6_cycleMany_0 : List UInt8 := dkwX6_cycleMany_0 ++ dktX6_cycleMany_1
theorem dksX6_cycleMany_0 : cX6_cycleMany.data.toList.drop 0 = dktX6_cycleMany_0 := by decide +kernel
theorem dksX6_cycleMany_1 : cX6_cycleMany.data.toList.drop 23 = dktX6_cycleMany_1 := dk_seg dksX6_cycleMany_0 23 rfl rfl
theorem dX6_cycleMany_0 : decode cX6_cycleMany 0 = .ok (.iconst 0, 1) := dk_3 (dk_at dksX6_cycleMany_0 0 rfl rfl)
theorem dX6_cycleMany_1 : decode cX6_cycleMany 1 = .ok (.istore_n 1, 1) := dk_60 (dk_at dksX6_cycleMany_0 1 rfl rfl)
theorem dX6_cycleMany_2 : decode cX6_cycleMany 2 = .ok (.iconst 0, 1) := dk_3 (dk_at dksX6_cycleMany_0 2 rfl rfl)
theorem dX6_cycleMany_3 : decode cX6_cycleMany 3 = .ok (.istore_n 2, 1) := dk_61 (dk_at dksX6_cycleMany_0 3 rfl rfl)
theorem dX6_cycleMany_4 : decode cX6_cycleMany 4 = .ok (.iload_n 2, 1) := dk_28 (dk_at dksX6_cycleMany_0 4 rfl rfl)
theorem dX6_cycleMany_5 : decode cX6_cycleMany 5 = .ok (.aload_n 0, 1) := dk_42 (dk_at dksX6_cycleMany_0 5 rfl rfl)
theorem dX6_cycleMany_6 : decode cX6_cycleMany 6 = .ok (.getfield 211, 3) := dk_180 0 211 (dk_at dksX6_cycleMany_0 6 rfl rfl)
theorem dX6_cycleMany_9 : decode cX6_cycleMany 9 = .ok (.if_icmp .ge 26, 3) := dk_162 0 26 (dk_at dksX6_cycleMany_0 9 rfl rfl)
theorem dX6_cycleMany_12 : decode cX6_cycleMany 12 = .ok (.iload_n 1, 1) := dk_27 (dk_at dksX6_cycleMany_0 12 rfl rfl)
theorem dX6_cycleMany_13 : decode cX6_cycleMany 13 = .ok (.aload_n 0, 1) := dk_42 (dk_at dksX6_cycleMany_0 13 rfl rfl)
theorem dX6_cycleMany_14 : decode cX6_cycleMany 14 = .ok (.getfield 51, 3) := dk_180 0 51 (dk_at dksX6_cycleMany_0 14 rfl rfl)
theorem dX6_cycleMany_17 : decode cX6_cycleMany 17 = .ok (.iload_n 2, 1) := dk_28 (dk_at dksX6_cycleMany_0 17 rfl rfl)
theorem dX6_cycleMany_18 : decode cX6_cycleMany 18 = .ok (.baload, 1) := dk_51 (dk_at dksX6_cycleMany_0 18 rfl rfl)
theorem dX6_cycleMany_19 : decode cX6_cycleMany 19 = .ok (.ifCond .eq 7, 3) := dk_153 0 7 (dk_at dksX6_cycleMany_0 19 rfl rfl)
theorem dX6_cycleMany_22 : decode cX6_cycleMany 22 = .ok (.iconst 1, 1) := dk_4 (dk_at dksX6_cycleMany_0 22 rfl rfl)
theorem dX6_cycleMany_23 : decode cX6_cycleMany 23 = .ok (.goto 4, 3) := dk_167 0 4 (dk_at dksX6_cycleMany_1 0 rfl rfl)
theorem dX6_cycleMany_26 : decode cX6_cycleMany 26 = .ok (.iconst 0, 1) := dk_3 (dk_at dksX6_cycleMany_1 3 rfl rfl)
theorem dX6_cycleMany_27 : decode cX6_cycleMany 27 = .ok (.iadd, 1) := dk_96 (dk_at dksX6_cycleMany_1 4 rfl rfl)
theorem dX6_cycleMany_28 : decode cX6_cycleMany 28 = .ok (.istore_n 1, 1) := dk_60 (dk_at dksX6_cycleMany_1 5 rfl rfl)
theorem dX6_cycleMany_29 : decode cX6_cycleMany 29 = .ok (.iinc 2 1, 3) := dk_132 2 1 (dk_at dksX6_cycleMany_1 6 rfl rfl)
theorem dX6_cycleMany_32 : decode cX6_cycleMany 32 = .ok (.goto (-28), 3) := dk_167 255 228 (dk_at dksX6_cycleMany_1 9 rfl rfl)
theorem dX6_cycleMany_35 : decode cX6_cycleMany 35 = .ok (.iload_n 1, 1) := dk_27 (dk_at dksX6_cycleMany_1 12 rfl rfl)
theorem dX6_cycleMany_36 : decode cX6_cycleMany 36 = .ok (.ireturn, 1) := dk_172 (dk_at dksX6_cycleMany_1 13 rfl rfl)
abbrev cX6_order : ByteArray := prog_15_method_71_code
def yX6_order : MethodName := ⟨RX6, "order", "(II)I"⟩
def dkwX6_order_2 : List UInt8 := [172]
abbrev dktX6_order_2 : List UInt8 := dkwX6_order_2 ++ []
def dkwX6_order_1 : List UInt8 := [28, 3, 29, 4, 100, 184, 0, 87, 153, 0, 12, 42, 180, 0, 63, 28, 46, 167, 0, 4, 2, 182, 0, 83]
abbrev dktX6_order_1 : List UInt8 := dkwX6_order_1 ++ dktX6_order_2
def dkwX6_order_0 : List UInt8 := [27, 184, 0, 127, 154, 0, 9, 42, 4, 182, 0, 131, 172, 42, 27, 182, 0, 223, 42, 182, 1, 25, 62, 42]
abbrev dktX6_order_0 : List UInt8 := dkwX6_order_0 ++ dktX6_order_1
theorem dksX6_order_0 : cX6_order.data.toList.drop 0 = dktX6_order_0 := by decide +kernel
theorem dksX6_order_1 : cX6_order.data.toList.drop 24 = dktX6_order_1 := dk_seg dksX6_order_0 24 rfl rfl
theorem dksX6_order_2 : cX6_order.data.toList.drop 48 = dktX6_order_2 := dk_seg dksX6_order_1 24 rfl rfl
theorem dX6_order_0 : decode cX6_order 0 = .ok (.iload_n 1, 1) := dk_27 (dk_at dksX6_order_0 0 rfl rfl)
theorem dX6_order_1 : decode cX6_order 1 = .ok (.invokestatic 127, 3) := dk_184 0 127 (dk_at dksX6_order_0 1 rfl rfl)
theorem dX6_order_4 : decode cX6_order 4 = .ok (.ifCond .ne 9, 3) := dk_154 0 9 (dk_at dksX6_order_0 4 rfl rfl)
theorem dX6_order_7 : decode cX6_order 7 = .ok (.aload_n 0, 1) := dk_42 (dk_at dksX6_order_0 7 rfl rfl)
theorem dX6_order_8 : decode cX6_order 8 = .ok (.iconst 1, 1) := dk_4 (dk_at dksX6_order_0 8 rfl rfl)
theorem dX6_order_9 : decode cX6_order 9 = .ok (.invokevirtual 131, 3) := dk_182 0 131 (dk_at dksX6_order_0 9 rfl rfl)
theorem dX6_order_12 : decode cX6_order 12 = .ok (.ireturn, 1) := dk_172 (dk_at dksX6_order_0 12 rfl rfl)
theorem dX6_order_13 : decode cX6_order 13 = .ok (.aload_n 0, 1) := dk_42 (dk_at dksX6_order_0 13 rfl rfl)
theorem dX6_order_14 : decode cX6_order 14 = .ok (.iload_n 1, 1) := dk_27 (dk_at dksX6_order_0 14 rfl rfl)
theorem dX6_order_15 : decode cX6_order 15 = .ok (.invokevirtual 223, 3) := dk_182 0 223 (dk_at dksX6_order_0 15 rfl rfl)
theorem dX6_order_18 : decode cX6_order 18 = .ok (.aload_n 0, 1) := dk_42 (dk_at dksX6_order_0 18 rfl rfl)
theorem dX6_order_19 : decode cX6_order 19 = .ok (.invokevirtual 281, 3) := dk_182 1 25 (dk_at dksX6_order_0 19 rfl rfl)
theorem dX6_order_22 : decode cX6_order 22 = .ok (.istore_n 3, 1) := dk_62 (dk_at dksX6_order_0 22 rfl rfl)
theorem dX6_order_23 : decode cX6_order 23 = .ok (.aload_n 0, 1) := dk_42 (dk_at dksX6_order_0 23 rfl rfl)
theorem dX6_order_24 : decode cX6_order 24 = .ok (.iload_n 2, 1) := dk_28 (dk_at dksX6_order_1 0 rfl rfl)
theorem dX6_order_25 : decode cX6_order 25 = .ok (.iconst 0, 1) := dk_3 (dk_at dksX6_order_1 1 rfl rfl)
theorem dX6_order_26 : decode cX6_order 26 = .ok (.iload_n 3, 1) := dk_29 (dk_at dksX6_order_1 2 rfl rfl)
theorem dX6_order_27 : decode cX6_order 27 = .ok (.iconst 1, 1) := dk_4 (dk_at dksX6_order_1 3 rfl rfl)
theorem dX6_order_28 : decode cX6_order 28 = .ok (.isub, 1) := dk_100 (dk_at dksX6_order_1 4 rfl rfl)
theorem dX6_order_29 : decode cX6_order 29 = .ok (.invokestatic 87, 3) := dk_184 0 87 (dk_at dksX6_order_1 5 rfl rfl)
theorem dX6_order_32 : decode cX6_order 32 = .ok (.ifCond .eq 12, 3) := dk_153 0 12 (dk_at dksX6_order_1 8 rfl rfl)
theorem dX6_order_35 : decode cX6_order 35 = .ok (.aload_n 0, 1) := dk_42 (dk_at dksX6_order_1 11 rfl rfl)
theorem dX6_order_36 : decode cX6_order 36 = .ok (.getfield 63, 3) := dk_180 0 63 (dk_at dksX6_order_1 12 rfl rfl)
theorem dX6_order_39 : decode cX6_order 39 = .ok (.iload_n 2, 1) := dk_28 (dk_at dksX6_order_1 15 rfl rfl)
theorem dX6_order_40 : decode cX6_order 40 = .ok (.iaload, 1) := dk_46 (dk_at dksX6_order_1 16 rfl rfl)
theorem dX6_order_41 : decode cX6_order 41 = .ok (.goto 4, 3) := dk_167 0 4 (dk_at dksX6_order_1 17 rfl rfl)
theorem dX6_order_44 : decode cX6_order 44 = .ok (.iconst (-1), 1) := dk_2 (dk_at dksX6_order_1 20 rfl rfl)
theorem dX6_order_45 : decode cX6_order 45 = .ok (.invokevirtual 83, 3) := dk_182 0 83 (dk_at dksX6_order_1 21 rfl rfl)
theorem dX6_order_48 : decode cX6_order 48 = .ok (.ireturn, 1) := dk_172 (dk_at dksX6_order_2 0 rfl rfl)
abbrev cX6_orders : ByteArray := prog_15_method_70_code
def yX6_orders : MethodName := ⟨RX6, "orders", "()I"⟩
def dkwX6_orders_5 : List UInt8 := [167, 255, 174, 167, 255, 163, 27, 172]
abbrev dktX6_orders_5 : List UInt8 := dkwX6_orders_5 ++ []
def dkwX6_orders_4 : List UInt8 := [16, 12, 108, 104, 42, 180, 0, 34, 29, 46, 16, 12, 112, 96, 79, 132, 1, 1, 4, 61, 132, 3, 1]
abbrev dktX6_orders_4 : List UInt8 := dkwX6_orders_4 ++ dktX6_orders_5
def dkwX6_orders_3 : List UInt8 := [153, 0, 43, 42, 180, 0, 54, 29, 4, 84, 42, 180, 0, 63, 27, 16, 100, 42, 180, 0, 34, 29, 46]
abbrev dktX6_orders_3 : List UInt8 := dkwX6_orders_3 ++ dktX6_orders_4
def dkwX6_orders_2 : List UInt8 := [180, 0, 54, 29, 51, 154, 0, 61, 42, 180, 0, 51, 29, 51, 154, 0, 52, 42, 29, 3, 182, 0, 226]
abbrev dktX6_orders_2 : List UInt8 := dkwX6_orders_2 ++ dktX6_orders_3
def dkwX6_orders_1 : List UInt8 := [60, 4, 61, 28, 153, 0, 95, 3, 61, 3, 62, 29, 42, 180, 0, 211, 162, 0, 80, 28, 154, 0, 76, 42]
abbrev dktX6_orders_1 : List UInt8 := dkwX6_orders_1 ++ dktX6_orders_2
def dkwX6_orders_0 : List UInt8 := [3, 60, 27, 42, 180, 0, 211, 162, 0, 16, 42, 180, 0, 54, 27, 3, 84, 132, 1, 1, 167, 255, 238, 3]
abbrev dktX6_orders_0 : List UInt8 := dkwX6_orders_0 ++ dktX6_orders_1
theorem dksX6_orders_0 : cX6_orders.data.toList.drop 0 = dktX6_orders_0 := by decide +kernel
theorem dksX6_orders_1 : cX6_orders.data.toList.drop 24 = dktX6_orders_1 := dk_seg dksX6_orders_0 24 rfl rfl
theorem dksX6_orders_2 : cX6_orders.data.toList.drop 48 = dktX6_orders_2 := dk_seg dksX6_orders_1 24 rfl rfl
theorem dksX6_orders_3 : cX6_orders.data.toList.drop 71 = dktX6_orders_3 := dk_seg dksX6_orders_2 23 rfl rfl
theorem dksX6_orders_4 : cX6_orders.data.toList.drop 94 = dktX6_orders_4 := dk_seg dksX6_orders_3 23 rfl rfl
theorem dksX6_orders_5 : cX6_orders.data.toList.drop 117 = dktX6_orders_5 := dk_seg dksX6_orders_4 23 rfl rfl
theorem dX6_orders_0 : decode cX6_orders 0 = .ok (.iconst 0, 1) := dk_3 (dk_at dksX6_orders_0 0 rfl rfl)
theorem dX6_orders_1 : decode cX6_orders 1 = .ok (.istore_n 1, 1) := dk_60 (dk_at dksX6_orders_0 1 rfl rfl)
theorem dX6_orders_2 : decode cX6_orders 2 = .ok (.iload_n 1, 1) := dk_27 (dk_at dksX6_orders_0 2 rfl rfl)
theorem dX6_orders_3 : decode cX6_orders 3 = .ok (.aload_n 0, 1) := dk_42 (dk_at dksX6_orders_0 3 rfl rfl)
theorem dX6_orders_4 : decode cX6_orders 4 = .ok (.getfield 211, 3) := dk_180 0 211 (dk_at dksX6_orders_0 4 rfl rfl)
theorem dX6_orders_7 : decode cX6_orders 7 = .ok (.if_icmp .ge 16, 3) := dk_162 0 16 (dk_at dksX6_orders_0 7 rfl rfl)
theorem dX6_orders_10 : decode cX6_orders 10 = .ok (.aload_n 0, 1) := dk_42 (dk_at dksX6_orders_0 10 rfl rfl)
theorem dX6_orders_11 : decode cX6_orders 11 = .ok (.getfield 54, 3) := dk_180 0 54 (dk_at dksX6_orders_0 11 rfl rfl)
theorem dX6_orders_14 : decode cX6_orders 14 = .ok (.iload_n 1, 1) := dk_27 (dk_at dksX6_orders_0 14 rfl rfl)
theorem dX6_orders_15 : decode cX6_orders 15 = .ok (.iconst 0, 1) := dk_3 (dk_at dksX6_orders_0 15 rfl rfl)
theorem dX6_orders_16 : decode cX6_orders 16 = .ok (.bastore, 1) := dk_84 (dk_at dksX6_orders_0 16 rfl rfl)
theorem dX6_orders_17 : decode cX6_orders 17 = .ok (.iinc 1 1, 3) := dk_132 1 1 (dk_at dksX6_orders_0 17 rfl rfl)
theorem dX6_orders_20 : decode cX6_orders 20 = .ok (.goto (-18), 3) := dk_167 255 238 (dk_at dksX6_orders_0 20 rfl rfl)
theorem dX6_orders_23 : decode cX6_orders 23 = .ok (.iconst 0, 1) := dk_3 (dk_at dksX6_orders_0 23 rfl rfl)
theorem dX6_orders_24 : decode cX6_orders 24 = .ok (.istore_n 1, 1) := dk_60 (dk_at dksX6_orders_1 0 rfl rfl)
theorem dX6_orders_25 : decode cX6_orders 25 = .ok (.iconst 1, 1) := dk_4 (dk_at dksX6_orders_1 1 rfl rfl)
theorem dX6_orders_26 : decode cX6_orders 26 = .ok (.istore_n 2, 1) := dk_61 (dk_at dksX6_orders_1 2 rfl rfl)
theorem dX6_orders_27 : decode cX6_orders 27 = .ok (.iload_n 2, 1) := dk_28 (dk_at dksX6_orders_1 3 rfl rfl)
theorem dX6_orders_28 : decode cX6_orders 28 = .ok (.ifCond .eq 95, 3) := dk_153 0 95 (dk_at dksX6_orders_1 4 rfl rfl)
theorem dX6_orders_31 : decode cX6_orders 31 = .ok (.iconst 0, 1) := dk_3 (dk_at dksX6_orders_1 7 rfl rfl)
theorem dX6_orders_32 : decode cX6_orders 32 = .ok (.istore_n 2, 1) := dk_61 (dk_at dksX6_orders_1 8 rfl rfl)
theorem dX6_orders_33 : decode cX6_orders 33 = .ok (.iconst 0, 1) := dk_3 (dk_at dksX6_orders_1 9 rfl rfl)
theorem dX6_orders_34 : decode cX6_orders 34 = .ok (.istore_n 3, 1) := dk_62 (dk_at dksX6_orders_1 10 rfl rfl)
theorem dX6_orders_35 : decode cX6_orders 35 = .ok (.iload_n 3, 1) := dk_29 (dk_at dksX6_orders_1 11 rfl rfl)
theorem dX6_orders_36 : decode cX6_orders 36 = .ok (.aload_n 0, 1) := dk_42 (dk_at dksX6_orders_1 12 rfl rfl)
theorem dX6_orders_37 : decode cX6_orders 37 = .ok (.getfield 211, 3) := dk_180 0 211 (dk_at dksX6_orders_1 13 rfl rfl)
theorem dX6_orders_40 : decode cX6_orders 40 = .ok (.if_icmp .ge 80, 3) := dk_162 0 80 (dk_at dksX6_orders_1 16 rfl rfl)
theorem dX6_orders_43 : decode cX6_orders 43 = .ok (.iload_n 2, 1) := dk_28 (dk_at dksX6_orders_1 19 rfl rfl)
theorem dX6_orders_44 : decode cX6_orders 44 = .ok (.ifCond .ne 76, 3) := dk_154 0 76 (dk_at dksX6_orders_1 20 rfl rfl)
theorem dX6_orders_47 : decode cX6_orders 47 = .ok (.aload_n 0, 1) := dk_42 (dk_at dksX6_orders_1 23 rfl rfl)
theorem dX6_orders_48 : decode cX6_orders 48 = .ok (.getfield 54, 3) := dk_180 0 54 (dk_at dksX6_orders_2 0 rfl rfl)
theorem dX6_orders_51 : decode cX6_orders 51 = .ok (.iload_n 3, 1) := dk_29 (dk_at dksX6_orders_2 3 rfl rfl)
theorem dX6_orders_52 : decode cX6_orders 52 = .ok (.baload, 1) := dk_51 (dk_at dksX6_orders_2 4 rfl rfl)
theorem dX6_orders_53 : decode cX6_orders 53 = .ok (.ifCond .ne 61, 3) := dk_154 0 61 (dk_at dksX6_orders_2 5 rfl rfl)
theorem dX6_orders_56 : decode cX6_orders 56 = .ok (.aload_n 0, 1) := dk_42 (dk_at dksX6_orders_2 8 rfl rfl)
theorem dX6_orders_57 : decode cX6_orders 57 = .ok (.getfield 51, 3) := dk_180 0 51 (dk_at dksX6_orders_2 9 rfl rfl)
theorem dX6_orders_60 : decode cX6_orders 60 = .ok (.iload_n 3, 1) := dk_29 (dk_at dksX6_orders_2 12 rfl rfl)
theorem dX6_orders_61 : decode cX6_orders 61 = .ok (.baload, 1) := dk_51 (dk_at dksX6_orders_2 13 rfl rfl)
theorem dX6_orders_62 : decode cX6_orders 62 = .ok (.ifCond .ne 52, 3) := dk_154 0 52 (dk_at dksX6_orders_2 14 rfl rfl)
theorem dX6_orders_65 : decode cX6_orders 65 = .ok (.aload_n 0, 1) := dk_42 (dk_at dksX6_orders_2 17 rfl rfl)
theorem dX6_orders_66 : decode cX6_orders 66 = .ok (.iload_n 3, 1) := dk_29 (dk_at dksX6_orders_2 18 rfl rfl)
theorem dX6_orders_67 : decode cX6_orders 67 = .ok (.iconst 0, 1) := dk_3 (dk_at dksX6_orders_2 19 rfl rfl)
theorem dX6_orders_68 : decode cX6_orders 68 = .ok (.invokevirtual 226, 3) := dk_182 0 226 (dk_at dksX6_orders_2 20 rfl rfl)
theorem dX6_orders_71 : decode cX6_orders 71 = .ok (.ifCond .eq 43, 3) := dk_153 0 43 (dk_at dksX6_orders_3 0 rfl rfl)
theorem dX6_orders_74 : decode cX6_orders 74 = .ok (.aload_n 0, 1) := dk_42 (dk_at dksX6_orders_3 3 rfl rfl)
theorem dX6_orders_75 : decode cX6_orders 75 = .ok (.getfield 54, 3) := dk_180 0 54 (dk_at dksX6_orders_3 4 rfl rfl)
theorem dX6_orders_78 : decode cX6_orders 78 = .ok (.iload_n 3, 1) := dk_29 (dk_at dksX6_orders_3 7 rfl rfl)
theorem dX6_orders_79 : decode cX6_orders 79 = .ok (.iconst 1, 1) := dk_4 (dk_at dksX6_orders_3 8 rfl rfl)
theorem dX6_orders_80 : decode cX6_orders 80 = .ok (.bastore, 1) := dk_84 (dk_at dksX6_orders_3 9 rfl rfl)
theorem dX6_orders_81 : decode cX6_orders 81 = .ok (.aload_n 0, 1) := dk_42 (dk_at dksX6_orders_3 10 rfl rfl)
theorem dX6_orders_82 : decode cX6_orders 82 = .ok (.getfield 63, 3) := dk_180 0 63 (dk_at dksX6_orders_3 11 rfl rfl)
theorem dX6_orders_85 : decode cX6_orders 85 = .ok (.iload_n 1, 1) := dk_27 (dk_at dksX6_orders_3 14 rfl rfl)
theorem dX6_orders_86 : decode cX6_orders 86 = .ok (.bipush 100, 2) := dk_16 100 (dk_at dksX6_orders_3 15 rfl rfl)
theorem dX6_orders_88 : decode cX6_orders 88 = .ok (.aload_n 0, 1) := dk_42 (dk_at dksX6_orders_3 17 rfl rfl)
theorem dX6_orders_89 : decode cX6_orders 89 = .ok (.getfield 34, 3) := dk_180 0 34 (dk_at dksX6_orders_3 18 rfl rfl)
theorem dX6_orders_92 : decode cX6_orders 92 = .ok (.iload_n 3, 1) := dk_29 (dk_at dksX6_orders_3 21 rfl rfl)
theorem dX6_orders_93 : decode cX6_orders 93 = .ok (.iaload, 1) := dk_46 (dk_at dksX6_orders_3 22 rfl rfl)
theorem dX6_orders_94 : decode cX6_orders 94 = .ok (.bipush 12, 2) := dk_16 12 (dk_at dksX6_orders_4 0 rfl rfl)
theorem dX6_orders_96 : decode cX6_orders 96 = .ok (.idiv, 1) := dk_108 (dk_at dksX6_orders_4 2 rfl rfl)
theorem dX6_orders_97 : decode cX6_orders 97 = .ok (.imul, 1) := dk_104 (dk_at dksX6_orders_4 3 rfl rfl)
theorem dX6_orders_98 : decode cX6_orders 98 = .ok (.aload_n 0, 1) := dk_42 (dk_at dksX6_orders_4 4 rfl rfl)
theorem dX6_orders_99 : decode cX6_orders 99 = .ok (.getfield 34, 3) := dk_180 0 34 (dk_at dksX6_orders_4 5 rfl rfl)
theorem dX6_orders_102 : decode cX6_orders 102 = .ok (.iload_n 3, 1) := dk_29 (dk_at dksX6_orders_4 8 rfl rfl)
theorem dX6_orders_103 : decode cX6_orders 103 = .ok (.iaload, 1) := dk_46 (dk_at dksX6_orders_4 9 rfl rfl)
theorem dX6_orders_104 : decode cX6_orders 104 = .ok (.bipush 12, 2) := dk_16 12 (dk_at dksX6_orders_4 10 rfl rfl)
theorem dX6_orders_106 : decode cX6_orders 106 = .ok (.irem, 1) := dk_112 (dk_at dksX6_orders_4 12 rfl rfl)
theorem dX6_orders_107 : decode cX6_orders 107 = .ok (.iadd, 1) := dk_96 (dk_at dksX6_orders_4 13 rfl rfl)
theorem dX6_orders_108 : decode cX6_orders 108 = .ok (.iastore, 1) := dk_79 (dk_at dksX6_orders_4 14 rfl rfl)
theorem dX6_orders_109 : decode cX6_orders 109 = .ok (.iinc 1 1, 3) := dk_132 1 1 (dk_at dksX6_orders_4 15 rfl rfl)
theorem dX6_orders_112 : decode cX6_orders 112 = .ok (.iconst 1, 1) := dk_4 (dk_at dksX6_orders_4 18 rfl rfl)
theorem dX6_orders_113 : decode cX6_orders 113 = .ok (.istore_n 2, 1) := dk_61 (dk_at dksX6_orders_4 19 rfl rfl)
theorem dX6_orders_114 : decode cX6_orders 114 = .ok (.iinc 3 1, 3) := dk_132 3 1 (dk_at dksX6_orders_4 20 rfl rfl)
theorem dX6_orders_117 : decode cX6_orders 117 = .ok (.goto (-82), 3) := dk_167 255 174 (dk_at dksX6_orders_5 0 rfl rfl)
theorem dX6_orders_120 : decode cX6_orders 120 = .ok (.goto (-93), 3) := dk_167 255 163 (dk_at dksX6_orders_5 3 rfl rfl)
theorem dX6_orders_123 : decode cX6_orders 123 = .ok (.iload_n 1, 1) := dk_27 (dk_at dksX6_orders_5 6 rfl rfl)
theorem dX6_orders_124 : decode cX6_orders 124 = .ok (.ireturn, 1) := dk_172 (dk_at dksX6_orders_5 7 rfl rfl)
abbrev cX6_receive : ByteArray := prog_15_method_74_code
def yX6_receive : MethodName := ⟨RX6, "receive", "(III)I"⟩
def dkwX6_receive_2 : List UInt8 := [42, 27, 28, 29, 182, 1, 31, 182, 0, 148, 172]
abbrev dktX6_receive_2 : List UInt8 := dkwX6_receive_2 ++ []
def dkwX6_receive_1 : List UInt8 := [159, 0, 13, 29, 4, 16, 40, 184, 0, 87, 154, 0, 9, 42, 5, 182, 0, 131, 172, 42, 182, 0, 141, 42]
abbrev dktX6_receive_1 : List UInt8 := dkwX6_receive_1 ++ dktX6_receive_2
def dkwX6_receive_0 : List UInt8 := [27, 184, 0, 127, 153, 0, 10, 28, 184, 0, 127, 154, 0, 9, 42, 4, 182, 0, 131, 172, 27, 28]
abbrev dktX6_receive_0 : List UInt8 := dkwX6_receive_0 ++ dktX6_receive_1
theorem dksX6_receive_0 : cX6_receive.data.toList.drop 0 = dktX6_receive_0 := by decide +kernel
theorem dksX6_receive_1 : cX6_receive.data.toList.drop 22 = dktX6_receive_1 := dk_seg dksX6_receive_0 22 rfl rfl
theorem dksX6_receive_2 : cX6_receive.data.toList.drop 46 = dktX6_receive_2 := dk_seg dksX6_receive_1 24 rfl rfl
theorem dX6_receive_0 : decode cX6_receive 0 = .ok (.iload_n 1, 1) := dk_27 (dk_at dksX6_receive_0 0 rfl rfl)
theorem dX6_receive_1 : decode cX6_receive 1 = .ok (.invokestatic 127, 3) := dk_184 0 127 (dk_at dksX6_receive_0 1 rfl rfl)
theorem dX6_receive_4 : decode cX6_receive 4 = .ok (.ifCond .eq 10, 3) := dk_153 0 10 (dk_at dksX6_receive_0 4 rfl rfl)
theorem dX6_receive_7 : decode cX6_receive 7 = .ok (.iload_n 2, 1) := dk_28 (dk_at dksX6_receive_0 7 rfl rfl)
theorem dX6_receive_8 : decode cX6_receive 8 = .ok (.invokestatic 127, 3) := dk_184 0 127 (dk_at dksX6_receive_0 8 rfl rfl)
theorem dX6_receive_11 : decode cX6_receive 11 = .ok (.ifCond .ne 9, 3) := dk_154 0 9 (dk_at dksX6_receive_0 11 rfl rfl)
theorem dX6_receive_14 : decode cX6_receive 14 = .ok (.aload_n 0, 1) := dk_42 (dk_at dksX6_receive_0 14 rfl rfl)
theorem dX6_receive_15 : decode cX6_receive 15 = .ok (.iconst 1, 1) := dk_4 (dk_at dksX6_receive_0 15 rfl rfl)
theorem dX6_receive_16 : decode cX6_receive 16 = .ok (.invokevirtual 131, 3) := dk_182 0 131 (dk_at dksX6_receive_0 16 rfl rfl)
theorem dX6_receive_19 : decode cX6_receive 19 = .ok (.ireturn, 1) := dk_172 (dk_at dksX6_receive_0 19 rfl rfl)
theorem dX6_receive_20 : decode cX6_receive 20 = .ok (.iload_n 1, 1) := dk_27 (dk_at dksX6_receive_0 20 rfl rfl)
theorem dX6_receive_21 : decode cX6_receive 21 = .ok (.iload_n 2, 1) := dk_28 (dk_at dksX6_receive_0 21 rfl rfl)
theorem dX6_receive_22 : decode cX6_receive 22 = .ok (.if_icmp .eq 13, 3) := dk_159 0 13 (dk_at dksX6_receive_1 0 rfl rfl)
theorem dX6_receive_25 : decode cX6_receive 25 = .ok (.iload_n 3, 1) := dk_29 (dk_at dksX6_receive_1 3 rfl rfl)
theorem dX6_receive_26 : decode cX6_receive 26 = .ok (.iconst 1, 1) := dk_4 (dk_at dksX6_receive_1 4 rfl rfl)
theorem dX6_receive_27 : decode cX6_receive 27 = .ok (.bipush 40, 2) := dk_16 40 (dk_at dksX6_receive_1 5 rfl rfl)
theorem dX6_receive_29 : decode cX6_receive 29 = .ok (.invokestatic 87, 3) := dk_184 0 87 (dk_at dksX6_receive_1 7 rfl rfl)
theorem dX6_receive_32 : decode cX6_receive 32 = .ok (.ifCond .ne 9, 3) := dk_154 0 9 (dk_at dksX6_receive_1 10 rfl rfl)
theorem dX6_receive_35 : decode cX6_receive 35 = .ok (.aload_n 0, 1) := dk_42 (dk_at dksX6_receive_1 13 rfl rfl)
theorem dX6_receive_36 : decode cX6_receive 36 = .ok (.iconst 2, 1) := dk_5 (dk_at dksX6_receive_1 14 rfl rfl)
theorem dX6_receive_37 : decode cX6_receive 37 = .ok (.invokevirtual 131, 3) := dk_182 0 131 (dk_at dksX6_receive_1 15 rfl rfl)
theorem dX6_receive_40 : decode cX6_receive 40 = .ok (.ireturn, 1) := dk_172 (dk_at dksX6_receive_1 18 rfl rfl)
theorem dX6_receive_41 : decode cX6_receive 41 = .ok (.aload_n 0, 1) := dk_42 (dk_at dksX6_receive_1 19 rfl rfl)
theorem dX6_receive_42 : decode cX6_receive 42 = .ok (.invokevirtual 141, 3) := dk_182 0 141 (dk_at dksX6_receive_1 20 rfl rfl)
theorem dX6_receive_45 : decode cX6_receive 45 = .ok (.aload_n 0, 1) := dk_42 (dk_at dksX6_receive_1 23 rfl rfl)
theorem dX6_receive_46 : decode cX6_receive 46 = .ok (.aload_n 0, 1) := dk_42 (dk_at dksX6_receive_2 0 rfl rfl)
theorem dX6_receive_47 : decode cX6_receive 47 = .ok (.iload_n 1, 1) := dk_27 (dk_at dksX6_receive_2 1 rfl rfl)
theorem dX6_receive_48 : decode cX6_receive 48 = .ok (.iload_n 2, 1) := dk_28 (dk_at dksX6_receive_2 2 rfl rfl)
theorem dX6_receive_49 : decode cX6_receive 49 = .ok (.iload_n 3, 1) := dk_29 (dk_at dksX6_receive_2 3 rfl rfl)
theorem dX6_receive_50 : decode cX6_receive 50 = .ok (.invokevirtual 287, 3) := dk_182 1 31 (dk_at dksX6_receive_2 4 rfl rfl)
theorem dX6_receive_53 : decode cX6_receive 53 = .ok (.invokevirtual 148, 3) := dk_182 0 148 (dk_at dksX6_receive_2 7 rfl rfl)
theorem dX6_receive_56 : decode cX6_receive 56 = .ok (.ireturn, 1) := dk_172 (dk_at dksX6_receive_2 10 rfl rfl)
abbrev cX6_gets : ByteArray := prog_15_method_73_code
def yX6_gets : MethodName := ⟨RX6, "gets", "(III)I"⟩
def dkwX6_gets_4 : List UInt8 := [27, 3, 182, 0, 108, 182, 0, 115, 42, 27, 21, 6, 182, 0, 119, 132, 5, 1, 167, 255, 168, 21, 4, 172]
abbrev dktX6_gets_4 : List UInt8 := dkwX6_gets_4 ++ []
def dkwX6_gets_3 : List UInt8 := [4, 182, 0, 105, 42, 27, 3, 182, 0, 108, 164, 0, 13, 42, 21, 6, 4, 182, 0, 105, 167, 0, 9, 42]
abbrev dktX6_gets_3 : List UInt8 := dkwX6_gets_3 ++ dktX6_gets_4
def dkwX6_gets_2 : List UInt8 := [42, 27, 4, 28, 96, 42, 27, 4, 28, 96, 182, 0, 108, 4, 96, 182, 0, 115, 42, 27, 3, 42, 21, 6]
abbrev dktX6_gets_2 : List UInt8 := dkwX6_gets_2 ++ dktX6_gets_3
def dkwX6_gets_1 : List UInt8 := [54, 5, 21, 5, 21, 4, 162, 0, 87, 16, 40, 28, 104, 42, 27, 4, 28, 96, 182, 0, 108, 96, 54, 6]
abbrev dktX6_gets_1 : List UInt8 := dkwX6_gets_1 ++ dktX6_gets_2
def dkwX6_gets_0 : List UInt8 := [42, 27, 28, 182, 1, 28, 29, 162, 0, 12, 42, 27, 28, 182, 1, 28, 167, 0, 4, 29, 54, 4, 3]
abbrev dktX6_gets_0 : List UInt8 := dkwX6_gets_0 ++ dktX6_gets_1
theorem dksX6_gets_0 : cX6_gets.data.toList.drop 0 = dktX6_gets_0 := by decide +kernel
theorem dksX6_gets_1 : cX6_gets.data.toList.drop 23 = dktX6_gets_1 := dk_seg dksX6_gets_0 23 rfl rfl
theorem dksX6_gets_2 : cX6_gets.data.toList.drop 47 = dktX6_gets_2 := dk_seg dksX6_gets_1 24 rfl rfl
theorem dksX6_gets_3 : cX6_gets.data.toList.drop 71 = dktX6_gets_3 := dk_seg dksX6_gets_2 24 rfl rfl
theorem dksX6_gets_4 : cX6_gets.data.toList.drop 95 = dktX6_gets_4 := dk_seg dksX6_gets_3 24 rfl rfl
theorem dX6_gets_0 : decode cX6_gets 0 = .ok (.aload_n 0, 1) := dk_42 (dk_at dksX6_gets_0 0 rfl rfl)
theorem dX6_gets_1 : decode cX6_gets 1 = .ok (.iload_n 1, 1) := dk_27 (dk_at dksX6_gets_0 1 rfl rfl)
theorem dX6_gets_2 : decode cX6_gets 2 = .ok (.iload_n 2, 1) := dk_28 (dk_at dksX6_gets_0 2 rfl rfl)
theorem dX6_gets_3 : decode cX6_gets 3 = .ok (.invokevirtual 284, 3) := dk_182 1 28 (dk_at dksX6_gets_0 3 rfl rfl)
theorem dX6_gets_6 : decode cX6_gets 6 = .ok (.iload_n 3, 1) := dk_29 (dk_at dksX6_gets_0 6 rfl rfl)
theorem dX6_gets_7 : decode cX6_gets 7 = .ok (.if_icmp .ge 12, 3) := dk_162 0 12 (dk_at dksX6_gets_0 7 rfl rfl)
theorem dX6_gets_10 : decode cX6_gets 10 = .ok (.aload_n 0, 1) := dk_42 (dk_at dksX6_gets_0 10 rfl rfl)
theorem dX6_gets_11 : decode cX6_gets 11 = .ok (.iload_n 1, 1) := dk_27 (dk_at dksX6_gets_0 11 rfl rfl)
theorem dX6_gets_12 : decode cX6_gets 12 = .ok (.iload_n 2, 1) := dk_28 (dk_at dksX6_gets_0 12 rfl rfl)
theorem dX6_gets_13 : decode cX6_gets 13 = .ok (.invokevirtual 284, 3) := dk_182 1 28 (dk_at dksX6_gets_0 13 rfl rfl)
theorem dX6_gets_16 : decode cX6_gets 16 = .ok (.goto 4, 3) := dk_167 0 4 (dk_at dksX6_gets_0 16 rfl rfl)
theorem dX6_gets_19 : decode cX6_gets 19 = .ok (.iload_n 3, 1) := dk_29 (dk_at dksX6_gets_0 19 rfl rfl)
theorem dX6_gets_20 : decode cX6_gets 20 = .ok (.istore 4, 2) := dk_54 4 (dk_at dksX6_gets_0 20 rfl rfl)
theorem dX6_gets_22 : decode cX6_gets 22 = .ok (.iconst 0, 1) := dk_3 (dk_at dksX6_gets_0 22 rfl rfl)
theorem dX6_gets_23 : decode cX6_gets 23 = .ok (.istore 5, 2) := dk_54 5 (dk_at dksX6_gets_1 0 rfl rfl)
theorem dX6_gets_25 : decode cX6_gets 25 = .ok (.iload 5, 2) := dk_21 5 (dk_at dksX6_gets_1 2 rfl rfl)
theorem dX6_gets_27 : decode cX6_gets 27 = .ok (.iload 4, 2) := dk_21 4 (dk_at dksX6_gets_1 4 rfl rfl)
theorem dX6_gets_29 : decode cX6_gets 29 = .ok (.if_icmp .ge 87, 3) := dk_162 0 87 (dk_at dksX6_gets_1 6 rfl rfl)
theorem dX6_gets_32 : decode cX6_gets 32 = .ok (.bipush 40, 2) := dk_16 40 (dk_at dksX6_gets_1 9 rfl rfl)
theorem dX6_gets_34 : decode cX6_gets 34 = .ok (.iload_n 2, 1) := dk_28 (dk_at dksX6_gets_1 11 rfl rfl)
theorem dX6_gets_35 : decode cX6_gets 35 = .ok (.imul, 1) := dk_104 (dk_at dksX6_gets_1 12 rfl rfl)
theorem dX6_gets_36 : decode cX6_gets 36 = .ok (.aload_n 0, 1) := dk_42 (dk_at dksX6_gets_1 13 rfl rfl)
theorem dX6_gets_37 : decode cX6_gets 37 = .ok (.iload_n 1, 1) := dk_27 (dk_at dksX6_gets_1 14 rfl rfl)
theorem dX6_gets_38 : decode cX6_gets 38 = .ok (.iconst 1, 1) := dk_4 (dk_at dksX6_gets_1 15 rfl rfl)
theorem dX6_gets_39 : decode cX6_gets 39 = .ok (.iload_n 2, 1) := dk_28 (dk_at dksX6_gets_1 16 rfl rfl)
theorem dX6_gets_40 : decode cX6_gets 40 = .ok (.iadd, 1) := dk_96 (dk_at dksX6_gets_1 17 rfl rfl)
theorem dX6_gets_41 : decode cX6_gets 41 = .ok (.invokevirtual 108, 3) := dk_182 0 108 (dk_at dksX6_gets_1 18 rfl rfl)
theorem dX6_gets_44 : decode cX6_gets 44 = .ok (.iadd, 1) := dk_96 (dk_at dksX6_gets_1 21 rfl rfl)
theorem dX6_gets_45 : decode cX6_gets 45 = .ok (.istore 6, 2) := dk_54 6 (dk_at dksX6_gets_1 22 rfl rfl)
theorem dX6_gets_47 : decode cX6_gets 47 = .ok (.aload_n 0, 1) := dk_42 (dk_at dksX6_gets_2 0 rfl rfl)
theorem dX6_gets_48 : decode cX6_gets 48 = .ok (.iload_n 1, 1) := dk_27 (dk_at dksX6_gets_2 1 rfl rfl)
theorem dX6_gets_49 : decode cX6_gets 49 = .ok (.iconst 1, 1) := dk_4 (dk_at dksX6_gets_2 2 rfl rfl)
theorem dX6_gets_50 : decode cX6_gets 50 = .ok (.iload_n 2, 1) := dk_28 (dk_at dksX6_gets_2 3 rfl rfl)
theorem dX6_gets_51 : decode cX6_gets 51 = .ok (.iadd, 1) := dk_96 (dk_at dksX6_gets_2 4 rfl rfl)
theorem dX6_gets_52 : decode cX6_gets 52 = .ok (.aload_n 0, 1) := dk_42 (dk_at dksX6_gets_2 5 rfl rfl)
theorem dX6_gets_53 : decode cX6_gets 53 = .ok (.iload_n 1, 1) := dk_27 (dk_at dksX6_gets_2 6 rfl rfl)
theorem dX6_gets_54 : decode cX6_gets 54 = .ok (.iconst 1, 1) := dk_4 (dk_at dksX6_gets_2 7 rfl rfl)
theorem dX6_gets_55 : decode cX6_gets 55 = .ok (.iload_n 2, 1) := dk_28 (dk_at dksX6_gets_2 8 rfl rfl)
theorem dX6_gets_56 : decode cX6_gets 56 = .ok (.iadd, 1) := dk_96 (dk_at dksX6_gets_2 9 rfl rfl)
theorem dX6_gets_57 : decode cX6_gets 57 = .ok (.invokevirtual 108, 3) := dk_182 0 108 (dk_at dksX6_gets_2 10 rfl rfl)
theorem dX6_gets_60 : decode cX6_gets 60 = .ok (.iconst 1, 1) := dk_4 (dk_at dksX6_gets_2 13 rfl rfl)
theorem dX6_gets_61 : decode cX6_gets 61 = .ok (.iadd, 1) := dk_96 (dk_at dksX6_gets_2 14 rfl rfl)
theorem dX6_gets_62 : decode cX6_gets 62 = .ok (.invokevirtual 115, 3) := dk_182 0 115 (dk_at dksX6_gets_2 15 rfl rfl)
theorem dX6_gets_65 : decode cX6_gets 65 = .ok (.aload_n 0, 1) := dk_42 (dk_at dksX6_gets_2 18 rfl rfl)
theorem dX6_gets_66 : decode cX6_gets 66 = .ok (.iload_n 1, 1) := dk_27 (dk_at dksX6_gets_2 19 rfl rfl)
theorem dX6_gets_67 : decode cX6_gets 67 = .ok (.iconst 0, 1) := dk_3 (dk_at dksX6_gets_2 20 rfl rfl)
theorem dX6_gets_68 : decode cX6_gets 68 = .ok (.aload_n 0, 1) := dk_42 (dk_at dksX6_gets_2 21 rfl rfl)
theorem dX6_gets_69 : decode cX6_gets 69 = .ok (.iload 6, 2) := dk_21 6 (dk_at dksX6_gets_2 22 rfl rfl)
theorem dX6_gets_71 : decode cX6_gets 71 = .ok (.iconst 1, 1) := dk_4 (dk_at dksX6_gets_3 0 rfl rfl)
theorem dX6_gets_72 : decode cX6_gets 72 = .ok (.invokevirtual 105, 3) := dk_182 0 105 (dk_at dksX6_gets_3 1 rfl rfl)
theorem dX6_gets_75 : decode cX6_gets 75 = .ok (.aload_n 0, 1) := dk_42 (dk_at dksX6_gets_3 4 rfl rfl)
theorem dX6_gets_76 : decode cX6_gets 76 = .ok (.iload_n 1, 1) := dk_27 (dk_at dksX6_gets_3 5 rfl rfl)
theorem dX6_gets_77 : decode cX6_gets 77 = .ok (.iconst 0, 1) := dk_3 (dk_at dksX6_gets_3 6 rfl rfl)
theorem dX6_gets_78 : decode cX6_gets 78 = .ok (.invokevirtual 108, 3) := dk_182 0 108 (dk_at dksX6_gets_3 7 rfl rfl)
theorem dX6_gets_81 : decode cX6_gets 81 = .ok (.if_icmp .le 13, 3) := dk_164 0 13 (dk_at dksX6_gets_3 10 rfl rfl)
theorem dX6_gets_84 : decode cX6_gets 84 = .ok (.aload_n 0, 1) := dk_42 (dk_at dksX6_gets_3 13 rfl rfl)
theorem dX6_gets_85 : decode cX6_gets 85 = .ok (.iload 6, 2) := dk_21 6 (dk_at dksX6_gets_3 14 rfl rfl)
theorem dX6_gets_87 : decode cX6_gets 87 = .ok (.iconst 1, 1) := dk_4 (dk_at dksX6_gets_3 16 rfl rfl)
theorem dX6_gets_88 : decode cX6_gets 88 = .ok (.invokevirtual 105, 3) := dk_182 0 105 (dk_at dksX6_gets_3 17 rfl rfl)
theorem dX6_gets_91 : decode cX6_gets 91 = .ok (.goto 9, 3) := dk_167 0 9 (dk_at dksX6_gets_3 20 rfl rfl)
theorem dX6_gets_94 : decode cX6_gets 94 = .ok (.aload_n 0, 1) := dk_42 (dk_at dksX6_gets_3 23 rfl rfl)
theorem dX6_gets_95 : decode cX6_gets 95 = .ok (.iload_n 1, 1) := dk_27 (dk_at dksX6_gets_4 0 rfl rfl)
theorem dX6_gets_96 : decode cX6_gets 96 = .ok (.iconst 0, 1) := dk_3 (dk_at dksX6_gets_4 1 rfl rfl)
theorem dX6_gets_97 : decode cX6_gets 97 = .ok (.invokevirtual 108, 3) := dk_182 0 108 (dk_at dksX6_gets_4 2 rfl rfl)
theorem dX6_gets_100 : decode cX6_gets 100 = .ok (.invokevirtual 115, 3) := dk_182 0 115 (dk_at dksX6_gets_4 5 rfl rfl)
theorem dX6_gets_103 : decode cX6_gets 103 = .ok (.aload_n 0, 1) := dk_42 (dk_at dksX6_gets_4 8 rfl rfl)
theorem dX6_gets_104 : decode cX6_gets 104 = .ok (.iload_n 1, 1) := dk_27 (dk_at dksX6_gets_4 9 rfl rfl)
theorem dX6_gets_105 : decode cX6_gets 105 = .ok (.iload 6, 2) := dk_21 6 (dk_at dksX6_gets_4 10 rfl rfl)
theorem dX6_gets_107 : decode cX6_gets 107 = .ok (.invokevirtual 119, 3) := dk_182 0 119 (dk_at dksX6_gets_4 12 rfl rfl)
theorem dX6_gets_110 : decode cX6_gets 110 = .ok (.iinc 5 1, 3) := dk_132 5 1 (dk_at dksX6_gets_4 15 rfl rfl)
theorem dX6_gets_113 : decode cX6_gets 113 = .ok (.goto (-88), 3) := dk_167 255 168 (dk_at dksX6_gets_4 18 rfl rfl)
theorem dX6_gets_116 : decode cX6_gets 116 = .ok (.iload 4, 2) := dk_21 4 (dk_at dksX6_gets_4 21 rfl rfl)
theorem dX6_gets_118 : decode cX6_gets 118 = .ok (.ireturn, 1) := dk_172 (dk_at dksX6_gets_4 23 rfl rfl)
abbrev cX6_missed : ByteArray := prog_15_method_72_code
def yX6_missed : MethodName := ⟨RX6, "missed", "(II)I"⟩
def dkwX6_missed_0 : List UInt8 := [42, 180, 0, 7, 28, 46, 42, 27, 4, 28, 96, 182, 0, 108, 100, 172]
abbrev dktX6_missed_0 : List UInt8 := dkwX6_missed_0 ++ []
theorem dksX6_missed_0 : cX6_missed.data.toList.drop 0 = dktX6_missed_0 := by decide +kernel
theorem dX6_missed_0 : decode cX6_missed 0 = .ok (.aload_n 0, 1) := dk_42 (dk_at dksX6_missed_0 0 rfl rfl)
theorem dX6_missed_1 : decode cX6_missed 1 = .ok (.getfield 7, 3) := dk_180 0 7 (dk_at dksX6_missed_0 1 rfl rfl)
theorem dX6_missed_4 : decode cX6_missed 4 = .ok (.iload_n 2, 1) := dk_28 (dk_at dksX6_missed_0 4 rfl rfl)
theorem dX6_missed_5 : decode cX6_missed 5 = .ok (.iaload, 1) := dk_46 (dk_at dksX6_missed_0 5 rfl rfl)
theorem dX6_missed_6 : decode cX6_missed 6 = .ok (.aload_n 0, 1) := dk_42 (dk_at dksX6_missed_0 6 rfl rfl)
theorem dX6_missed_7 : decode cX6_missed 7 = .ok (.iload_n 1, 1) := dk_27 (dk_at dksX6_missed_0 7 rfl rfl)
theorem dX6_missed_8 : decode cX6_missed 8 = .ok (.iconst 1, 1) := dk_4 (dk_at dksX6_missed_0 8 rfl rfl)
theorem dX6_missed_9 : decode cX6_missed 9 = .ok (.iload_n 2, 1) := dk_28 (dk_at dksX6_missed_0 9 rfl rfl)
theorem dX6_missed_10 : decode cX6_missed 10 = .ok (.iadd, 1) := dk_96 (dk_at dksX6_missed_0 10 rfl rfl)
theorem dX6_missed_11 : decode cX6_missed 11 = .ok (.invokevirtual 108, 3) := dk_182 0 108 (dk_at dksX6_missed_0 11 rfl rfl)
theorem dX6_missed_14 : decode cX6_missed 14 = .ok (.isub, 1) := dk_100 (dk_at dksX6_missed_0 14 rfl rfl)
theorem dX6_missed_15 : decode cX6_missed 15 = .ok (.ireturn, 1) := dk_172 (dk_at dksX6_missed_0 15 rfl rfl)
abbrev cX6_settle : ByteArray := prog_15_method_75_code
def yX6_settle : MethodName := ⟨RX6, "settle", "()I"⟩
def dkwX6_settle_2 : List UInt8 := [132, 2, 1, 167, 255, 215, 42, 27, 182, 0, 148, 172]
abbrev dktX6_settle_2 : List UInt8 := dkwX6_settle_2 ++ []
def dkwX6_settle_1 : List UInt8 := [160, 0, 7, 3, 167, 0, 11, 42, 28, 29, 16, 40, 182, 1, 31, 96, 60, 132, 3, 1, 167, 255, 228]
abbrev dktX6_settle_1 : List UInt8 := dkwX6_settle_1 ++ dktX6_settle_2
def dkwX6_settle_0 : List UInt8 := [42, 182, 0, 141, 3, 60, 3, 61, 28, 6, 162, 0, 42, 3, 62, 29, 6, 162, 0, 29, 27, 29, 28]
abbrev dktX6_settle_0 : List UInt8 := dkwX6_settle_0 ++ dktX6_settle_1
theorem dksX6_settle_0 : cX6_settle.data.toList.drop 0 = dktX6_settle_0 := by decide +kernel
theorem dksX6_settle_1 : cX6_settle.data.toList.drop 23 = dktX6_settle_1 := dk_seg dksX6_settle_0 23 rfl rfl
theorem dksX6_settle_2 : cX6_settle.data.toList.drop 46 = dktX6_settle_2 := dk_seg dksX6_settle_1 23 rfl rfl
theorem dX6_settle_0 : decode cX6_settle 0 = .ok (.aload_n 0, 1) := dk_42 (dk_at dksX6_settle_0 0 rfl rfl)
theorem dX6_settle_1 : decode cX6_settle 1 = .ok (.invokevirtual 141, 3) := dk_182 0 141 (dk_at dksX6_settle_0 1 rfl rfl)
theorem dX6_settle_4 : decode cX6_settle 4 = .ok (.iconst 0, 1) := dk_3 (dk_at dksX6_settle_0 4 rfl rfl)
theorem dX6_settle_5 : decode cX6_settle 5 = .ok (.istore_n 1, 1) := dk_60 (dk_at dksX6_settle_0 5 rfl rfl)
theorem dX6_settle_6 : decode cX6_settle 6 = .ok (.iconst 0, 1) := dk_3 (dk_at dksX6_settle_0 6 rfl rfl)
theorem dX6_settle_7 : decode cX6_settle 7 = .ok (.istore_n 2, 1) := dk_61 (dk_at dksX6_settle_0 7 rfl rfl)
theorem dX6_settle_8 : decode cX6_settle 8 = .ok (.iload_n 2, 1) := dk_28 (dk_at dksX6_settle_0 8 rfl rfl)
theorem dX6_settle_9 : decode cX6_settle 9 = .ok (.iconst 3, 1) := dk_6 (dk_at dksX6_settle_0 9 rfl rfl)
theorem dX6_settle_10 : decode cX6_settle 10 = .ok (.if_icmp .ge 42, 3) := dk_162 0 42 (dk_at dksX6_settle_0 10 rfl rfl)
theorem dX6_settle_13 : decode cX6_settle 13 = .ok (.iconst 0, 1) := dk_3 (dk_at dksX6_settle_0 13 rfl rfl)
theorem dX6_settle_14 : decode cX6_settle 14 = .ok (.istore_n 3, 1) := dk_62 (dk_at dksX6_settle_0 14 rfl rfl)
theorem dX6_settle_15 : decode cX6_settle 15 = .ok (.iload_n 3, 1) := dk_29 (dk_at dksX6_settle_0 15 rfl rfl)
theorem dX6_settle_16 : decode cX6_settle 16 = .ok (.iconst 3, 1) := dk_6 (dk_at dksX6_settle_0 16 rfl rfl)
theorem dX6_settle_17 : decode cX6_settle 17 = .ok (.if_icmp .ge 29, 3) := dk_162 0 29 (dk_at dksX6_settle_0 17 rfl rfl)
theorem dX6_settle_20 : decode cX6_settle 20 = .ok (.iload_n 1, 1) := dk_27 (dk_at dksX6_settle_0 20 rfl rfl)
theorem dX6_settle_21 : decode cX6_settle 21 = .ok (.iload_n 3, 1) := dk_29 (dk_at dksX6_settle_0 21 rfl rfl)
theorem dX6_settle_22 : decode cX6_settle 22 = .ok (.iload_n 2, 1) := dk_28 (dk_at dksX6_settle_0 22 rfl rfl)
theorem dX6_settle_23 : decode cX6_settle 23 = .ok (.if_icmp .ne 7, 3) := dk_160 0 7 (dk_at dksX6_settle_1 0 rfl rfl)
theorem dX6_settle_26 : decode cX6_settle 26 = .ok (.iconst 0, 1) := dk_3 (dk_at dksX6_settle_1 3 rfl rfl)
theorem dX6_settle_27 : decode cX6_settle 27 = .ok (.goto 11, 3) := dk_167 0 11 (dk_at dksX6_settle_1 4 rfl rfl)
theorem dX6_settle_30 : decode cX6_settle 30 = .ok (.aload_n 0, 1) := dk_42 (dk_at dksX6_settle_1 7 rfl rfl)
theorem dX6_settle_31 : decode cX6_settle 31 = .ok (.iload_n 2, 1) := dk_28 (dk_at dksX6_settle_1 8 rfl rfl)
theorem dX6_settle_32 : decode cX6_settle 32 = .ok (.iload_n 3, 1) := dk_29 (dk_at dksX6_settle_1 9 rfl rfl)
theorem dX6_settle_33 : decode cX6_settle 33 = .ok (.bipush 40, 2) := dk_16 40 (dk_at dksX6_settle_1 10 rfl rfl)
theorem dX6_settle_35 : decode cX6_settle 35 = .ok (.invokevirtual 287, 3) := dk_182 1 31 (dk_at dksX6_settle_1 12 rfl rfl)
theorem dX6_settle_38 : decode cX6_settle 38 = .ok (.iadd, 1) := dk_96 (dk_at dksX6_settle_1 15 rfl rfl)
theorem dX6_settle_39 : decode cX6_settle 39 = .ok (.istore_n 1, 1) := dk_60 (dk_at dksX6_settle_1 16 rfl rfl)
theorem dX6_settle_40 : decode cX6_settle 40 = .ok (.iinc 3 1, 3) := dk_132 3 1 (dk_at dksX6_settle_1 17 rfl rfl)
theorem dX6_settle_43 : decode cX6_settle 43 = .ok (.goto (-28), 3) := dk_167 255 228 (dk_at dksX6_settle_1 20 rfl rfl)
theorem dX6_settle_46 : decode cX6_settle 46 = .ok (.iinc 2 1, 3) := dk_132 2 1 (dk_at dksX6_settle_2 0 rfl rfl)
theorem dX6_settle_49 : decode cX6_settle 49 = .ok (.goto (-41), 3) := dk_167 255 215 (dk_at dksX6_settle_2 3 rfl rfl)
theorem dX6_settle_52 : decode cX6_settle 52 = .ok (.aload_n 0, 1) := dk_42 (dk_at dksX6_settle_2 6 rfl rfl)
theorem dX6_settle_53 : decode cX6_settle 53 = .ok (.iload_n 1, 1) := dk_27 (dk_at dksX6_settle_2 7 rfl rfl)
theorem dX6_settle_54 : decode cX6_settle 54 = .ok (.invokevirtual 148, 3) := dk_182 0 148 (dk_at dksX6_settle_2 8 rfl rfl)
theorem dX6_settle_57 : decode cX6_settle 57 = .ok (.ireturn, 1) := dk_172 (dk_at dksX6_settle_2 11 rfl rfl)
abbrev cX6_missing : ByteArray := prog_15_method_76_code
def yX6_missing : MethodName := ⟨RX6, "missing", "(II)I"⟩
def dkwX6_missing_1 : List UInt8 := [160, 0, 11, 42, 5, 182, 0, 131, 167, 0, 13, 42, 42, 27, 28, 182, 1, 28, 182, 0, 83, 172]
abbrev dktX6_missing_1 : List UInt8 := dkwX6_missing_1 ++ []
def dkwX6_missing_0 : List UInt8 := [27, 184, 0, 127, 153, 0, 10, 28, 184, 0, 127, 154, 0, 9, 42, 4, 182, 0, 131, 172, 27, 28]
abbrev dktX6_missing_0 : List UInt8 := dkwX6_missing_0 ++ dktX6_missing_1
theorem dksX6_missing_0 : cX6_missing.data.toList.drop 0 = dktX6_missing_0 := by decide +kernel
theorem dksX6_missing_1 : cX6_missing.data.toList.drop 22 = dktX6_missing_1 := dk_seg dksX6_missing_0 22 rfl rfl
theorem dX6_missing_0 : decode cX6_missing 0 = .ok (.iload_n 1, 1) := dk_27 (dk_at dksX6_missing_0 0 rfl rfl)
theorem dX6_missing_1 : decode cX6_missing 1 = .ok (.invokestatic 127, 3) := dk_184 0 127 (dk_at dksX6_missing_0 1 rfl rfl)
theorem dX6_missing_4 : decode cX6_missing 4 = .ok (.ifCond .eq 10, 3) := dk_153 0 10 (dk_at dksX6_missing_0 4 rfl rfl)
theorem dX6_missing_7 : decode cX6_missing 7 = .ok (.iload_n 2, 1) := dk_28 (dk_at dksX6_missing_0 7 rfl rfl)
theorem dX6_missing_8 : decode cX6_missing 8 = .ok (.invokestatic 127, 3) := dk_184 0 127 (dk_at dksX6_missing_0 8 rfl rfl)
theorem dX6_missing_11 : decode cX6_missing 11 = .ok (.ifCond .ne 9, 3) := dk_154 0 9 (dk_at dksX6_missing_0 11 rfl rfl)
theorem dX6_missing_14 : decode cX6_missing 14 = .ok (.aload_n 0, 1) := dk_42 (dk_at dksX6_missing_0 14 rfl rfl)
theorem dX6_missing_15 : decode cX6_missing 15 = .ok (.iconst 1, 1) := dk_4 (dk_at dksX6_missing_0 15 rfl rfl)
theorem dX6_missing_16 : decode cX6_missing 16 = .ok (.invokevirtual 131, 3) := dk_182 0 131 (dk_at dksX6_missing_0 16 rfl rfl)
theorem dX6_missing_19 : decode cX6_missing 19 = .ok (.ireturn, 1) := dk_172 (dk_at dksX6_missing_0 19 rfl rfl)
theorem dX6_missing_20 : decode cX6_missing 20 = .ok (.iload_n 1, 1) := dk_27 (dk_at dksX6_missing_0 20 rfl rfl)
theorem dX6_missing_21 : decode cX6_missing 21 = .ok (.iload_n 2, 1) := dk_28 (dk_at dksX6_missing_0 21 rfl rfl)
theorem dX6_missing_22 : decode cX6_missing 22 = .ok (.if_icmp .ne 11, 3) := dk_160 0 11 (dk_at dksX6_missing_1 0 rfl rfl)
theorem dX6_missing_25 : decode cX6_missing 25 = .ok (.aload_n 0, 1) := dk_42 (dk_at dksX6_missing_1 3 rfl rfl)
theorem dX6_missing_26 : decode cX6_missing 26 = .ok (.iconst 2, 1) := dk_5 (dk_at dksX6_missing_1 4 rfl rfl)
theorem dX6_missing_27 : decode cX6_missing 27 = .ok (.invokevirtual 131, 3) := dk_182 0 131 (dk_at dksX6_missing_1 5 rfl rfl)
theorem dX6_missing_30 : decode cX6_missing 30 = .ok (.goto 13, 3) := dk_167 0 13 (dk_at dksX6_missing_1 8 rfl rfl)
theorem dX6_missing_33 : decode cX6_missing 33 = .ok (.aload_n 0, 1) := dk_42 (dk_at dksX6_missing_1 11 rfl rfl)
theorem dX6_missing_34 : decode cX6_missing 34 = .ok (.aload_n 0, 1) := dk_42 (dk_at dksX6_missing_1 12 rfl rfl)
theorem dX6_missing_35 : decode cX6_missing 35 = .ok (.iload_n 1, 1) := dk_27 (dk_at dksX6_missing_1 13 rfl rfl)
theorem dX6_missing_36 : decode cX6_missing 36 = .ok (.iload_n 2, 1) := dk_28 (dk_at dksX6_missing_1 14 rfl rfl)
theorem dX6_missing_37 : decode cX6_missing 37 = .ok (.invokevirtual 284, 3) := dk_182 1 28 (dk_at dksX6_missing_1 15 rfl rfl)
theorem dX6_missing_40 : decode cX6_missing 40 = .ok (.invokevirtual 83, 3) := dk_182 0 83 (dk_at dksX6_missing_1 18 rfl rfl)
theorem dX6_missing_43 : decode cX6_missing 43 = .ok (.ireturn, 1) := dk_172 (dk_at dksX6_missing_1 21 rfl rfl)
abbrev cX6_clock : ByteArray := prog_15_method_77_code
def yX6_clock : MethodName := ⟨RX6, "clock", "(I)I"⟩
def dkwX6_clock_1 : List UInt8 := [182, 0, 131, 172]
abbrev dktX6_clock_1 : List UInt8 := dkwX6_clock_1 ++ []
def dkwX6_clock_0 : List UInt8 := [27, 184, 0, 127, 153, 0, 16, 42, 42, 27, 3, 182, 0, 108, 182, 0, 83, 167, 0, 8, 42, 4]
abbrev dktX6_clock_0 : List UInt8 := dkwX6_clock_0 ++ dktX6_clock_1
theorem dksX6_clock_0 : cX6_clock.data.toList.drop 0 = dktX6_clock_0 := by decide +kernel
theorem dksX6_clock_1 : cX6_clock.data.toList.drop 22 = dktX6_clock_1 := dk_seg dksX6_clock_0 22 rfl rfl
theorem dX6_clock_0 : decode cX6_clock 0 = .ok (.iload_n 1, 1) := dk_27 (dk_at dksX6_clock_0 0 rfl rfl)
theorem dX6_clock_1 : decode cX6_clock 1 = .ok (.invokestatic 127, 3) := dk_184 0 127 (dk_at dksX6_clock_0 1 rfl rfl)
theorem dX6_clock_4 : decode cX6_clock 4 = .ok (.ifCond .eq 16, 3) := dk_153 0 16 (dk_at dksX6_clock_0 4 rfl rfl)
theorem dX6_clock_7 : decode cX6_clock 7 = .ok (.aload_n 0, 1) := dk_42 (dk_at dksX6_clock_0 7 rfl rfl)
theorem dX6_clock_8 : decode cX6_clock 8 = .ok (.aload_n 0, 1) := dk_42 (dk_at dksX6_clock_0 8 rfl rfl)
theorem dX6_clock_9 : decode cX6_clock 9 = .ok (.iload_n 1, 1) := dk_27 (dk_at dksX6_clock_0 9 rfl rfl)
theorem dX6_clock_10 : decode cX6_clock 10 = .ok (.iconst 0, 1) := dk_3 (dk_at dksX6_clock_0 10 rfl rfl)
theorem dX6_clock_11 : decode cX6_clock 11 = .ok (.invokevirtual 108, 3) := dk_182 0 108 (dk_at dksX6_clock_0 11 rfl rfl)
theorem dX6_clock_14 : decode cX6_clock 14 = .ok (.invokevirtual 83, 3) := dk_182 0 83 (dk_at dksX6_clock_0 14 rfl rfl)
theorem dX6_clock_17 : decode cX6_clock 17 = .ok (.goto 8, 3) := dk_167 0 8 (dk_at dksX6_clock_0 17 rfl rfl)
theorem dX6_clock_20 : decode cX6_clock 20 = .ok (.aload_n 0, 1) := dk_42 (dk_at dksX6_clock_0 20 rfl rfl)
theorem dX6_clock_21 : decode cX6_clock 21 = .ok (.iconst 1, 1) := dk_4 (dk_at dksX6_clock_0 21 rfl rfl)
theorem dX6_clock_22 : decode cX6_clock 22 = .ok (.invokevirtual 131, 3) := dk_182 0 131 (dk_at dksX6_clock_1 0 rfl rfl)
theorem dX6_clock_25 : decode cX6_clock 25 = .ok (.ireturn, 1) := dk_172 (dk_at dksX6_clock_1 3 rfl rfl)
abbrev cX6_operation : ByteArray := prog_15_method_78_code
def yX6_operation : MethodName := ⟨RX6, "operation", "(III)I"⟩
def dkwX6_operation_2 : List UInt8 := [27, 104, 28, 96, 29, 182, 0, 105, 167, 0, 4, 2, 182, 0, 83, 172]
abbrev dktX6_operation_2 : List UInt8 := dkwX6_operation_2 ++ []
def dkwX6_operation_1 : List UInt8 := [182, 0, 131, 172, 42, 28, 3, 42, 180, 0, 7, 27, 46, 4, 100, 184, 0, 87, 153, 0, 17, 42, 16, 40]
abbrev dktX6_operation_1 : List UInt8 := dkwX6_operation_1 ++ dktX6_operation_2
def dkwX6_operation_0 : List UInt8 := [27, 184, 0, 127, 154, 0, 9, 42, 4, 182, 0, 131, 172, 29, 3, 7, 184, 0, 87, 154, 0, 9, 42, 5]
abbrev dktX6_operation_0 : List UInt8 := dkwX6_operation_0 ++ dktX6_operation_1
theorem dksX6_operation_0 : cX6_operation.data.toList.drop 0 = dktX6_operation_0 := by decide +kernel
theorem dksX6_operation_1 : cX6_operation.data.toList.drop 24 = dktX6_operation_1 := dk_seg dksX6_operation_0 24 rfl rfl
theorem dksX6_operation_2 : cX6_operation.data.toList.drop 48 = dktX6_operation_2 := dk_seg dksX6_operation_1 24 rfl rfl
theorem dX6_operation_0 : decode cX6_operation 0 = .ok (.iload_n 1, 1) := dk_27 (dk_at dksX6_operation_0 0 rfl rfl)
theorem dX6_operation_1 : decode cX6_operation 1 = .ok (.invokestatic 127, 3) := dk_184 0 127 (dk_at dksX6_operation_0 1 rfl rfl)
theorem dX6_operation_4 : decode cX6_operation 4 = .ok (.ifCond .ne 9, 3) := dk_154 0 9 (dk_at dksX6_operation_0 4 rfl rfl)
theorem dX6_operation_7 : decode cX6_operation 7 = .ok (.aload_n 0, 1) := dk_42 (dk_at dksX6_operation_0 7 rfl rfl)
theorem dX6_operation_8 : decode cX6_operation 8 = .ok (.iconst 1, 1) := dk_4 (dk_at dksX6_operation_0 8 rfl rfl)
theorem dX6_operation_9 : decode cX6_operation 9 = .ok (.invokevirtual 131, 3) := dk_182 0 131 (dk_at dksX6_operation_0 9 rfl rfl)
theorem dX6_operation_12 : decode cX6_operation 12 = .ok (.ireturn, 1) := dk_172 (dk_at dksX6_operation_0 12 rfl rfl)
theorem dX6_operation_13 : decode cX6_operation 13 = .ok (.iload_n 3, 1) := dk_29 (dk_at dksX6_operation_0 13 rfl rfl)
theorem dX6_operation_14 : decode cX6_operation 14 = .ok (.iconst 0, 1) := dk_3 (dk_at dksX6_operation_0 14 rfl rfl)
theorem dX6_operation_15 : decode cX6_operation 15 = .ok (.iconst 4, 1) := dk_7 (dk_at dksX6_operation_0 15 rfl rfl)
theorem dX6_operation_16 : decode cX6_operation 16 = .ok (.invokestatic 87, 3) := dk_184 0 87 (dk_at dksX6_operation_0 16 rfl rfl)
theorem dX6_operation_19 : decode cX6_operation 19 = .ok (.ifCond .ne 9, 3) := dk_154 0 9 (dk_at dksX6_operation_0 19 rfl rfl)
theorem dX6_operation_22 : decode cX6_operation 22 = .ok (.aload_n 0, 1) := dk_42 (dk_at dksX6_operation_0 22 rfl rfl)
theorem dX6_operation_23 : decode cX6_operation 23 = .ok (.iconst 2, 1) := dk_5 (dk_at dksX6_operation_0 23 rfl rfl)
theorem dX6_operation_24 : decode cX6_operation 24 = .ok (.invokevirtual 131, 3) := dk_182 0 131 (dk_at dksX6_operation_1 0 rfl rfl)
theorem dX6_operation_27 : decode cX6_operation 27 = .ok (.ireturn, 1) := dk_172 (dk_at dksX6_operation_1 3 rfl rfl)
theorem dX6_operation_28 : decode cX6_operation 28 = .ok (.aload_n 0, 1) := dk_42 (dk_at dksX6_operation_1 4 rfl rfl)
theorem dX6_operation_29 : decode cX6_operation 29 = .ok (.iload_n 2, 1) := dk_28 (dk_at dksX6_operation_1 5 rfl rfl)
theorem dX6_operation_30 : decode cX6_operation 30 = .ok (.iconst 0, 1) := dk_3 (dk_at dksX6_operation_1 6 rfl rfl)
theorem dX6_operation_31 : decode cX6_operation 31 = .ok (.aload_n 0, 1) := dk_42 (dk_at dksX6_operation_1 7 rfl rfl)
theorem dX6_operation_32 : decode cX6_operation 32 = .ok (.getfield 7, 3) := dk_180 0 7 (dk_at dksX6_operation_1 8 rfl rfl)
theorem dX6_operation_35 : decode cX6_operation 35 = .ok (.iload_n 1, 1) := dk_27 (dk_at dksX6_operation_1 11 rfl rfl)
theorem dX6_operation_36 : decode cX6_operation 36 = .ok (.iaload, 1) := dk_46 (dk_at dksX6_operation_1 12 rfl rfl)
theorem dX6_operation_37 : decode cX6_operation 37 = .ok (.iconst 1, 1) := dk_4 (dk_at dksX6_operation_1 13 rfl rfl)
theorem dX6_operation_38 : decode cX6_operation 38 = .ok (.isub, 1) := dk_100 (dk_at dksX6_operation_1 14 rfl rfl)
theorem dX6_operation_39 : decode cX6_operation 39 = .ok (.invokestatic 87, 3) := dk_184 0 87 (dk_at dksX6_operation_1 15 rfl rfl)
theorem dX6_operation_42 : decode cX6_operation 42 = .ok (.ifCond .eq 17, 3) := dk_153 0 17 (dk_at dksX6_operation_1 18 rfl rfl)
theorem dX6_operation_45 : decode cX6_operation 45 = .ok (.aload_n 0, 1) := dk_42 (dk_at dksX6_operation_1 21 rfl rfl)
theorem dX6_operation_46 : decode cX6_operation 46 = .ok (.bipush 40, 2) := dk_16 40 (dk_at dksX6_operation_1 22 rfl rfl)
theorem dX6_operation_48 : decode cX6_operation 48 = .ok (.iload_n 1, 1) := dk_27 (dk_at dksX6_operation_2 0 rfl rfl)
theorem dX6_operation_49 : decode cX6_operation 49 = .ok (.imul, 1) := dk_104 (dk_at dksX6_operation_2 1 rfl rfl)
theorem dX6_operation_50 : decode cX6_operation 50 = .ok (.iload_n 2, 1) := dk_28 (dk_at dksX6_operation_2 2 rfl rfl)
theorem dX6_operation_51 : decode cX6_operation 51 = .ok (.iadd, 1) := dk_96 (dk_at dksX6_operation_2 3 rfl rfl)
theorem dX6_operation_52 : decode cX6_operation 52 = .ok (.iload_n 3, 1) := dk_29 (dk_at dksX6_operation_2 4 rfl rfl)
theorem dX6_operation_53 : decode cX6_operation 53 = .ok (.invokevirtual 105, 3) := dk_182 0 105 (dk_at dksX6_operation_2 5 rfl rfl)
theorem dX6_operation_56 : decode cX6_operation 56 = .ok (.goto 4, 3) := dk_167 0 4 (dk_at dksX6_operation_2 8 rfl rfl)
theorem dX6_operation_59 : decode cX6_operation 59 = .ok (.iconst (-1), 1) := dk_2 (dk_at dksX6_operation_2 11 rfl rfl)
theorem dX6_operation_60 : decode cX6_operation 60 = .ok (.invokevirtual 83, 3) := dk_182 0 83 (dk_at dksX6_operation_2 12 rfl rfl)
theorem dX6_operation_63 : decode cX6_operation 63 = .ok (.ireturn, 1) := dk_172 (dk_at dksX6_operation_2 15 rfl rfl)
abbrev cX6_areAlike : ByteArray := prog_15_method_80_code
def yX6_areAlike : MethodName := ⟨RX6, "areAlike", "(II)Z"⟩
def dkwX6_areAlike_4 : List UInt8 := [180, 0, 66, 21, 4, 47, 148, 154, 0, 7, 4, 167, 0, 4, 3, 62, 132, 4, 1, 167, 255, 217, 29, 172]
abbrev dktX6_areAlike_4 : List UInt8 := dkwX6_areAlike_4 ++ []
def dkwX6_areAlike_3 : List UInt8 := [62, 3, 54, 4, 21, 4, 17, 2, 92, 162, 0, 37, 29, 153, 0, 25, 42, 180, 0, 69, 21, 4, 47, 42]
abbrev dktX6_areAlike_3 : List UInt8 := dkwX6_areAlike_3 ++ dktX6_areAlike_4
def dkwX6_areAlike_2 : List UInt8 := [42, 180, 0, 69, 29, 42, 180, 0, 66, 29, 47, 80, 132, 3, 1, 167, 255, 234, 42, 28, 182, 1, 34, 4]
abbrev dktX6_areAlike_2 : List UInt8 := dkwX6_areAlike_2 ++ dktX6_areAlike_3
def dkwX6_areAlike_1 : List UInt8 := [167, 0, 4, 3, 172, 42, 3, 181, 0, 76, 42, 27, 182, 1, 34, 3, 62, 29, 17, 2, 92, 162, 0, 21]
abbrev dktX6_areAlike_1 : List UInt8 := dkwX6_areAlike_1 ++ dktX6_areAlike_2
def dkwX6_areAlike_0 : List UInt8 := [27, 184, 0, 127, 153, 0, 10, 28, 184, 0, 127, 154, 0, 17, 42, 4, 182, 0, 131, 153, 0, 7, 4]
abbrev dktX6_areAlike_0 : List UInt8 := dkwX6_areAlike_0 ++ dktX6_areAlike_1
theorem dksX6_areAlike_0 : cX6_areAlike.data.toList.drop 0 = dktX6_areAlike_0 := by decide +kernel
theorem dksX6_areAlike_1 : cX6_areAlike.data.toList.drop 23 = dktX6_areAlike_1 := dk_seg dksX6_areAlike_0 23 rfl rfl
theorem dksX6_areAlike_2 : cX6_areAlike.data.toList.drop 47 = dktX6_areAlike_2 := dk_seg dksX6_areAlike_1 24 rfl rfl
theorem dksX6_areAlike_3 : cX6_areAlike.data.toList.drop 71 = dktX6_areAlike_3 := dk_seg dksX6_areAlike_2 24 rfl rfl
theorem dksX6_areAlike_4 : cX6_areAlike.data.toList.drop 95 = dktX6_areAlike_4 := dk_seg dksX6_areAlike_3 24 rfl rfl
theorem dX6_areAlike_0 : decode cX6_areAlike 0 = .ok (.iload_n 1, 1) := dk_27 (dk_at dksX6_areAlike_0 0 rfl rfl)
theorem dX6_areAlike_1 : decode cX6_areAlike 1 = .ok (.invokestatic 127, 3) := dk_184 0 127 (dk_at dksX6_areAlike_0 1 rfl rfl)
theorem dX6_areAlike_4 : decode cX6_areAlike 4 = .ok (.ifCond .eq 10, 3) := dk_153 0 10 (dk_at dksX6_areAlike_0 4 rfl rfl)
theorem dX6_areAlike_7 : decode cX6_areAlike 7 = .ok (.iload_n 2, 1) := dk_28 (dk_at dksX6_areAlike_0 7 rfl rfl)
theorem dX6_areAlike_8 : decode cX6_areAlike 8 = .ok (.invokestatic 127, 3) := dk_184 0 127 (dk_at dksX6_areAlike_0 8 rfl rfl)
theorem dX6_areAlike_11 : decode cX6_areAlike 11 = .ok (.ifCond .ne 17, 3) := dk_154 0 17 (dk_at dksX6_areAlike_0 11 rfl rfl)
theorem dX6_areAlike_14 : decode cX6_areAlike 14 = .ok (.aload_n 0, 1) := dk_42 (dk_at dksX6_areAlike_0 14 rfl rfl)
theorem dX6_areAlike_15 : decode cX6_areAlike 15 = .ok (.iconst 1, 1) := dk_4 (dk_at dksX6_areAlike_0 15 rfl rfl)
theorem dX6_areAlike_16 : decode cX6_areAlike 16 = .ok (.invokevirtual 131, 3) := dk_182 0 131 (dk_at dksX6_areAlike_0 16 rfl rfl)
theorem dX6_areAlike_19 : decode cX6_areAlike 19 = .ok (.ifCond .eq 7, 3) := dk_153 0 7 (dk_at dksX6_areAlike_0 19 rfl rfl)
theorem dX6_areAlike_22 : decode cX6_areAlike 22 = .ok (.iconst 1, 1) := dk_4 (dk_at dksX6_areAlike_0 22 rfl rfl)
theorem dX6_areAlike_23 : decode cX6_areAlike 23 = .ok (.goto 4, 3) := dk_167 0 4 (dk_at dksX6_areAlike_1 0 rfl rfl)
theorem dX6_areAlike_26 : decode cX6_areAlike 26 = .ok (.iconst 0, 1) := dk_3 (dk_at dksX6_areAlike_1 3 rfl rfl)
theorem dX6_areAlike_27 : decode cX6_areAlike 27 = .ok (.ireturn, 1) := dk_172 (dk_at dksX6_areAlike_1 4 rfl rfl)
theorem dX6_areAlike_28 : decode cX6_areAlike 28 = .ok (.aload_n 0, 1) := dk_42 (dk_at dksX6_areAlike_1 5 rfl rfl)
theorem dX6_areAlike_29 : decode cX6_areAlike 29 = .ok (.iconst 0, 1) := dk_3 (dk_at dksX6_areAlike_1 6 rfl rfl)
theorem dX6_areAlike_30 : decode cX6_areAlike 30 = .ok (.putfield 76, 3) := dk_181 0 76 (dk_at dksX6_areAlike_1 7 rfl rfl)
theorem dX6_areAlike_33 : decode cX6_areAlike 33 = .ok (.aload_n 0, 1) := dk_42 (dk_at dksX6_areAlike_1 10 rfl rfl)
theorem dX6_areAlike_34 : decode cX6_areAlike 34 = .ok (.iload_n 1, 1) := dk_27 (dk_at dksX6_areAlike_1 11 rfl rfl)
theorem dX6_areAlike_35 : decode cX6_areAlike 35 = .ok (.invokevirtual 290, 3) := dk_182 1 34 (dk_at dksX6_areAlike_1 12 rfl rfl)
theorem dX6_areAlike_38 : decode cX6_areAlike 38 = .ok (.iconst 0, 1) := dk_3 (dk_at dksX6_areAlike_1 15 rfl rfl)
theorem dX6_areAlike_39 : decode cX6_areAlike 39 = .ok (.istore_n 3, 1) := dk_62 (dk_at dksX6_areAlike_1 16 rfl rfl)
theorem dX6_areAlike_40 : decode cX6_areAlike 40 = .ok (.iload_n 3, 1) := dk_29 (dk_at dksX6_areAlike_1 17 rfl rfl)
theorem dX6_areAlike_41 : decode cX6_areAlike 41 = .ok (.sipush 604, 3) := dk_17 2 92 (dk_at dksX6_areAlike_1 18 rfl rfl)
theorem dX6_areAlike_44 : decode cX6_areAlike 44 = .ok (.if_icmp .ge 21, 3) := dk_162 0 21 (dk_at dksX6_areAlike_1 21 rfl rfl)
theorem dX6_areAlike_47 : decode cX6_areAlike 47 = .ok (.aload_n 0, 1) := dk_42 (dk_at dksX6_areAlike_2 0 rfl rfl)
theorem dX6_areAlike_48 : decode cX6_areAlike 48 = .ok (.getfield 69, 3) := dk_180 0 69 (dk_at dksX6_areAlike_2 1 rfl rfl)
theorem dX6_areAlike_51 : decode cX6_areAlike 51 = .ok (.iload_n 3, 1) := dk_29 (dk_at dksX6_areAlike_2 4 rfl rfl)
theorem dX6_areAlike_52 : decode cX6_areAlike 52 = .ok (.aload_n 0, 1) := dk_42 (dk_at dksX6_areAlike_2 5 rfl rfl)
theorem dX6_areAlike_53 : decode cX6_areAlike 53 = .ok (.getfield 66, 3) := dk_180 0 66 (dk_at dksX6_areAlike_2 6 rfl rfl)
theorem dX6_areAlike_56 : decode cX6_areAlike 56 = .ok (.iload_n 3, 1) := dk_29 (dk_at dksX6_areAlike_2 9 rfl rfl)
theorem dX6_areAlike_57 : decode cX6_areAlike 57 = .ok (.laload, 1) := dk_47 (dk_at dksX6_areAlike_2 10 rfl rfl)
theorem dX6_areAlike_58 : decode cX6_areAlike 58 = .ok (.lastore, 1) := dk_80 (dk_at dksX6_areAlike_2 11 rfl rfl)
theorem dX6_areAlike_59 : decode cX6_areAlike 59 = .ok (.iinc 3 1, 3) := dk_132 3 1 (dk_at dksX6_areAlike_2 12 rfl rfl)
theorem dX6_areAlike_62 : decode cX6_areAlike 62 = .ok (.goto (-22), 3) := dk_167 255 234 (dk_at dksX6_areAlike_2 15 rfl rfl)
theorem dX6_areAlike_65 : decode cX6_areAlike 65 = .ok (.aload_n 0, 1) := dk_42 (dk_at dksX6_areAlike_2 18 rfl rfl)
theorem dX6_areAlike_66 : decode cX6_areAlike 66 = .ok (.iload_n 2, 1) := dk_28 (dk_at dksX6_areAlike_2 19 rfl rfl)
theorem dX6_areAlike_67 : decode cX6_areAlike 67 = .ok (.invokevirtual 290, 3) := dk_182 1 34 (dk_at dksX6_areAlike_2 20 rfl rfl)
theorem dX6_areAlike_70 : decode cX6_areAlike 70 = .ok (.iconst 1, 1) := dk_4 (dk_at dksX6_areAlike_2 23 rfl rfl)
theorem dX6_areAlike_71 : decode cX6_areAlike 71 = .ok (.istore_n 3, 1) := dk_62 (dk_at dksX6_areAlike_3 0 rfl rfl)
theorem dX6_areAlike_72 : decode cX6_areAlike 72 = .ok (.iconst 0, 1) := dk_3 (dk_at dksX6_areAlike_3 1 rfl rfl)
theorem dX6_areAlike_73 : decode cX6_areAlike 73 = .ok (.istore 4, 2) := dk_54 4 (dk_at dksX6_areAlike_3 2 rfl rfl)
theorem dX6_areAlike_75 : decode cX6_areAlike 75 = .ok (.iload 4, 2) := dk_21 4 (dk_at dksX6_areAlike_3 4 rfl rfl)
theorem dX6_areAlike_77 : decode cX6_areAlike 77 = .ok (.sipush 604, 3) := dk_17 2 92 (dk_at dksX6_areAlike_3 6 rfl rfl)
theorem dX6_areAlike_80 : decode cX6_areAlike 80 = .ok (.if_icmp .ge 37, 3) := dk_162 0 37 (dk_at dksX6_areAlike_3 9 rfl rfl)
theorem dX6_areAlike_83 : decode cX6_areAlike 83 = .ok (.iload_n 3, 1) := dk_29 (dk_at dksX6_areAlike_3 12 rfl rfl)
theorem dX6_areAlike_84 : decode cX6_areAlike 84 = .ok (.ifCond .eq 25, 3) := dk_153 0 25 (dk_at dksX6_areAlike_3 13 rfl rfl)
theorem dX6_areAlike_87 : decode cX6_areAlike 87 = .ok (.aload_n 0, 1) := dk_42 (dk_at dksX6_areAlike_3 16 rfl rfl)
theorem dX6_areAlike_88 : decode cX6_areAlike 88 = .ok (.getfield 69, 3) := dk_180 0 69 (dk_at dksX6_areAlike_3 17 rfl rfl)
theorem dX6_areAlike_91 : decode cX6_areAlike 91 = .ok (.iload 4, 2) := dk_21 4 (dk_at dksX6_areAlike_3 20 rfl rfl)
theorem dX6_areAlike_93 : decode cX6_areAlike 93 = .ok (.laload, 1) := dk_47 (dk_at dksX6_areAlike_3 22 rfl rfl)
theorem dX6_areAlike_94 : decode cX6_areAlike 94 = .ok (.aload_n 0, 1) := dk_42 (dk_at dksX6_areAlike_3 23 rfl rfl)
theorem dX6_areAlike_95 : decode cX6_areAlike 95 = .ok (.getfield 66, 3) := dk_180 0 66 (dk_at dksX6_areAlike_4 0 rfl rfl)
theorem dX6_areAlike_98 : decode cX6_areAlike 98 = .ok (.iload 4, 2) := dk_21 4 (dk_at dksX6_areAlike_4 3 rfl rfl)
theorem dX6_areAlike_100 : decode cX6_areAlike 100 = .ok (.laload, 1) := dk_47 (dk_at dksX6_areAlike_4 5 rfl rfl)
theorem dX6_areAlike_101 : decode cX6_areAlike 101 = .ok (.lcmp, 1) := dk_148 (dk_at dksX6_areAlike_4 6 rfl rfl)
theorem dX6_areAlike_102 : decode cX6_areAlike 102 = .ok (.ifCond .ne 7, 3) := dk_154 0 7 (dk_at dksX6_areAlike_4 7 rfl rfl)
theorem dX6_areAlike_105 : decode cX6_areAlike 105 = .ok (.iconst 1, 1) := dk_4 (dk_at dksX6_areAlike_4 10 rfl rfl)
theorem dX6_areAlike_106 : decode cX6_areAlike 106 = .ok (.goto 4, 3) := dk_167 0 4 (dk_at dksX6_areAlike_4 11 rfl rfl)
theorem dX6_areAlike_109 : decode cX6_areAlike 109 = .ok (.iconst 0, 1) := dk_3 (dk_at dksX6_areAlike_4 14 rfl rfl)
theorem dX6_areAlike_110 : decode cX6_areAlike 110 = .ok (.istore_n 3, 1) := dk_62 (dk_at dksX6_areAlike_4 15 rfl rfl)
theorem dX6_areAlike_111 : decode cX6_areAlike 111 = .ok (.iinc 4 1, 3) := dk_132 4 1 (dk_at dksX6_areAlike_4 16 rfl rfl)
theorem dX6_areAlike_114 : decode cX6_areAlike 114 = .ok (.goto (-39), 3) := dk_167 255 217 (dk_at dksX6_areAlike_4 19 rfl rfl)
theorem dX6_areAlike_117 : decode cX6_areAlike 117 = .ok (.iload_n 3, 1) := dk_29 (dk_at dksX6_areAlike_4 22 rfl rfl)
theorem dX6_areAlike_118 : decode cX6_areAlike 118 = .ok (.ireturn, 1) := dk_172 (dk_at dksX6_areAlike_4 23 rfl rfl)
abbrev cX6_pictures : ByteArray := prog_15_method_79_code
def yX6_pictures : MethodName := ⟨RX6, "pictures", "(I)V"⟩
def dkwX6_pictures_9 : List UInt8 := [180, 0, 44, 28, 46, 133, 80, 132, 2, 1, 167, 255, 151, 177]
abbrev dktX6_pictures_9 : List UInt8 := dkwX6_pictures_9 ++ []
def dkwX6_pictures_8 : List UInt8 := [7, 28, 104, 96, 42, 180, 0, 40, 28, 47, 80, 42, 180, 0, 66, 16, 29, 7, 28, 104, 96, 42]
abbrev dktX6_pictures_8 : List UInt8 := dkwX6_pictures_8 ++ dktX6_pictures_9
def dkwX6_pictures_7 : List UInt8 := [180, 0, 66, 16, 27, 7, 28, 104, 96, 42, 27, 28, 6, 182, 1, 7, 133, 80, 42, 180, 0, 66, 16, 28]
abbrev dktX6_pictures_7 : List UInt8 := dkwX6_pictures_7 ++ dktX6_pictures_8
def dkwX6_pictures_6 : List UInt8 := [162, 0, 76, 42, 180, 0, 66, 16, 26, 7, 28, 104, 96, 42, 27, 28, 3, 182, 1, 7, 133, 80, 42]
abbrev dktX6_pictures_6 : List UInt8 := dkwX6_pictures_6 ++ dktX6_pictures_7
def dkwX6_pictures_5 : List UInt8 := [162, 0, 104, 28, 16, 12, 108, 42, 180, 0, 99, 162, 0, 87, 28, 16, 12, 112, 42, 180, 0, 102]
abbrev dktX6_pictures_5 : List UInt8 := dkwX6_pictures_5 ++ dktX6_pictures_6
def dkwX6_pictures_4 : List UInt8 := [28, 96, 42, 180, 0, 25, 28, 46, 133, 80, 132, 2, 1, 167, 255, 229, 3, 61, 28, 17, 0, 144]
abbrev dktX6_pictures_4 : List UInt8 := dkwX6_pictures_4 ++ dktX6_pictures_5
def dkwX6_pictures_3 : List UInt8 := [133, 80, 132, 2, 1, 167, 255, 230, 3, 61, 28, 42, 180, 0, 102, 162, 0, 25, 42, 180, 0, 66, 16, 14]
abbrev dktX6_pictures_3 : List UInt8 := dkwX6_pictures_3 ++ dktX6_pictures_4
def dkwX6_pictures_2 : List UInt8 := [80, 3, 61, 28, 42, 180, 0, 99, 162, 0, 24, 42, 180, 0, 66, 5, 28, 96, 42, 180, 0, 22, 28, 46]
abbrev dktX6_pictures_2 : List UInt8 := dkwX6_pictures_2 ++ dktX6_pictures_3
def dkwX6_pictures_1 : List UInt8 := [167, 255, 239, 42, 180, 0, 66, 3, 42, 180, 0, 99, 133, 80, 42, 180, 0, 66, 4, 42, 180, 0, 102, 133]
abbrev dktX6_pictures_1 : List UInt8 := dkwX6_pictures_1 ++ dktX6_pictures_2
def dkwX6_pictures_0 : List UInt8 := [42, 27, 182, 1, 10, 3, 61, 28, 17, 2, 92, 162, 0, 16, 42, 180, 0, 66, 28, 9, 80, 132, 2, 1]
abbrev dktX6_pictures_0 : List UInt8 := dkwX6_pictures_0 ++ dktX6_pictures_1
theorem dksX6_pictures_0 : cX6_pictures.data.toList.drop 0 = dktX6_pictures_0 := by decide +kernel
theorem dksX6_pictures_1 : cX6_pictures.data.toList.drop 24 = dktX6_pictures_1 := dk_seg dksX6_pictures_0 24 rfl rfl
theorem dksX6_pictures_2 : cX6_pictures.data.toList.drop 48 = dktX6_pictures_2 := dk_seg dksX6_pictures_1 24 rfl rfl
theorem dksX6_pictures_3 : cX6_pictures.data.toList.drop 72 = dktX6_pictures_3 := dk_seg dksX6_pictures_2 24 rfl rfl
theorem dksX6_pictures_4 : cX6_pictures.data.toList.drop 96 = dktX6_pictures_4 := dk_seg dksX6_pictures_3 24 rfl rfl
theorem dksX6_pictures_5 : cX6_pictures.data.toList.drop 118 = dktX6_pictures_5 := dk_seg dksX6_pictures_4 22 rfl rfl
theorem dksX6_pictures_6 : cX6_pictures.data.toList.drop 140 = dktX6_pictures_6 := dk_seg dksX6_pictures_5 22 rfl rfl
theorem dksX6_pictures_7 : cX6_pictures.data.toList.drop 163 = dktX6_pictures_7 := dk_seg dksX6_pictures_6 23 rfl rfl
theorem dksX6_pictures_8 : cX6_pictures.data.toList.drop 187 = dktX6_pictures_8 := dk_seg dksX6_pictures_7 24 rfl rfl
theorem dksX6_pictures_9 : cX6_pictures.data.toList.drop 209 = dktX6_pictures_9 := dk_seg dksX6_pictures_8 22 rfl rfl
theorem dX6_pictures_0 : decode cX6_pictures 0 = .ok (.aload_n 0, 1) := dk_42 (dk_at dksX6_pictures_0 0 rfl rfl)
theorem dX6_pictures_1 : decode cX6_pictures 1 = .ok (.iload_n 1, 1) := dk_27 (dk_at dksX6_pictures_0 1 rfl rfl)
theorem dX6_pictures_2 : decode cX6_pictures 2 = .ok (.invokevirtual 266, 3) := dk_182 1 10 (dk_at dksX6_pictures_0 2 rfl rfl)
theorem dX6_pictures_5 : decode cX6_pictures 5 = .ok (.iconst 0, 1) := dk_3 (dk_at dksX6_pictures_0 5 rfl rfl)
theorem dX6_pictures_6 : decode cX6_pictures 6 = .ok (.istore_n 2, 1) := dk_61 (dk_at dksX6_pictures_0 6 rfl rfl)
theorem dX6_pictures_7 : decode cX6_pictures 7 = .ok (.iload_n 2, 1) := dk_28 (dk_at dksX6_pictures_0 7 rfl rfl)
theorem dX6_pictures_8 : decode cX6_pictures 8 = .ok (.sipush 604, 3) := dk_17 2 92 (dk_at dksX6_pictures_0 8 rfl rfl)
theorem dX6_pictures_11 : decode cX6_pictures 11 = .ok (.if_icmp .ge 16, 3) := dk_162 0 16 (dk_at dksX6_pictures_0 11 rfl rfl)
theorem dX6_pictures_14 : decode cX6_pictures 14 = .ok (.aload_n 0, 1) := dk_42 (dk_at dksX6_pictures_0 14 rfl rfl)
theorem dX6_pictures_15 : decode cX6_pictures 15 = .ok (.getfield 66, 3) := dk_180 0 66 (dk_at dksX6_pictures_0 15 rfl rfl)
theorem dX6_pictures_18 : decode cX6_pictures 18 = .ok (.iload_n 2, 1) := dk_28 (dk_at dksX6_pictures_0 18 rfl rfl)
theorem dX6_pictures_19 : decode cX6_pictures 19 = .ok (.lconst 0, 1) := dk_9 (dk_at dksX6_pictures_0 19 rfl rfl)
theorem dX6_pictures_20 : decode cX6_pictures 20 = .ok (.lastore, 1) := dk_80 (dk_at dksX6_pictures_0 20 rfl rfl)
theorem dX6_pictures_21 : decode cX6_pictures 21 = .ok (.iinc 2 1, 3) := dk_132 2 1 (dk_at dksX6_pictures_0 21 rfl rfl)
theorem dX6_pictures_24 : decode cX6_pictures 24 = .ok (.goto (-17), 3) := dk_167 255 239 (dk_at dksX6_pictures_1 0 rfl rfl)
theorem dX6_pictures_27 : decode cX6_pictures 27 = .ok (.aload_n 0, 1) := dk_42 (dk_at dksX6_pictures_1 3 rfl rfl)
theorem dX6_pictures_28 : decode cX6_pictures 28 = .ok (.getfield 66, 3) := dk_180 0 66 (dk_at dksX6_pictures_1 4 rfl rfl)
theorem dX6_pictures_31 : decode cX6_pictures 31 = .ok (.iconst 0, 1) := dk_3 (dk_at dksX6_pictures_1 7 rfl rfl)
theorem dX6_pictures_32 : decode cX6_pictures 32 = .ok (.aload_n 0, 1) := dk_42 (dk_at dksX6_pictures_1 8 rfl rfl)
theorem dX6_pictures_33 : decode cX6_pictures 33 = .ok (.getfield 99, 3) := dk_180 0 99 (dk_at dksX6_pictures_1 9 rfl rfl)
theorem dX6_pictures_36 : decode cX6_pictures 36 = .ok (.i2l, 1) := dk_133 (dk_at dksX6_pictures_1 12 rfl rfl)
theorem dX6_pictures_37 : decode cX6_pictures 37 = .ok (.lastore, 1) := dk_80 (dk_at dksX6_pictures_1 13 rfl rfl)
theorem dX6_pictures_38 : decode cX6_pictures 38 = .ok (.aload_n 0, 1) := dk_42 (dk_at dksX6_pictures_1 14 rfl rfl)
theorem dX6_pictures_39 : decode cX6_pictures 39 = .ok (.getfield 66, 3) := dk_180 0 66 (dk_at dksX6_pictures_1 15 rfl rfl)
theorem dX6_pictures_42 : decode cX6_pictures 42 = .ok (.iconst 1, 1) := dk_4 (dk_at dksX6_pictures_1 18 rfl rfl)
theorem dX6_pictures_43 : decode cX6_pictures 43 = .ok (.aload_n 0, 1) := dk_42 (dk_at dksX6_pictures_1 19 rfl rfl)
theorem dX6_pictures_44 : decode cX6_pictures 44 = .ok (.getfield 102, 3) := dk_180 0 102 (dk_at dksX6_pictures_1 20 rfl rfl)
theorem dX6_pictures_47 : decode cX6_pictures 47 = .ok (.i2l, 1) := dk_133 (dk_at dksX6_pictures_1 23 rfl rfl)
theorem dX6_pictures_48 : decode cX6_pictures 48 = .ok (.lastore, 1) := dk_80 (dk_at dksX6_pictures_2 0 rfl rfl)
theorem dX6_pictures_49 : decode cX6_pictures 49 = .ok (.iconst 0, 1) := dk_3 (dk_at dksX6_pictures_2 1 rfl rfl)
theorem dX6_pictures_50 : decode cX6_pictures 50 = .ok (.istore_n 2, 1) := dk_61 (dk_at dksX6_pictures_2 2 rfl rfl)
theorem dX6_pictures_51 : decode cX6_pictures 51 = .ok (.iload_n 2, 1) := dk_28 (dk_at dksX6_pictures_2 3 rfl rfl)
theorem dX6_pictures_52 : decode cX6_pictures 52 = .ok (.aload_n 0, 1) := dk_42 (dk_at dksX6_pictures_2 4 rfl rfl)
theorem dX6_pictures_53 : decode cX6_pictures 53 = .ok (.getfield 99, 3) := dk_180 0 99 (dk_at dksX6_pictures_2 5 rfl rfl)
theorem dX6_pictures_56 : decode cX6_pictures 56 = .ok (.if_icmp .ge 24, 3) := dk_162 0 24 (dk_at dksX6_pictures_2 8 rfl rfl)
theorem dX6_pictures_59 : decode cX6_pictures 59 = .ok (.aload_n 0, 1) := dk_42 (dk_at dksX6_pictures_2 11 rfl rfl)
theorem dX6_pictures_60 : decode cX6_pictures 60 = .ok (.getfield 66, 3) := dk_180 0 66 (dk_at dksX6_pictures_2 12 rfl rfl)
theorem dX6_pictures_63 : decode cX6_pictures 63 = .ok (.iconst 2, 1) := dk_5 (dk_at dksX6_pictures_2 15 rfl rfl)
theorem dX6_pictures_64 : decode cX6_pictures 64 = .ok (.iload_n 2, 1) := dk_28 (dk_at dksX6_pictures_2 16 rfl rfl)
theorem dX6_pictures_65 : decode cX6_pictures 65 = .ok (.iadd, 1) := dk_96 (dk_at dksX6_pictures_2 17 rfl rfl)
theorem dX6_pictures_66 : decode cX6_pictures 66 = .ok (.aload_n 0, 1) := dk_42 (dk_at dksX6_pictures_2 18 rfl rfl)
theorem dX6_pictures_67 : decode cX6_pictures 67 = .ok (.getfield 22, 3) := dk_180 0 22 (dk_at dksX6_pictures_2 19 rfl rfl)
theorem dX6_pictures_70 : decode cX6_pictures 70 = .ok (.iload_n 2, 1) := dk_28 (dk_at dksX6_pictures_2 22 rfl rfl)
theorem dX6_pictures_71 : decode cX6_pictures 71 = .ok (.iaload, 1) := dk_46 (dk_at dksX6_pictures_2 23 rfl rfl)
theorem dX6_pictures_72 : decode cX6_pictures 72 = .ok (.i2l, 1) := dk_133 (dk_at dksX6_pictures_3 0 rfl rfl)
theorem dX6_pictures_73 : decode cX6_pictures 73 = .ok (.lastore, 1) := dk_80 (dk_at dksX6_pictures_3 1 rfl rfl)
theorem dX6_pictures_74 : decode cX6_pictures 74 = .ok (.iinc 2 1, 3) := dk_132 2 1 (dk_at dksX6_pictures_3 2 rfl rfl)
theorem dX6_pictures_77 : decode cX6_pictures 77 = .ok (.goto (-26), 3) := dk_167 255 230 (dk_at dksX6_pictures_3 5 rfl rfl)
theorem dX6_pictures_80 : decode cX6_pictures 80 = .ok (.iconst 0, 1) := dk_3 (dk_at dksX6_pictures_3 8 rfl rfl)
theorem dX6_pictures_81 : decode cX6_pictures 81 = .ok (.istore_n 2, 1) := dk_61 (dk_at dksX6_pictures_3 9 rfl rfl)
theorem dX6_pictures_82 : decode cX6_pictures 82 = .ok (.iload_n 2, 1) := dk_28 (dk_at dksX6_pictures_3 10 rfl rfl)
theorem dX6_pictures_83 : decode cX6_pictures 83 = .ok (.aload_n 0, 1) := dk_42 (dk_at dksX6_pictures_3 11 rfl rfl)
theorem dX6_pictures_84 : decode cX6_pictures 84 = .ok (.getfield 102, 3) := dk_180 0 102 (dk_at dksX6_pictures_3 12 rfl rfl)
theorem dX6_pictures_87 : decode cX6_pictures 87 = .ok (.if_icmp .ge 25, 3) := dk_162 0 25 (dk_at dksX6_pictures_3 15 rfl rfl)
theorem dX6_pictures_90 : decode cX6_pictures 90 = .ok (.aload_n 0, 1) := dk_42 (dk_at dksX6_pictures_3 18 rfl rfl)
theorem dX6_pictures_91 : decode cX6_pictures 91 = .ok (.getfield 66, 3) := dk_180 0 66 (dk_at dksX6_pictures_3 19 rfl rfl)
theorem dX6_pictures_94 : decode cX6_pictures 94 = .ok (.bipush 14, 2) := dk_16 14 (dk_at dksX6_pictures_3 22 rfl rfl)
theorem dX6_pictures_96 : decode cX6_pictures 96 = .ok (.iload_n 2, 1) := dk_28 (dk_at dksX6_pictures_4 0 rfl rfl)
theorem dX6_pictures_97 : decode cX6_pictures 97 = .ok (.iadd, 1) := dk_96 (dk_at dksX6_pictures_4 1 rfl rfl)
theorem dX6_pictures_98 : decode cX6_pictures 98 = .ok (.aload_n 0, 1) := dk_42 (dk_at dksX6_pictures_4 2 rfl rfl)
theorem dX6_pictures_99 : decode cX6_pictures 99 = .ok (.getfield 25, 3) := dk_180 0 25 (dk_at dksX6_pictures_4 3 rfl rfl)
theorem dX6_pictures_102 : decode cX6_pictures 102 = .ok (.iload_n 2, 1) := dk_28 (dk_at dksX6_pictures_4 6 rfl rfl)
theorem dX6_pictures_103 : decode cX6_pictures 103 = .ok (.iaload, 1) := dk_46 (dk_at dksX6_pictures_4 7 rfl rfl)
theorem dX6_pictures_104 : decode cX6_pictures 104 = .ok (.i2l, 1) := dk_133 (dk_at dksX6_pictures_4 8 rfl rfl)
theorem dX6_pictures_105 : decode cX6_pictures 105 = .ok (.lastore, 1) := dk_80 (dk_at dksX6_pictures_4 9 rfl rfl)
theorem dX6_pictures_106 : decode cX6_pictures 106 = .ok (.iinc 2 1, 3) := dk_132 2 1 (dk_at dksX6_pictures_4 10 rfl rfl)
theorem dX6_pictures_109 : decode cX6_pictures 109 = .ok (.goto (-27), 3) := dk_167 255 229 (dk_at dksX6_pictures_4 13 rfl rfl)
theorem dX6_pictures_112 : decode cX6_pictures 112 = .ok (.iconst 0, 1) := dk_3 (dk_at dksX6_pictures_4 16 rfl rfl)
theorem dX6_pictures_113 : decode cX6_pictures 113 = .ok (.istore_n 2, 1) := dk_61 (dk_at dksX6_pictures_4 17 rfl rfl)
theorem dX6_pictures_114 : decode cX6_pictures 114 = .ok (.iload_n 2, 1) := dk_28 (dk_at dksX6_pictures_4 18 rfl rfl)
theorem dX6_pictures_115 : decode cX6_pictures 115 = .ok (.sipush 144, 3) := dk_17 0 144 (dk_at dksX6_pictures_4 19 rfl rfl)
theorem dX6_pictures_118 : decode cX6_pictures 118 = .ok (.if_icmp .ge 104, 3) := dk_162 0 104 (dk_at dksX6_pictures_5 0 rfl rfl)
theorem dX6_pictures_121 : decode cX6_pictures 121 = .ok (.iload_n 2, 1) := dk_28 (dk_at dksX6_pictures_5 3 rfl rfl)
theorem dX6_pictures_122 : decode cX6_pictures 122 = .ok (.bipush 12, 2) := dk_16 12 (dk_at dksX6_pictures_5 4 rfl rfl)
theorem dX6_pictures_124 : decode cX6_pictures 124 = .ok (.idiv, 1) := dk_108 (dk_at dksX6_pictures_5 6 rfl rfl)
theorem dX6_pictures_125 : decode cX6_pictures 125 = .ok (.aload_n 0, 1) := dk_42 (dk_at dksX6_pictures_5 7 rfl rfl)
theorem dX6_pictures_126 : decode cX6_pictures 126 = .ok (.getfield 99, 3) := dk_180 0 99 (dk_at dksX6_pictures_5 8 rfl rfl)
theorem dX6_pictures_129 : decode cX6_pictures 129 = .ok (.if_icmp .ge 87, 3) := dk_162 0 87 (dk_at dksX6_pictures_5 11 rfl rfl)
theorem dX6_pictures_132 : decode cX6_pictures 132 = .ok (.iload_n 2, 1) := dk_28 (dk_at dksX6_pictures_5 14 rfl rfl)
theorem dX6_pictures_133 : decode cX6_pictures 133 = .ok (.bipush 12, 2) := dk_16 12 (dk_at dksX6_pictures_5 15 rfl rfl)
theorem dX6_pictures_135 : decode cX6_pictures 135 = .ok (.irem, 1) := dk_112 (dk_at dksX6_pictures_5 17 rfl rfl)
theorem dX6_pictures_136 : decode cX6_pictures 136 = .ok (.aload_n 0, 1) := dk_42 (dk_at dksX6_pictures_5 18 rfl rfl)
theorem dX6_pictures_137 : decode cX6_pictures 137 = .ok (.getfield 102, 3) := dk_180 0 102 (dk_at dksX6_pictures_5 19 rfl rfl)
theorem dX6_pictures_140 : decode cX6_pictures 140 = .ok (.if_icmp .ge 76, 3) := dk_162 0 76 (dk_at dksX6_pictures_6 0 rfl rfl)
theorem dX6_pictures_143 : decode cX6_pictures 143 = .ok (.aload_n 0, 1) := dk_42 (dk_at dksX6_pictures_6 3 rfl rfl)
theorem dX6_pictures_144 : decode cX6_pictures 144 = .ok (.getfield 66, 3) := dk_180 0 66 (dk_at dksX6_pictures_6 4 rfl rfl)
theorem dX6_pictures_147 : decode cX6_pictures 147 = .ok (.bipush 26, 2) := dk_16 26 (dk_at dksX6_pictures_6 7 rfl rfl)
theorem dX6_pictures_149 : decode cX6_pictures 149 = .ok (.iconst 4, 1) := dk_7 (dk_at dksX6_pictures_6 9 rfl rfl)
theorem dX6_pictures_150 : decode cX6_pictures 150 = .ok (.iload_n 2, 1) := dk_28 (dk_at dksX6_pictures_6 10 rfl rfl)
theorem dX6_pictures_151 : decode cX6_pictures 151 = .ok (.imul, 1) := dk_104 (dk_at dksX6_pictures_6 11 rfl rfl)
theorem dX6_pictures_152 : decode cX6_pictures 152 = .ok (.iadd, 1) := dk_96 (dk_at dksX6_pictures_6 12 rfl rfl)
theorem dX6_pictures_153 : decode cX6_pictures 153 = .ok (.aload_n 0, 1) := dk_42 (dk_at dksX6_pictures_6 13 rfl rfl)
theorem dX6_pictures_154 : decode cX6_pictures 154 = .ok (.iload_n 1, 1) := dk_27 (dk_at dksX6_pictures_6 14 rfl rfl)
theorem dX6_pictures_155 : decode cX6_pictures 155 = .ok (.iload_n 2, 1) := dk_28 (dk_at dksX6_pictures_6 15 rfl rfl)
theorem dX6_pictures_156 : decode cX6_pictures 156 = .ok (.iconst 0, 1) := dk_3 (dk_at dksX6_pictures_6 16 rfl rfl)
theorem dX6_pictures_157 : decode cX6_pictures 157 = .ok (.invokevirtual 263, 3) := dk_182 1 7 (dk_at dksX6_pictures_6 17 rfl rfl)
theorem dX6_pictures_160 : decode cX6_pictures 160 = .ok (.i2l, 1) := dk_133 (dk_at dksX6_pictures_6 20 rfl rfl)
theorem dX6_pictures_161 : decode cX6_pictures 161 = .ok (.lastore, 1) := dk_80 (dk_at dksX6_pictures_6 21 rfl rfl)
theorem dX6_pictures_162 : decode cX6_pictures 162 = .ok (.aload_n 0, 1) := dk_42 (dk_at dksX6_pictures_6 22 rfl rfl)
theorem dX6_pictures_163 : decode cX6_pictures 163 = .ok (.getfield 66, 3) := dk_180 0 66 (dk_at dksX6_pictures_7 0 rfl rfl)
theorem dX6_pictures_166 : decode cX6_pictures 166 = .ok (.bipush 27, 2) := dk_16 27 (dk_at dksX6_pictures_7 3 rfl rfl)
theorem dX6_pictures_168 : decode cX6_pictures 168 = .ok (.iconst 4, 1) := dk_7 (dk_at dksX6_pictures_7 5 rfl rfl)
theorem dX6_pictures_169 : decode cX6_pictures 169 = .ok (.iload_n 2, 1) := dk_28 (dk_at dksX6_pictures_7 6 rfl rfl)
theorem dX6_pictures_170 : decode cX6_pictures 170 = .ok (.imul, 1) := dk_104 (dk_at dksX6_pictures_7 7 rfl rfl)
theorem dX6_pictures_171 : decode cX6_pictures 171 = .ok (.iadd, 1) := dk_96 (dk_at dksX6_pictures_7 8 rfl rfl)
theorem dX6_pictures_172 : decode cX6_pictures 172 = .ok (.aload_n 0, 1) := dk_42 (dk_at dksX6_pictures_7 9 rfl rfl)
theorem dX6_pictures_173 : decode cX6_pictures 173 = .ok (.iload_n 1, 1) := dk_27 (dk_at dksX6_pictures_7 10 rfl rfl)
theorem dX6_pictures_174 : decode cX6_pictures 174 = .ok (.iload_n 2, 1) := dk_28 (dk_at dksX6_pictures_7 11 rfl rfl)
theorem dX6_pictures_175 : decode cX6_pictures 175 = .ok (.iconst 3, 1) := dk_6 (dk_at dksX6_pictures_7 12 rfl rfl)
theorem dX6_pictures_176 : decode cX6_pictures 176 = .ok (.invokevirtual 263, 3) := dk_182 1 7 (dk_at dksX6_pictures_7 13 rfl rfl)
theorem dX6_pictures_179 : decode cX6_pictures 179 = .ok (.i2l, 1) := dk_133 (dk_at dksX6_pictures_7 16 rfl rfl)
theorem dX6_pictures_180 : decode cX6_pictures 180 = .ok (.lastore, 1) := dk_80 (dk_at dksX6_pictures_7 17 rfl rfl)
theorem dX6_pictures_181 : decode cX6_pictures 181 = .ok (.aload_n 0, 1) := dk_42 (dk_at dksX6_pictures_7 18 rfl rfl)
theorem dX6_pictures_182 : decode cX6_pictures 182 = .ok (.getfield 66, 3) := dk_180 0 66 (dk_at dksX6_pictures_7 19 rfl rfl)
theorem dX6_pictures_185 : decode cX6_pictures 185 = .ok (.bipush 28, 2) := dk_16 28 (dk_at dksX6_pictures_7 22 rfl rfl)
theorem dX6_pictures_187 : decode cX6_pictures 187 = .ok (.iconst 4, 1) := dk_7 (dk_at dksX6_pictures_8 0 rfl rfl)
theorem dX6_pictures_188 : decode cX6_pictures 188 = .ok (.iload_n 2, 1) := dk_28 (dk_at dksX6_pictures_8 1 rfl rfl)
theorem dX6_pictures_189 : decode cX6_pictures 189 = .ok (.imul, 1) := dk_104 (dk_at dksX6_pictures_8 2 rfl rfl)
theorem dX6_pictures_190 : decode cX6_pictures 190 = .ok (.iadd, 1) := dk_96 (dk_at dksX6_pictures_8 3 rfl rfl)
theorem dX6_pictures_191 : decode cX6_pictures 191 = .ok (.aload_n 0, 1) := dk_42 (dk_at dksX6_pictures_8 4 rfl rfl)
theorem dX6_pictures_192 : decode cX6_pictures 192 = .ok (.getfield 40, 3) := dk_180 0 40 (dk_at dksX6_pictures_8 5 rfl rfl)
theorem dX6_pictures_195 : decode cX6_pictures 195 = .ok (.iload_n 2, 1) := dk_28 (dk_at dksX6_pictures_8 8 rfl rfl)
theorem dX6_pictures_196 : decode cX6_pictures 196 = .ok (.laload, 1) := dk_47 (dk_at dksX6_pictures_8 9 rfl rfl)
theorem dX6_pictures_197 : decode cX6_pictures 197 = .ok (.lastore, 1) := dk_80 (dk_at dksX6_pictures_8 10 rfl rfl)
theorem dX6_pictures_198 : decode cX6_pictures 198 = .ok (.aload_n 0, 1) := dk_42 (dk_at dksX6_pictures_8 11 rfl rfl)
theorem dX6_pictures_199 : decode cX6_pictures 199 = .ok (.getfield 66, 3) := dk_180 0 66 (dk_at dksX6_pictures_8 12 rfl rfl)
theorem dX6_pictures_202 : decode cX6_pictures 202 = .ok (.bipush 29, 2) := dk_16 29 (dk_at dksX6_pictures_8 15 rfl rfl)
theorem dX6_pictures_204 : decode cX6_pictures 204 = .ok (.iconst 4, 1) := dk_7 (dk_at dksX6_pictures_8 17 rfl rfl)
theorem dX6_pictures_205 : decode cX6_pictures 205 = .ok (.iload_n 2, 1) := dk_28 (dk_at dksX6_pictures_8 18 rfl rfl)
theorem dX6_pictures_206 : decode cX6_pictures 206 = .ok (.imul, 1) := dk_104 (dk_at dksX6_pictures_8 19 rfl rfl)
theorem dX6_pictures_207 : decode cX6_pictures 207 = .ok (.iadd, 1) := dk_96 (dk_at dksX6_pictures_8 20 rfl rfl)
theorem dX6_pictures_208 : decode cX6_pictures 208 = .ok (.aload_n 0, 1) := dk_42 (dk_at dksX6_pictures_8 21 rfl rfl)
theorem dX6_pictures_209 : decode cX6_pictures 209 = .ok (.getfield 44, 3) := dk_180 0 44 (dk_at dksX6_pictures_9 0 rfl rfl)
theorem dX6_pictures_212 : decode cX6_pictures 212 = .ok (.iload_n 2, 1) := dk_28 (dk_at dksX6_pictures_9 3 rfl rfl)
theorem dX6_pictures_213 : decode cX6_pictures 213 = .ok (.iaload, 1) := dk_46 (dk_at dksX6_pictures_9 4 rfl rfl)
theorem dX6_pictures_214 : decode cX6_pictures 214 = .ok (.i2l, 1) := dk_133 (dk_at dksX6_pictures_9 5 rfl rfl)
theorem dX6_pictures_215 : decode cX6_pictures 215 = .ok (.lastore, 1) := dk_80 (dk_at dksX6_pictures_9 6 rfl rfl)
theorem dX6_pictures_216 : decode cX6_pictures 216 = .ok (.iinc 2 1, 3) := dk_132 2 1 (dk_at dksX6_pictures_9 7 rfl rfl)
theorem dX6_pictures_219 : decode cX6_pictures 219 = .ok (.goto (-105), 3) := dk_167 255 151 (dk_at dksX6_pictures_9 10 rfl rfl)
theorem dX6_pictures_222 : decode cX6_pictures 222 = .ok (.return_, 1) := dk_177 (dk_at dksX6_pictures_9 13 rfl rfl)
abbrev cX6_different : ByteArray := prog_15_method_81_code
def yX6_different : MethodName := ⟨RX6, "different", "(II)I"⟩
def dkwX6_different_3 : List UInt8 := [42, 29, 182, 0, 83, 172]
abbrev dktX6_different_3 : List UInt8 := dkwX6_different_3 ++ []
def dkwX6_different_2 : List UInt8 := [16, 126, 21, 4, 96, 182, 0, 108, 160, 0, 7, 3, 167, 0, 4, 4, 96, 62, 132, 4, 1, 167, 255, 214]
abbrev dktX6_different_2 : List UInt8 := dkwX6_different_2 ++ dktX6_different_3
def dkwX6_different_1 : List UInt8 := [54, 4, 21, 4, 17, 0, 144, 162, 0, 40, 29, 42, 27, 16, 126, 21, 4, 96, 182, 0, 108, 42, 28]
abbrev dktX6_different_1 : List UInt8 := dkwX6_different_1 ++ dktX6_different_2
def dkwX6_different_0 : List UInt8 := [27, 184, 0, 127, 153, 0, 10, 28, 184, 0, 127, 154, 0, 9, 42, 4, 182, 0, 131, 172, 3, 62, 3]
abbrev dktX6_different_0 : List UInt8 := dkwX6_different_0 ++ dktX6_different_1
theorem dksX6_different_0 : cX6_different.data.toList.drop 0 = dktX6_different_0 := by decide +kernel
theorem dksX6_different_1 : cX6_different.data.toList.drop 23 = dktX6_different_1 := dk_seg dksX6_different_0 23 rfl rfl
theorem dksX6_different_2 : cX6_different.data.toList.drop 46 = dktX6_different_2 := dk_seg dksX6_different_1 23 rfl rfl
theorem dksX6_different_3 : cX6_different.data.toList.drop 70 = dktX6_different_3 := dk_seg dksX6_different_2 24 rfl rfl
theorem dX6_different_0 : decode cX6_different 0 = .ok (.iload_n 1, 1) := dk_27 (dk_at dksX6_different_0 0 rfl rfl)
theorem dX6_different_1 : decode cX6_different 1 = .ok (.invokestatic 127, 3) := dk_184 0 127 (dk_at dksX6_different_0 1 rfl rfl)
theorem dX6_different_4 : decode cX6_different 4 = .ok (.ifCond .eq 10, 3) := dk_153 0 10 (dk_at dksX6_different_0 4 rfl rfl)
theorem dX6_different_7 : decode cX6_different 7 = .ok (.iload_n 2, 1) := dk_28 (dk_at dksX6_different_0 7 rfl rfl)
theorem dX6_different_8 : decode cX6_different 8 = .ok (.invokestatic 127, 3) := dk_184 0 127 (dk_at dksX6_different_0 8 rfl rfl)
theorem dX6_different_11 : decode cX6_different 11 = .ok (.ifCond .ne 9, 3) := dk_154 0 9 (dk_at dksX6_different_0 11 rfl rfl)
theorem dX6_different_14 : decode cX6_different 14 = .ok (.aload_n 0, 1) := dk_42 (dk_at dksX6_different_0 14 rfl rfl)
theorem dX6_different_15 : decode cX6_different 15 = .ok (.iconst 1, 1) := dk_4 (dk_at dksX6_different_0 15 rfl rfl)
theorem dX6_different_16 : decode cX6_different 16 = .ok (.invokevirtual 131, 3) := dk_182 0 131 (dk_at dksX6_different_0 16 rfl rfl)
theorem dX6_different_19 : decode cX6_different 19 = .ok (.ireturn, 1) := dk_172 (dk_at dksX6_different_0 19 rfl rfl)
theorem dX6_different_20 : decode cX6_different 20 = .ok (.iconst 0, 1) := dk_3 (dk_at dksX6_different_0 20 rfl rfl)
theorem dX6_different_21 : decode cX6_different 21 = .ok (.istore_n 3, 1) := dk_62 (dk_at dksX6_different_0 21 rfl rfl)
theorem dX6_different_22 : decode cX6_different 22 = .ok (.iconst 0, 1) := dk_3 (dk_at dksX6_different_0 22 rfl rfl)
theorem dX6_different_23 : decode cX6_different 23 = .ok (.istore 4, 2) := dk_54 4 (dk_at dksX6_different_1 0 rfl rfl)
theorem dX6_different_25 : decode cX6_different 25 = .ok (.iload 4, 2) := dk_21 4 (dk_at dksX6_different_1 2 rfl rfl)
theorem dX6_different_27 : decode cX6_different 27 = .ok (.sipush 144, 3) := dk_17 0 144 (dk_at dksX6_different_1 4 rfl rfl)
theorem dX6_different_30 : decode cX6_different 30 = .ok (.if_icmp .ge 40, 3) := dk_162 0 40 (dk_at dksX6_different_1 7 rfl rfl)
theorem dX6_different_33 : decode cX6_different 33 = .ok (.iload_n 3, 1) := dk_29 (dk_at dksX6_different_1 10 rfl rfl)
theorem dX6_different_34 : decode cX6_different 34 = .ok (.aload_n 0, 1) := dk_42 (dk_at dksX6_different_1 11 rfl rfl)
theorem dX6_different_35 : decode cX6_different 35 = .ok (.iload_n 1, 1) := dk_27 (dk_at dksX6_different_1 12 rfl rfl)
theorem dX6_different_36 : decode cX6_different 36 = .ok (.bipush 126, 2) := dk_16 126 (dk_at dksX6_different_1 13 rfl rfl)
theorem dX6_different_38 : decode cX6_different 38 = .ok (.iload 4, 2) := dk_21 4 (dk_at dksX6_different_1 15 rfl rfl)
theorem dX6_different_40 : decode cX6_different 40 = .ok (.iadd, 1) := dk_96 (dk_at dksX6_different_1 17 rfl rfl)
theorem dX6_different_41 : decode cX6_different 41 = .ok (.invokevirtual 108, 3) := dk_182 0 108 (dk_at dksX6_different_1 18 rfl rfl)
theorem dX6_different_44 : decode cX6_different 44 = .ok (.aload_n 0, 1) := dk_42 (dk_at dksX6_different_1 21 rfl rfl)
theorem dX6_different_45 : decode cX6_different 45 = .ok (.iload_n 2, 1) := dk_28 (dk_at dksX6_different_1 22 rfl rfl)
theorem dX6_different_46 : decode cX6_different 46 = .ok (.bipush 126, 2) := dk_16 126 (dk_at dksX6_different_2 0 rfl rfl)
theorem dX6_different_48 : decode cX6_different 48 = .ok (.iload 4, 2) := dk_21 4 (dk_at dksX6_different_2 2 rfl rfl)
theorem dX6_different_50 : decode cX6_different 50 = .ok (.iadd, 1) := dk_96 (dk_at dksX6_different_2 4 rfl rfl)
theorem dX6_different_51 : decode cX6_different 51 = .ok (.invokevirtual 108, 3) := dk_182 0 108 (dk_at dksX6_different_2 5 rfl rfl)
theorem dX6_different_54 : decode cX6_different 54 = .ok (.if_icmp .ne 7, 3) := dk_160 0 7 (dk_at dksX6_different_2 8 rfl rfl)
theorem dX6_different_57 : decode cX6_different 57 = .ok (.iconst 0, 1) := dk_3 (dk_at dksX6_different_2 11 rfl rfl)
theorem dX6_different_58 : decode cX6_different 58 = .ok (.goto 4, 3) := dk_167 0 4 (dk_at dksX6_different_2 12 rfl rfl)
theorem dX6_different_61 : decode cX6_different 61 = .ok (.iconst 1, 1) := dk_4 (dk_at dksX6_different_2 15 rfl rfl)
theorem dX6_different_62 : decode cX6_different 62 = .ok (.iadd, 1) := dk_96 (dk_at dksX6_different_2 16 rfl rfl)
theorem dX6_different_63 : decode cX6_different 63 = .ok (.istore_n 3, 1) := dk_62 (dk_at dksX6_different_2 17 rfl rfl)
theorem dX6_different_64 : decode cX6_different 64 = .ok (.iinc 4 1, 3) := dk_132 4 1 (dk_at dksX6_different_2 18 rfl rfl)
theorem dX6_different_67 : decode cX6_different 67 = .ok (.goto (-42), 3) := dk_167 255 214 (dk_at dksX6_different_2 21 rfl rfl)
theorem dX6_different_70 : decode cX6_different 70 = .ok (.aload_n 0, 1) := dk_42 (dk_at dksX6_different_3 0 rfl rfl)
theorem dX6_different_71 : decode cX6_different 71 = .ok (.iload_n 3, 1) := dk_29 (dk_at dksX6_different_3 1 rfl rfl)
theorem dX6_different_72 : decode cX6_different 72 = .ok (.invokevirtual 83, 3) := dk_182 0 83 (dk_at dksX6_different_3 2 rfl rfl)
theorem dX6_different_75 : decode cX6_different 75 = .ok (.ireturn, 1) := dk_172 (dk_at dksX6_different_3 5 rfl rfl)
abbrev cX6_type : ByteArray := prog_15_method_82_code
def yX6_type : MethodName := ⟨RX6, "type", "(I)I"⟩
def dkwX6_type_1 : List UInt8 := [161, 0, 9, 42, 5, 182, 0, 131, 172, 42, 27, 182, 1, 13, 42, 42, 180, 0, 176, 182, 0, 83, 172]
abbrev dktX6_type_1 : List UInt8 := dkwX6_type_1 ++ []
def dkwX6_type_0 : List UInt8 := [27, 16, 32, 16, 126, 184, 0, 87, 154, 0, 9, 42, 4, 182, 0, 131, 172, 42, 180, 0, 176, 16, 24]
abbrev dktX6_type_0 : List UInt8 := dkwX6_type_0 ++ dktX6_type_1
theorem dksX6_type_0 : cX6_type.data.toList.drop 0 = dktX6_type_0 := by decide +kernel
theorem dksX6_type_1 : cX6_type.data.toList.drop 23 = dktX6_type_1 := dk_seg dksX6_type_0 23 rfl rfl
theorem dX6_type_0 : decode cX6_type 0 = .ok (.iload_n 1, 1) := dk_27 (dk_at dksX6_type_0 0 rfl rfl)
theorem dX6_type_1 : decode cX6_type 1 = .ok (.bipush 32, 2) := dk_16 32 (dk_at dksX6_type_0 1 rfl rfl)
theorem dX6_type_3 : decode cX6_type 3 = .ok (.bipush 126, 2) := dk_16 126 (dk_at dksX6_type_0 3 rfl rfl)
theorem dX6_type_5 : decode cX6_type 5 = .ok (.invokestatic 87, 3) := dk_184 0 87 (dk_at dksX6_type_0 5 rfl rfl)
theorem dX6_type_8 : decode cX6_type 8 = .ok (.ifCond .ne 9, 3) := dk_154 0 9 (dk_at dksX6_type_0 8 rfl rfl)
theorem dX6_type_11 : decode cX6_type 11 = .ok (.aload_n 0, 1) := dk_42 (dk_at dksX6_type_0 11 rfl rfl)
theorem dX6_type_12 : decode cX6_type 12 = .ok (.iconst 1, 1) := dk_4 (dk_at dksX6_type_0 12 rfl rfl)
theorem dX6_type_13 : decode cX6_type 13 = .ok (.invokevirtual 131, 3) := dk_182 0 131 (dk_at dksX6_type_0 13 rfl rfl)
theorem dX6_type_16 : decode cX6_type 16 = .ok (.ireturn, 1) := dk_172 (dk_at dksX6_type_0 16 rfl rfl)
theorem dX6_type_17 : decode cX6_type 17 = .ok (.aload_n 0, 1) := dk_42 (dk_at dksX6_type_0 17 rfl rfl)
theorem dX6_type_18 : decode cX6_type 18 = .ok (.getfield 176, 3) := dk_180 0 176 (dk_at dksX6_type_0 18 rfl rfl)
theorem dX6_type_21 : decode cX6_type 21 = .ok (.bipush 24, 2) := dk_16 24 (dk_at dksX6_type_0 21 rfl rfl)
theorem dX6_type_23 : decode cX6_type 23 = .ok (.if_icmp .lt 9, 3) := dk_161 0 9 (dk_at dksX6_type_1 0 rfl rfl)
theorem dX6_type_26 : decode cX6_type 26 = .ok (.aload_n 0, 1) := dk_42 (dk_at dksX6_type_1 3 rfl rfl)
theorem dX6_type_27 : decode cX6_type 27 = .ok (.iconst 2, 1) := dk_5 (dk_at dksX6_type_1 4 rfl rfl)
theorem dX6_type_28 : decode cX6_type 28 = .ok (.invokevirtual 131, 3) := dk_182 0 131 (dk_at dksX6_type_1 5 rfl rfl)
theorem dX6_type_31 : decode cX6_type 31 = .ok (.ireturn, 1) := dk_172 (dk_at dksX6_type_1 8 rfl rfl)
theorem dX6_type_32 : decode cX6_type 32 = .ok (.aload_n 0, 1) := dk_42 (dk_at dksX6_type_1 9 rfl rfl)
theorem dX6_type_33 : decode cX6_type 33 = .ok (.iload_n 1, 1) := dk_27 (dk_at dksX6_type_1 10 rfl rfl)
theorem dX6_type_34 : decode cX6_type 34 = .ok (.invokevirtual 269, 3) := dk_182 1 13 (dk_at dksX6_type_1 11 rfl rfl)
theorem dX6_type_37 : decode cX6_type 37 = .ok (.aload_n 0, 1) := dk_42 (dk_at dksX6_type_1 14 rfl rfl)
theorem dX6_type_38 : decode cX6_type 38 = .ok (.aload_n 0, 1) := dk_42 (dk_at dksX6_type_1 15 rfl rfl)
theorem dX6_type_39 : decode cX6_type 39 = .ok (.getfield 176, 3) := dk_180 0 176 (dk_at dksX6_type_1 16 rfl rfl)
theorem dX6_type_42 : decode cX6_type 42 = .ok (.invokevirtual 83, 3) := dk_182 0 83 (dk_at dksX6_type_1 19 rfl rfl)
theorem dX6_type_45 : decode cX6_type 45 = .ok (.ireturn, 1) := dk_172 (dk_at dksX6_type_1 22 rfl rfl)
abbrev cX6_clearText : ByteArray := prog_15_method_83_code
def yX6_clearText : MethodName := ⟨RX6, "clearText", "()I"⟩
def dkwX6_clearText_0 : List UInt8 := [42, 180, 0, 176, 60, 42, 3, 181, 0, 176, 42, 27, 182, 0, 83, 172]
abbrev dktX6_clearText_0 : List UInt8 := dkwX6_clearText_0 ++ []
theorem dksX6_clearText_0 : cX6_clearText.data.toList.drop 0 = dktX6_clearText_0 := by decide +kernel
theorem dX6_clearText_0 : decode cX6_clearText 0 = .ok (.aload_n 0, 1) := dk_42 (dk_at dksX6_clearText_0 0 rfl rfl)
theorem dX6_clearText_1 : decode cX6_clearText 1 = .ok (.getfield 176, 3) := dk_180 0 176 (dk_at dksX6_clearText_0 1 rfl rfl)
theorem dX6_clearText_4 : decode cX6_clearText 4 = .ok (.istore_n 1, 1) := dk_60 (dk_at dksX6_clearText_0 4 rfl rfl)
theorem dX6_clearText_5 : decode cX6_clearText 5 = .ok (.aload_n 0, 1) := dk_42 (dk_at dksX6_clearText_0 5 rfl rfl)
theorem dX6_clearText_6 : decode cX6_clearText 6 = .ok (.iconst 0, 1) := dk_3 (dk_at dksX6_clearText_0 6 rfl rfl)
theorem dX6_clearText_7 : decode cX6_clearText 7 = .ok (.putfield 176, 3) := dk_181 0 176 (dk_at dksX6_clearText_0 7 rfl rfl)
theorem dX6_clearText_10 : decode cX6_clearText 10 = .ok (.aload_n 0, 1) := dk_42 (dk_at dksX6_clearText_0 10 rfl rfl)
theorem dX6_clearText_11 : decode cX6_clearText 11 = .ok (.iload_n 1, 1) := dk_27 (dk_at dksX6_clearText_0 11 rfl rfl)
theorem dX6_clearText_12 : decode cX6_clearText 12 = .ok (.invokevirtual 83, 3) := dk_182 0 83 (dk_at dksX6_clearText_0 12 rfl rfl)
theorem dX6_clearText_15 : decode cX6_clearText 15 = .ok (.ireturn, 1) := dk_172 (dk_at dksX6_clearText_0 15 rfl rfl)
abbrev cX6_character : ByteArray := prog_15_method_84_code
def yX6_character : MethodName := ⟨RX6, "character", "(I)I"⟩
def dkwX6_character_1 : List UInt8 := [2, 182, 0, 83, 172]
abbrev dktX6_character_1 : List UInt8 := dkwX6_character_1 ++ []
def dkwX6_character_0 : List UInt8 := [42, 27, 3, 42, 180, 0, 176, 4, 100, 184, 0, 87, 153, 0, 12, 42, 180, 0, 19, 27, 46, 167, 0, 4]
abbrev dktX6_character_0 : List UInt8 := dkwX6_character_0 ++ dktX6_character_1
theorem dksX6_character_0 : cX6_character.data.toList.drop 0 = dktX6_character_0 := by decide +kernel
theorem dksX6_character_1 : cX6_character.data.toList.drop 24 = dktX6_character_1 := dk_seg dksX6_character_0 24 rfl rfl
theorem dX6_character_0 : decode cX6_character 0 = .ok (.aload_n 0, 1) := dk_42 (dk_at dksX6_character_0 0 rfl rfl)
theorem dX6_character_1 : decode cX6_character 1 = .ok (.iload_n 1, 1) := dk_27 (dk_at dksX6_character_0 1 rfl rfl)
theorem dX6_character_2 : decode cX6_character 2 = .ok (.iconst 0, 1) := dk_3 (dk_at dksX6_character_0 2 rfl rfl)
theorem dX6_character_3 : decode cX6_character 3 = .ok (.aload_n 0, 1) := dk_42 (dk_at dksX6_character_0 3 rfl rfl)
theorem dX6_character_4 : decode cX6_character 4 = .ok (.getfield 176, 3) := dk_180 0 176 (dk_at dksX6_character_0 4 rfl rfl)
theorem dX6_character_7 : decode cX6_character 7 = .ok (.iconst 1, 1) := dk_4 (dk_at dksX6_character_0 7 rfl rfl)
theorem dX6_character_8 : decode cX6_character 8 = .ok (.isub, 1) := dk_100 (dk_at dksX6_character_0 8 rfl rfl)
theorem dX6_character_9 : decode cX6_character 9 = .ok (.invokestatic 87, 3) := dk_184 0 87 (dk_at dksX6_character_0 9 rfl rfl)
theorem dX6_character_12 : decode cX6_character 12 = .ok (.ifCond .eq 12, 3) := dk_153 0 12 (dk_at dksX6_character_0 12 rfl rfl)
theorem dX6_character_15 : decode cX6_character 15 = .ok (.aload_n 0, 1) := dk_42 (dk_at dksX6_character_0 15 rfl rfl)
theorem dX6_character_16 : decode cX6_character 16 = .ok (.getfield 19, 3) := dk_180 0 19 (dk_at dksX6_character_0 16 rfl rfl)
theorem dX6_character_19 : decode cX6_character 19 = .ok (.iload_n 1, 1) := dk_27 (dk_at dksX6_character_0 19 rfl rfl)
theorem dX6_character_20 : decode cX6_character 20 = .ok (.iaload, 1) := dk_46 (dk_at dksX6_character_0 20 rfl rfl)
theorem dX6_character_21 : decode cX6_character 21 = .ok (.goto 4, 3) := dk_167 0 4 (dk_at dksX6_character_0 21 rfl rfl)
theorem dX6_character_24 : decode cX6_character 24 = .ok (.iconst (-1), 1) := dk_2 (dk_at dksX6_character_1 0 rfl rfl)
theorem dX6_character_25 : decode cX6_character 25 = .ok (.invokevirtual 83, 3) := dk_182 0 83 (dk_at dksX6_character_1 1 rfl rfl)
theorem dX6_character_28 : decode cX6_character 28 = .ok (.ireturn, 1) := dk_172 (dk_at dksX6_character_1 4 rfl rfl)
abbrev cX6_undo : ByteArray := prog_15_method_85_code
def yX6_undo : MethodName := ⟨RX6, "undo", "()I"⟩
def dkwX6_undo_2 : List UInt8 := [104, 27, 96, 46, 79, 132, 1, 1, 167, 255, 225, 42, 42, 180, 0, 80, 182, 0, 83, 172]
abbrev dktX6_undo_2 : List UInt8 := dkwX6_undo_2 ++ []
def dkwX6_undo_1 : List UInt8 := [60, 27, 17, 18, 45, 162, 0, 30, 42, 180, 0, 7, 27, 42, 180, 0, 13, 17, 18, 45, 42, 180, 0, 80]
abbrev dktX6_undo_1 : List UInt8 := dkwX6_undo_1 ++ dktX6_undo_2
def dkwX6_undo_0 : List UInt8 := [42, 180, 0, 80, 154, 0, 9, 42, 4, 182, 0, 131, 172, 42, 89, 180, 0, 80, 4, 100, 181, 0, 80, 3]
abbrev dktX6_undo_0 : List UInt8 := dkwX6_undo_0 ++ dktX6_undo_1
theorem dksX6_undo_0 : cX6_undo.data.toList.drop 0 = dktX6_undo_0 := by decide +kernel
theorem dksX6_undo_1 : cX6_undo.data.toList.drop 24 = dktX6_undo_1 := dk_seg dksX6_undo_0 24 rfl rfl
theorem dksX6_undo_2 : cX6_undo.data.toList.drop 48 = dktX6_undo_2 := dk_seg dksX6_undo_1 24 rfl rfl
theorem dX6_undo_0 : decode cX6_undo 0 = .ok (.aload_n 0, 1) := dk_42 (dk_at dksX6_undo_0 0 rfl rfl)
theorem dX6_undo_1 : decode cX6_undo 1 = .ok (.getfield 80, 3) := dk_180 0 80 (dk_at dksX6_undo_0 1 rfl rfl)
theorem dX6_undo_4 : decode cX6_undo 4 = .ok (.ifCond .ne 9, 3) := dk_154 0 9 (dk_at dksX6_undo_0 4 rfl rfl)
theorem dX6_undo_7 : decode cX6_undo 7 = .ok (.aload_n 0, 1) := dk_42 (dk_at dksX6_undo_0 7 rfl rfl)
theorem dX6_undo_8 : decode cX6_undo 8 = .ok (.iconst 1, 1) := dk_4 (dk_at dksX6_undo_0 8 rfl rfl)
theorem dX6_undo_9 : decode cX6_undo 9 = .ok (.invokevirtual 131, 3) := dk_182 0 131 (dk_at dksX6_undo_0 9 rfl rfl)
theorem dX6_undo_12 : decode cX6_undo 12 = .ok (.ireturn, 1) := dk_172 (dk_at dksX6_undo_0 12 rfl rfl)
theorem dX6_undo_13 : decode cX6_undo 13 = .ok (.aload_n 0, 1) := dk_42 (dk_at dksX6_undo_0 13 rfl rfl)
theorem dX6_undo_14 : decode cX6_undo 14 = .ok (.dup, 1) := dk_89 (dk_at dksX6_undo_0 14 rfl rfl)
theorem dX6_undo_15 : decode cX6_undo 15 = .ok (.getfield 80, 3) := dk_180 0 80 (dk_at dksX6_undo_0 15 rfl rfl)
theorem dX6_undo_18 : decode cX6_undo 18 = .ok (.iconst 1, 1) := dk_4 (dk_at dksX6_undo_0 18 rfl rfl)
theorem dX6_undo_19 : decode cX6_undo 19 = .ok (.isub, 1) := dk_100 (dk_at dksX6_undo_0 19 rfl rfl)
theorem dX6_undo_20 : decode cX6_undo 20 = .ok (.putfield 80, 3) := dk_181 0 80 (dk_at dksX6_undo_0 20 rfl rfl)
theorem dX6_undo_23 : decode cX6_undo 23 = .ok (.iconst 0, 1) := dk_3 (dk_at dksX6_undo_0 23 rfl rfl)
theorem dX6_undo_24 : decode cX6_undo 24 = .ok (.istore_n 1, 1) := dk_60 (dk_at dksX6_undo_1 0 rfl rfl)
theorem dX6_undo_25 : decode cX6_undo 25 = .ok (.iload_n 1, 1) := dk_27 (dk_at dksX6_undo_1 1 rfl rfl)
theorem dX6_undo_26 : decode cX6_undo 26 = .ok (.sipush 4653, 3) := dk_17 18 45 (dk_at dksX6_undo_1 2 rfl rfl)
theorem dX6_undo_29 : decode cX6_undo 29 = .ok (.if_icmp .ge 30, 3) := dk_162 0 30 (dk_at dksX6_undo_1 5 rfl rfl)
theorem dX6_undo_32 : decode cX6_undo 32 = .ok (.aload_n 0, 1) := dk_42 (dk_at dksX6_undo_1 8 rfl rfl)
theorem dX6_undo_33 : decode cX6_undo 33 = .ok (.getfield 7, 3) := dk_180 0 7 (dk_at dksX6_undo_1 9 rfl rfl)
theorem dX6_undo_36 : decode cX6_undo 36 = .ok (.iload_n 1, 1) := dk_27 (dk_at dksX6_undo_1 12 rfl rfl)
theorem dX6_undo_37 : decode cX6_undo 37 = .ok (.aload_n 0, 1) := dk_42 (dk_at dksX6_undo_1 13 rfl rfl)
theorem dX6_undo_38 : decode cX6_undo 38 = .ok (.getfield 13, 3) := dk_180 0 13 (dk_at dksX6_undo_1 14 rfl rfl)
theorem dX6_undo_41 : decode cX6_undo 41 = .ok (.sipush 4653, 3) := dk_17 18 45 (dk_at dksX6_undo_1 17 rfl rfl)
theorem dX6_undo_44 : decode cX6_undo 44 = .ok (.aload_n 0, 1) := dk_42 (dk_at dksX6_undo_1 20 rfl rfl)
theorem dX6_undo_45 : decode cX6_undo 45 = .ok (.getfield 80, 3) := dk_180 0 80 (dk_at dksX6_undo_1 21 rfl rfl)
theorem dX6_undo_48 : decode cX6_undo 48 = .ok (.imul, 1) := dk_104 (dk_at dksX6_undo_2 0 rfl rfl)
theorem dX6_undo_49 : decode cX6_undo 49 = .ok (.iload_n 1, 1) := dk_27 (dk_at dksX6_undo_2 1 rfl rfl)
theorem dX6_undo_50 : decode cX6_undo 50 = .ok (.iadd, 1) := dk_96 (dk_at dksX6_undo_2 2 rfl rfl)
theorem dX6_undo_51 : decode cX6_undo 51 = .ok (.iaload, 1) := dk_46 (dk_at dksX6_undo_2 3 rfl rfl)
theorem dX6_undo_52 : decode cX6_undo 52 = .ok (.iastore, 1) := dk_79 (dk_at dksX6_undo_2 4 rfl rfl)
theorem dX6_undo_53 : decode cX6_undo 53 = .ok (.iinc 1 1, 3) := dk_132 1 1 (dk_at dksX6_undo_2 5 rfl rfl)
theorem dX6_undo_56 : decode cX6_undo 56 = .ok (.goto (-31), 3) := dk_167 255 225 (dk_at dksX6_undo_2 8 rfl rfl)
theorem dX6_undo_59 : decode cX6_undo 59 = .ok (.aload_n 0, 1) := dk_42 (dk_at dksX6_undo_2 11 rfl rfl)
theorem dX6_undo_60 : decode cX6_undo 60 = .ok (.aload_n 0, 1) := dk_42 (dk_at dksX6_undo_2 12 rfl rfl)
theorem dX6_undo_61 : decode cX6_undo 61 = .ok (.getfield 80, 3) := dk_180 0 80 (dk_at dksX6_undo_2 13 rfl rfl)
theorem dX6_undo_64 : decode cX6_undo 64 = .ok (.invokevirtual 83, 3) := dk_182 0 83 (dk_at dksX6_undo_2 16 rfl rfl)
theorem dX6_undo_67 : decode cX6_undo 67 = .ok (.ireturn, 1) := dk_172 (dk_at dksX6_undo_2 19 rfl rfl)
abbrev cX6_checksum : ByteArray := prog_15_method_89_code
def yX6_checksum : MethodName := ⟨RX6, "checksum", "()J"⟩
def dkwX6_checksum_2 : List UInt8 := [42, 180, 1, 39, 173]
abbrev dktX6_checksum_2 : List UInt8 := dkwX6_checksum_2 ++ []
def dkwX6_checksum_1 : List UInt8 := [132, 1, 1, 167, 255, 243, 42, 42, 180, 0, 176, 133, 182, 1, 42, 42, 42, 180, 0, 80, 133, 182, 1, 42]
abbrev dktX6_checksum_1 : List UInt8 := dkwX6_checksum_1 ++ dktX6_checksum_2
def dkwX6_checksum_0 : List UInt8 := [42, 3, 181, 0, 76, 42, 20, 1, 49, 181, 1, 39, 3, 60, 27, 6, 162, 0, 14, 42, 27, 182, 1, 51]
abbrev dktX6_checksum_0 : List UInt8 := dkwX6_checksum_0 ++ dktX6_checksum_1
theorem dksX6_checksum_0 : cX6_checksum.data.toList.drop 0 = dktX6_checksum_0 := by decide +kernel
theorem dksX6_checksum_1 : cX6_checksum.data.toList.drop 24 = dktX6_checksum_1 := dk_seg dksX6_checksum_0 24 rfl rfl
theorem dksX6_checksum_2 : cX6_checksum.data.toList.drop 48 = dktX6_checksum_2 := dk_seg dksX6_checksum_1 24 rfl rfl
theorem dX6_checksum_0 : decode cX6_checksum 0 = .ok (.aload_n 0, 1) := dk_42 (dk_at dksX6_checksum_0 0 rfl rfl)
theorem dX6_checksum_1 : decode cX6_checksum 1 = .ok (.iconst 0, 1) := dk_3 (dk_at dksX6_checksum_0 1 rfl rfl)
theorem dX6_checksum_2 : decode cX6_checksum 2 = .ok (.putfield 76, 3) := dk_181 0 76 (dk_at dksX6_checksum_0 2 rfl rfl)
theorem dX6_checksum_5 : decode cX6_checksum 5 = .ok (.aload_n 0, 1) := dk_42 (dk_at dksX6_checksum_0 5 rfl rfl)
theorem dX6_checksum_6 : decode cX6_checksum 6 = .ok (.ldc2_w 305, 3) := dk_20 1 49 (dk_at dksX6_checksum_0 6 rfl rfl)
theorem dX6_checksum_9 : decode cX6_checksum 9 = .ok (.putfield 295, 3) := dk_181 1 39 (dk_at dksX6_checksum_0 9 rfl rfl)
theorem dX6_checksum_12 : decode cX6_checksum 12 = .ok (.iconst 0, 1) := dk_3 (dk_at dksX6_checksum_0 12 rfl rfl)
theorem dX6_checksum_13 : decode cX6_checksum 13 = .ok (.istore_n 1, 1) := dk_60 (dk_at dksX6_checksum_0 13 rfl rfl)
theorem dX6_checksum_14 : decode cX6_checksum 14 = .ok (.iload_n 1, 1) := dk_27 (dk_at dksX6_checksum_0 14 rfl rfl)
theorem dX6_checksum_15 : decode cX6_checksum 15 = .ok (.iconst 3, 1) := dk_6 (dk_at dksX6_checksum_0 15 rfl rfl)
theorem dX6_checksum_16 : decode cX6_checksum 16 = .ok (.if_icmp .ge 14, 3) := dk_162 0 14 (dk_at dksX6_checksum_0 16 rfl rfl)
theorem dX6_checksum_19 : decode cX6_checksum 19 = .ok (.aload_n 0, 1) := dk_42 (dk_at dksX6_checksum_0 19 rfl rfl)
theorem dX6_checksum_20 : decode cX6_checksum 20 = .ok (.iload_n 1, 1) := dk_27 (dk_at dksX6_checksum_0 20 rfl rfl)
theorem dX6_checksum_21 : decode cX6_checksum 21 = .ok (.invokevirtual 307, 3) := dk_182 1 51 (dk_at dksX6_checksum_0 21 rfl rfl)
theorem dX6_checksum_24 : decode cX6_checksum 24 = .ok (.iinc 1 1, 3) := dk_132 1 1 (dk_at dksX6_checksum_1 0 rfl rfl)
theorem dX6_checksum_27 : decode cX6_checksum 27 = .ok (.goto (-13), 3) := dk_167 255 243 (dk_at dksX6_checksum_1 3 rfl rfl)
theorem dX6_checksum_30 : decode cX6_checksum 30 = .ok (.aload_n 0, 1) := dk_42 (dk_at dksX6_checksum_1 6 rfl rfl)
theorem dX6_checksum_31 : decode cX6_checksum 31 = .ok (.aload_n 0, 1) := dk_42 (dk_at dksX6_checksum_1 7 rfl rfl)
theorem dX6_checksum_32 : decode cX6_checksum 32 = .ok (.getfield 176, 3) := dk_180 0 176 (dk_at dksX6_checksum_1 8 rfl rfl)
theorem dX6_checksum_35 : decode cX6_checksum 35 = .ok (.i2l, 1) := dk_133 (dk_at dksX6_checksum_1 11 rfl rfl)
theorem dX6_checksum_36 : decode cX6_checksum 36 = .ok (.invokevirtual 298, 3) := dk_182 1 42 (dk_at dksX6_checksum_1 12 rfl rfl)
theorem dX6_checksum_39 : decode cX6_checksum 39 = .ok (.aload_n 0, 1) := dk_42 (dk_at dksX6_checksum_1 15 rfl rfl)
theorem dX6_checksum_40 : decode cX6_checksum 40 = .ok (.aload_n 0, 1) := dk_42 (dk_at dksX6_checksum_1 16 rfl rfl)
theorem dX6_checksum_41 : decode cX6_checksum 41 = .ok (.getfield 80, 3) := dk_180 0 80 (dk_at dksX6_checksum_1 17 rfl rfl)
theorem dX6_checksum_44 : decode cX6_checksum 44 = .ok (.i2l, 1) := dk_133 (dk_at dksX6_checksum_1 20 rfl rfl)
theorem dX6_checksum_45 : decode cX6_checksum 45 = .ok (.invokevirtual 298, 3) := dk_182 1 42 (dk_at dksX6_checksum_1 21 rfl rfl)
theorem dX6_checksum_48 : decode cX6_checksum 48 = .ok (.aload_n 0, 1) := dk_42 (dk_at dksX6_checksum_2 0 rfl rfl)
theorem dX6_checksum_49 : decode cX6_checksum 49 = .ok (.getfield 295, 3) := dk_180 1 39 (dk_at dksX6_checksum_2 1 rfl rfl)
theorem dX6_checksum_52 : decode cX6_checksum 52 = .ok (.lreturn, 1) := dk_173 (dk_at dksX6_checksum_2 4 rfl rfl)
abbrev cX6_mixReplica : ByteArray := prog_15_method_88_code
def yX6_mixReplica : MethodName := ⟨RX6, "mixReplica", "(I)V"⟩
def dkwX6_mixReplica_8 : List UInt8 := [182, 1, 42, 132, 3, 1, 167, 255, 237, 177]
abbrev dktX6_mixReplica_8 : List UInt8 := dkwX6_mixReplica_8 ++ []
def dkwX6_mixReplica_7 : List UInt8 := [182, 1, 42, 42, 182, 1, 25, 61, 3, 62, 29, 28, 162, 0, 20, 42, 42, 180, 0, 63, 29, 46, 133]
abbrev dktX6_mixReplica_7 : List UInt8 := dkwX6_mixReplica_7 ++ dktX6_mixReplica_8
def dkwX6_mixReplica_6 : List UInt8 := [46, 133, 182, 1, 42, 132, 3, 1, 167, 255, 185, 132, 2, 1, 167, 255, 169, 42, 42, 182, 1, 22, 133]
abbrev dktX6_mixReplica_6 : List UInt8 := dkwX6_mixReplica_6 ++ dktX6_mixReplica_7
def dkwX6_mixReplica_5 : List UInt8 := [132, 5, 1, 167, 255, 233, 42, 42, 180, 0, 40, 21, 4, 47, 182, 1, 42, 42, 42, 180, 0, 44, 21, 4]
abbrev dktX6_mixReplica_5 : List UInt8 := dkwX6_mixReplica_5 ++ dktX6_mixReplica_6
def dkwX6_mixReplica_4 : List UInt8 := [3, 54, 5, 21, 5, 7, 162, 0, 23, 42, 42, 27, 21, 4, 21, 5, 182, 1, 7, 133, 182, 1, 42]
abbrev dktX6_mixReplica_4 : List UInt8 := dkwX6_mixReplica_4 ++ dktX6_mixReplica_5
def dkwX6_mixReplica_3 : List UInt8 := [180, 0, 99, 162, 0, 85, 3, 62, 29, 42, 180, 0, 102, 162, 0, 69, 16, 12, 28, 104, 29, 96, 54, 4]
abbrev dktX6_mixReplica_3 : List UInt8 := dkwX6_mixReplica_3 ++ dktX6_mixReplica_4
def dkwX6_mixReplica_2 : List UInt8 := [167, 255, 232, 42, 27, 3, 182, 1, 46, 42, 27, 4, 182, 1, 46, 42, 27, 182, 1, 10, 3, 61, 28, 42]
abbrev dktX6_mixReplica_2 : List UInt8 := dkwX6_mixReplica_2 ++ dktX6_mixReplica_3
def dkwX6_mixReplica_1 : List UInt8 := [28, 6, 162, 0, 25, 28, 27, 159, 0, 14, 42, 42, 27, 28, 182, 1, 28, 133, 182, 1, 42, 132, 2, 1]
abbrev dktX6_mixReplica_1 : List UInt8 := dkwX6_mixReplica_1 ++ dktX6_mixReplica_2
def dkwX6_mixReplica_0 : List UInt8 := [42, 42, 27, 3, 182, 0, 108, 133, 182, 1, 42, 42, 42, 180, 0, 7, 27, 46, 133, 182, 1, 42, 3, 61]
abbrev dktX6_mixReplica_0 : List UInt8 := dkwX6_mixReplica_0 ++ dktX6_mixReplica_1
theorem dksX6_mixReplica_0 : cX6_mixReplica.data.toList.drop 0 = dktX6_mixReplica_0 := by decide +kernel
theorem dksX6_mixReplica_1 : cX6_mixReplica.data.toList.drop 24 = dktX6_mixReplica_1 := dk_seg dksX6_mixReplica_0 24 rfl rfl
theorem dksX6_mixReplica_2 : cX6_mixReplica.data.toList.drop 48 = dktX6_mixReplica_2 := dk_seg dksX6_mixReplica_1 24 rfl rfl
theorem dksX6_mixReplica_3 : cX6_mixReplica.data.toList.drop 72 = dktX6_mixReplica_3 := dk_seg dksX6_mixReplica_2 24 rfl rfl
theorem dksX6_mixReplica_4 : cX6_mixReplica.data.toList.drop 96 = dktX6_mixReplica_4 := dk_seg dksX6_mixReplica_3 24 rfl rfl
theorem dksX6_mixReplica_5 : cX6_mixReplica.data.toList.drop 119 = dktX6_mixReplica_5 := dk_seg dksX6_mixReplica_4 23 rfl rfl
theorem dksX6_mixReplica_6 : cX6_mixReplica.data.toList.drop 143 = dktX6_mixReplica_6 := dk_seg dksX6_mixReplica_5 24 rfl rfl
theorem dksX6_mixReplica_7 : cX6_mixReplica.data.toList.drop 166 = dktX6_mixReplica_7 := dk_seg dksX6_mixReplica_6 23 rfl rfl
theorem dksX6_mixReplica_8 : cX6_mixReplica.data.toList.drop 189 = dktX6_mixReplica_8 := dk_seg dksX6_mixReplica_7 23 rfl rfl
theorem dX6_mixReplica_0 : decode cX6_mixReplica 0 = .ok (.aload_n 0, 1) := dk_42 (dk_at dksX6_mixReplica_0 0 rfl rfl)
theorem dX6_mixReplica_1 : decode cX6_mixReplica 1 = .ok (.aload_n 0, 1) := dk_42 (dk_at dksX6_mixReplica_0 1 rfl rfl)
theorem dX6_mixReplica_2 : decode cX6_mixReplica 2 = .ok (.iload_n 1, 1) := dk_27 (dk_at dksX6_mixReplica_0 2 rfl rfl)
theorem dX6_mixReplica_3 : decode cX6_mixReplica 3 = .ok (.iconst 0, 1) := dk_3 (dk_at dksX6_mixReplica_0 3 rfl rfl)
theorem dX6_mixReplica_4 : decode cX6_mixReplica 4 = .ok (.invokevirtual 108, 3) := dk_182 0 108 (dk_at dksX6_mixReplica_0 4 rfl rfl)
theorem dX6_mixReplica_7 : decode cX6_mixReplica 7 = .ok (.i2l, 1) := dk_133 (dk_at dksX6_mixReplica_0 7 rfl rfl)
theorem dX6_mixReplica_8 : decode cX6_mixReplica 8 = .ok (.invokevirtual 298, 3) := dk_182 1 42 (dk_at dksX6_mixReplica_0 8 rfl rfl)
theorem dX6_mixReplica_11 : decode cX6_mixReplica 11 = .ok (.aload_n 0, 1) := dk_42 (dk_at dksX6_mixReplica_0 11 rfl rfl)
theorem dX6_mixReplica_12 : decode cX6_mixReplica 12 = .ok (.aload_n 0, 1) := dk_42 (dk_at dksX6_mixReplica_0 12 rfl rfl)
theorem dX6_mixReplica_13 : decode cX6_mixReplica 13 = .ok (.getfield 7, 3) := dk_180 0 7 (dk_at dksX6_mixReplica_0 13 rfl rfl)
theorem dX6_mixReplica_16 : decode cX6_mixReplica 16 = .ok (.iload_n 1, 1) := dk_27 (dk_at dksX6_mixReplica_0 16 rfl rfl)
theorem dX6_mixReplica_17 : decode cX6_mixReplica 17 = .ok (.iaload, 1) := dk_46 (dk_at dksX6_mixReplica_0 17 rfl rfl)
theorem dX6_mixReplica_18 : decode cX6_mixReplica 18 = .ok (.i2l, 1) := dk_133 (dk_at dksX6_mixReplica_0 18 rfl rfl)
theorem dX6_mixReplica_19 : decode cX6_mixReplica 19 = .ok (.invokevirtual 298, 3) := dk_182 1 42 (dk_at dksX6_mixReplica_0 19 rfl rfl)
theorem dX6_mixReplica_22 : decode cX6_mixReplica 22 = .ok (.iconst 0, 1) := dk_3 (dk_at dksX6_mixReplica_0 22 rfl rfl)
theorem dX6_mixReplica_23 : decode cX6_mixReplica 23 = .ok (.istore_n 2, 1) := dk_61 (dk_at dksX6_mixReplica_0 23 rfl rfl)
theorem dX6_mixReplica_24 : decode cX6_mixReplica 24 = .ok (.iload_n 2, 1) := dk_28 (dk_at dksX6_mixReplica_1 0 rfl rfl)
theorem dX6_mixReplica_25 : decode cX6_mixReplica 25 = .ok (.iconst 3, 1) := dk_6 (dk_at dksX6_mixReplica_1 1 rfl rfl)
theorem dX6_mixReplica_26 : decode cX6_mixReplica 26 = .ok (.if_icmp .ge 25, 3) := dk_162 0 25 (dk_at dksX6_mixReplica_1 2 rfl rfl)
theorem dX6_mixReplica_29 : decode cX6_mixReplica 29 = .ok (.iload_n 2, 1) := dk_28 (dk_at dksX6_mixReplica_1 5 rfl rfl)
theorem dX6_mixReplica_30 : decode cX6_mixReplica 30 = .ok (.iload_n 1, 1) := dk_27 (dk_at dksX6_mixReplica_1 6 rfl rfl)
theorem dX6_mixReplica_31 : decode cX6_mixReplica 31 = .ok (.if_icmp .eq 14, 3) := dk_159 0 14 (dk_at dksX6_mixReplica_1 7 rfl rfl)
theorem dX6_mixReplica_34 : decode cX6_mixReplica 34 = .ok (.aload_n 0, 1) := dk_42 (dk_at dksX6_mixReplica_1 10 rfl rfl)
theorem dX6_mixReplica_35 : decode cX6_mixReplica 35 = .ok (.aload_n 0, 1) := dk_42 (dk_at dksX6_mixReplica_1 11 rfl rfl)
theorem dX6_mixReplica_36 : decode cX6_mixReplica 36 = .ok (.iload_n 1, 1) := dk_27 (dk_at dksX6_mixReplica_1 12 rfl rfl)
theorem dX6_mixReplica_37 : decode cX6_mixReplica 37 = .ok (.iload_n 2, 1) := dk_28 (dk_at dksX6_mixReplica_1 13 rfl rfl)
theorem dX6_mixReplica_38 : decode cX6_mixReplica 38 = .ok (.invokevirtual 284, 3) := dk_182 1 28 (dk_at dksX6_mixReplica_1 14 rfl rfl)
theorem dX6_mixReplica_41 : decode cX6_mixReplica 41 = .ok (.i2l, 1) := dk_133 (dk_at dksX6_mixReplica_1 17 rfl rfl)
theorem dX6_mixReplica_42 : decode cX6_mixReplica 42 = .ok (.invokevirtual 298, 3) := dk_182 1 42 (dk_at dksX6_mixReplica_1 18 rfl rfl)
theorem dX6_mixReplica_45 : decode cX6_mixReplica 45 = .ok (.iinc 2 1, 3) := dk_132 2 1 (dk_at dksX6_mixReplica_1 21 rfl rfl)
theorem dX6_mixReplica_48 : decode cX6_mixReplica 48 = .ok (.goto (-24), 3) := dk_167 255 232 (dk_at dksX6_mixReplica_2 0 rfl rfl)
theorem dX6_mixReplica_51 : decode cX6_mixReplica 51 = .ok (.aload_n 0, 1) := dk_42 (dk_at dksX6_mixReplica_2 3 rfl rfl)
theorem dX6_mixReplica_52 : decode cX6_mixReplica 52 = .ok (.iload_n 1, 1) := dk_27 (dk_at dksX6_mixReplica_2 4 rfl rfl)
theorem dX6_mixReplica_53 : decode cX6_mixReplica 53 = .ok (.iconst 0, 1) := dk_3 (dk_at dksX6_mixReplica_2 5 rfl rfl)
theorem dX6_mixReplica_54 : decode cX6_mixReplica 54 = .ok (.invokevirtual 302, 3) := dk_182 1 46 (dk_at dksX6_mixReplica_2 6 rfl rfl)
theorem dX6_mixReplica_57 : decode cX6_mixReplica 57 = .ok (.aload_n 0, 1) := dk_42 (dk_at dksX6_mixReplica_2 9 rfl rfl)
theorem dX6_mixReplica_58 : decode cX6_mixReplica 58 = .ok (.iload_n 1, 1) := dk_27 (dk_at dksX6_mixReplica_2 10 rfl rfl)
theorem dX6_mixReplica_59 : decode cX6_mixReplica 59 = .ok (.iconst 1, 1) := dk_4 (dk_at dksX6_mixReplica_2 11 rfl rfl)
theorem dX6_mixReplica_60 : decode cX6_mixReplica 60 = .ok (.invokevirtual 302, 3) := dk_182 1 46 (dk_at dksX6_mixReplica_2 12 rfl rfl)
theorem dX6_mixReplica_63 : decode cX6_mixReplica 63 = .ok (.aload_n 0, 1) := dk_42 (dk_at dksX6_mixReplica_2 15 rfl rfl)
theorem dX6_mixReplica_64 : decode cX6_mixReplica 64 = .ok (.iload_n 1, 1) := dk_27 (dk_at dksX6_mixReplica_2 16 rfl rfl)
theorem dX6_mixReplica_65 : decode cX6_mixReplica 65 = .ok (.invokevirtual 266, 3) := dk_182 1 10 (dk_at dksX6_mixReplica_2 17 rfl rfl)
theorem dX6_mixReplica_68 : decode cX6_mixReplica 68 = .ok (.iconst 0, 1) := dk_3 (dk_at dksX6_mixReplica_2 20 rfl rfl)
theorem dX6_mixReplica_69 : decode cX6_mixReplica 69 = .ok (.istore_n 2, 1) := dk_61 (dk_at dksX6_mixReplica_2 21 rfl rfl)
theorem dX6_mixReplica_70 : decode cX6_mixReplica 70 = .ok (.iload_n 2, 1) := dk_28 (dk_at dksX6_mixReplica_2 22 rfl rfl)
theorem dX6_mixReplica_71 : decode cX6_mixReplica 71 = .ok (.aload_n 0, 1) := dk_42 (dk_at dksX6_mixReplica_2 23 rfl rfl)
theorem dX6_mixReplica_72 : decode cX6_mixReplica 72 = .ok (.getfield 99, 3) := dk_180 0 99 (dk_at dksX6_mixReplica_3 0 rfl rfl)
theorem dX6_mixReplica_75 : decode cX6_mixReplica 75 = .ok (.if_icmp .ge 85, 3) := dk_162 0 85 (dk_at dksX6_mixReplica_3 3 rfl rfl)
theorem dX6_mixReplica_78 : decode cX6_mixReplica 78 = .ok (.iconst 0, 1) := dk_3 (dk_at dksX6_mixReplica_3 6 rfl rfl)
theorem dX6_mixReplica_79 : decode cX6_mixReplica 79 = .ok (.istore_n 3, 1) := dk_62 (dk_at dksX6_mixReplica_3 7 rfl rfl)
theorem dX6_mixReplica_80 : decode cX6_mixReplica 80 = .ok (.iload_n 3, 1) := dk_29 (dk_at dksX6_mixReplica_3 8 rfl rfl)
theorem dX6_mixReplica_81 : decode cX6_mixReplica 81 = .ok (.aload_n 0, 1) := dk_42 (dk_at dksX6_mixReplica_3 9 rfl rfl)
theorem dX6_mixReplica_82 : decode cX6_mixReplica 82 = .ok (.getfield 102, 3) := dk_180 0 102 (dk_at dksX6_mixReplica_3 10 rfl rfl)
theorem dX6_mixReplica_85 : decode cX6_mixReplica 85 = .ok (.if_icmp .ge 69, 3) := dk_162 0 69 (dk_at dksX6_mixReplica_3 13 rfl rfl)
theorem dX6_mixReplica_88 : decode cX6_mixReplica 88 = .ok (.bipush 12, 2) := dk_16 12 (dk_at dksX6_mixReplica_3 16 rfl rfl)
theorem dX6_mixReplica_90 : decode cX6_mixReplica 90 = .ok (.iload_n 2, 1) := dk_28 (dk_at dksX6_mixReplica_3 18 rfl rfl)
theorem dX6_mixReplica_91 : decode cX6_mixReplica 91 = .ok (.imul, 1) := dk_104 (dk_at dksX6_mixReplica_3 19 rfl rfl)
theorem dX6_mixReplica_92 : decode cX6_mixReplica 92 = .ok (.iload_n 3, 1) := dk_29 (dk_at dksX6_mixReplica_3 20 rfl rfl)
theorem dX6_mixReplica_93 : decode cX6_mixReplica 93 = .ok (.iadd, 1) := dk_96 (dk_at dksX6_mixReplica_3 21 rfl rfl)
theorem dX6_mixReplica_94 : decode cX6_mixReplica 94 = .ok (.istore 4, 2) := dk_54 4 (dk_at dksX6_mixReplica_3 22 rfl rfl)
theorem dX6_mixReplica_96 : decode cX6_mixReplica 96 = .ok (.iconst 0, 1) := dk_3 (dk_at dksX6_mixReplica_4 0 rfl rfl)
theorem dX6_mixReplica_97 : decode cX6_mixReplica 97 = .ok (.istore 5, 2) := dk_54 5 (dk_at dksX6_mixReplica_4 1 rfl rfl)
theorem dX6_mixReplica_99 : decode cX6_mixReplica 99 = .ok (.iload 5, 2) := dk_21 5 (dk_at dksX6_mixReplica_4 3 rfl rfl)
theorem dX6_mixReplica_101 : decode cX6_mixReplica 101 = .ok (.iconst 4, 1) := dk_7 (dk_at dksX6_mixReplica_4 5 rfl rfl)
theorem dX6_mixReplica_102 : decode cX6_mixReplica 102 = .ok (.if_icmp .ge 23, 3) := dk_162 0 23 (dk_at dksX6_mixReplica_4 6 rfl rfl)
theorem dX6_mixReplica_105 : decode cX6_mixReplica 105 = .ok (.aload_n 0, 1) := dk_42 (dk_at dksX6_mixReplica_4 9 rfl rfl)
theorem dX6_mixReplica_106 : decode cX6_mixReplica 106 = .ok (.aload_n 0, 1) := dk_42 (dk_at dksX6_mixReplica_4 10 rfl rfl)
theorem dX6_mixReplica_107 : decode cX6_mixReplica 107 = .ok (.iload_n 1, 1) := dk_27 (dk_at dksX6_mixReplica_4 11 rfl rfl)
theorem dX6_mixReplica_108 : decode cX6_mixReplica 108 = .ok (.iload 4, 2) := dk_21 4 (dk_at dksX6_mixReplica_4 12 rfl rfl)
theorem dX6_mixReplica_110 : decode cX6_mixReplica 110 = .ok (.iload 5, 2) := dk_21 5 (dk_at dksX6_mixReplica_4 14 rfl rfl)
theorem dX6_mixReplica_112 : decode cX6_mixReplica 112 = .ok (.invokevirtual 263, 3) := dk_182 1 7 (dk_at dksX6_mixReplica_4 16 rfl rfl)
theorem dX6_mixReplica_115 : decode cX6_mixReplica 115 = .ok (.i2l, 1) := dk_133 (dk_at dksX6_mixReplica_4 19 rfl rfl)
theorem dX6_mixReplica_116 : decode cX6_mixReplica 116 = .ok (.invokevirtual 298, 3) := dk_182 1 42 (dk_at dksX6_mixReplica_4 20 rfl rfl)
theorem dX6_mixReplica_119 : decode cX6_mixReplica 119 = .ok (.iinc 5 1, 3) := dk_132 5 1 (dk_at dksX6_mixReplica_5 0 rfl rfl)
theorem dX6_mixReplica_122 : decode cX6_mixReplica 122 = .ok (.goto (-23), 3) := dk_167 255 233 (dk_at dksX6_mixReplica_5 3 rfl rfl)
theorem dX6_mixReplica_125 : decode cX6_mixReplica 125 = .ok (.aload_n 0, 1) := dk_42 (dk_at dksX6_mixReplica_5 6 rfl rfl)
theorem dX6_mixReplica_126 : decode cX6_mixReplica 126 = .ok (.aload_n 0, 1) := dk_42 (dk_at dksX6_mixReplica_5 7 rfl rfl)
theorem dX6_mixReplica_127 : decode cX6_mixReplica 127 = .ok (.getfield 40, 3) := dk_180 0 40 (dk_at dksX6_mixReplica_5 8 rfl rfl)
theorem dX6_mixReplica_130 : decode cX6_mixReplica 130 = .ok (.iload 4, 2) := dk_21 4 (dk_at dksX6_mixReplica_5 11 rfl rfl)
theorem dX6_mixReplica_132 : decode cX6_mixReplica 132 = .ok (.laload, 1) := dk_47 (dk_at dksX6_mixReplica_5 13 rfl rfl)
theorem dX6_mixReplica_133 : decode cX6_mixReplica 133 = .ok (.invokevirtual 298, 3) := dk_182 1 42 (dk_at dksX6_mixReplica_5 14 rfl rfl)
theorem dX6_mixReplica_136 : decode cX6_mixReplica 136 = .ok (.aload_n 0, 1) := dk_42 (dk_at dksX6_mixReplica_5 17 rfl rfl)
theorem dX6_mixReplica_137 : decode cX6_mixReplica 137 = .ok (.aload_n 0, 1) := dk_42 (dk_at dksX6_mixReplica_5 18 rfl rfl)
theorem dX6_mixReplica_138 : decode cX6_mixReplica 138 = .ok (.getfield 44, 3) := dk_180 0 44 (dk_at dksX6_mixReplica_5 19 rfl rfl)
theorem dX6_mixReplica_141 : decode cX6_mixReplica 141 = .ok (.iload 4, 2) := dk_21 4 (dk_at dksX6_mixReplica_5 22 rfl rfl)
theorem dX6_mixReplica_143 : decode cX6_mixReplica 143 = .ok (.iaload, 1) := dk_46 (dk_at dksX6_mixReplica_6 0 rfl rfl)
theorem dX6_mixReplica_144 : decode cX6_mixReplica 144 = .ok (.i2l, 1) := dk_133 (dk_at dksX6_mixReplica_6 1 rfl rfl)
theorem dX6_mixReplica_145 : decode cX6_mixReplica 145 = .ok (.invokevirtual 298, 3) := dk_182 1 42 (dk_at dksX6_mixReplica_6 2 rfl rfl)
theorem dX6_mixReplica_148 : decode cX6_mixReplica 148 = .ok (.iinc 3 1, 3) := dk_132 3 1 (dk_at dksX6_mixReplica_6 5 rfl rfl)
theorem dX6_mixReplica_151 : decode cX6_mixReplica 151 = .ok (.goto (-71), 3) := dk_167 255 185 (dk_at dksX6_mixReplica_6 8 rfl rfl)
theorem dX6_mixReplica_154 : decode cX6_mixReplica 154 = .ok (.iinc 2 1, 3) := dk_132 2 1 (dk_at dksX6_mixReplica_6 11 rfl rfl)
theorem dX6_mixReplica_157 : decode cX6_mixReplica 157 = .ok (.goto (-87), 3) := dk_167 255 169 (dk_at dksX6_mixReplica_6 14 rfl rfl)
theorem dX6_mixReplica_160 : decode cX6_mixReplica 160 = .ok (.aload_n 0, 1) := dk_42 (dk_at dksX6_mixReplica_6 17 rfl rfl)
theorem dX6_mixReplica_161 : decode cX6_mixReplica 161 = .ok (.aload_n 0, 1) := dk_42 (dk_at dksX6_mixReplica_6 18 rfl rfl)
theorem dX6_mixReplica_162 : decode cX6_mixReplica 162 = .ok (.invokevirtual 278, 3) := dk_182 1 22 (dk_at dksX6_mixReplica_6 19 rfl rfl)
theorem dX6_mixReplica_165 : decode cX6_mixReplica 165 = .ok (.i2l, 1) := dk_133 (dk_at dksX6_mixReplica_6 22 rfl rfl)
theorem dX6_mixReplica_166 : decode cX6_mixReplica 166 = .ok (.invokevirtual 298, 3) := dk_182 1 42 (dk_at dksX6_mixReplica_7 0 rfl rfl)
theorem dX6_mixReplica_169 : decode cX6_mixReplica 169 = .ok (.aload_n 0, 1) := dk_42 (dk_at dksX6_mixReplica_7 3 rfl rfl)
theorem dX6_mixReplica_170 : decode cX6_mixReplica 170 = .ok (.invokevirtual 281, 3) := dk_182 1 25 (dk_at dksX6_mixReplica_7 4 rfl rfl)
theorem dX6_mixReplica_173 : decode cX6_mixReplica 173 = .ok (.istore_n 2, 1) := dk_61 (dk_at dksX6_mixReplica_7 7 rfl rfl)
theorem dX6_mixReplica_174 : decode cX6_mixReplica 174 = .ok (.iconst 0, 1) := dk_3 (dk_at dksX6_mixReplica_7 8 rfl rfl)
theorem dX6_mixReplica_175 : decode cX6_mixReplica 175 = .ok (.istore_n 3, 1) := dk_62 (dk_at dksX6_mixReplica_7 9 rfl rfl)
theorem dX6_mixReplica_176 : decode cX6_mixReplica 176 = .ok (.iload_n 3, 1) := dk_29 (dk_at dksX6_mixReplica_7 10 rfl rfl)
theorem dX6_mixReplica_177 : decode cX6_mixReplica 177 = .ok (.iload_n 2, 1) := dk_28 (dk_at dksX6_mixReplica_7 11 rfl rfl)
theorem dX6_mixReplica_178 : decode cX6_mixReplica 178 = .ok (.if_icmp .ge 20, 3) := dk_162 0 20 (dk_at dksX6_mixReplica_7 12 rfl rfl)
theorem dX6_mixReplica_181 : decode cX6_mixReplica 181 = .ok (.aload_n 0, 1) := dk_42 (dk_at dksX6_mixReplica_7 15 rfl rfl)
theorem dX6_mixReplica_182 : decode cX6_mixReplica 182 = .ok (.aload_n 0, 1) := dk_42 (dk_at dksX6_mixReplica_7 16 rfl rfl)
theorem dX6_mixReplica_183 : decode cX6_mixReplica 183 = .ok (.getfield 63, 3) := dk_180 0 63 (dk_at dksX6_mixReplica_7 17 rfl rfl)
theorem dX6_mixReplica_186 : decode cX6_mixReplica 186 = .ok (.iload_n 3, 1) := dk_29 (dk_at dksX6_mixReplica_7 20 rfl rfl)
theorem dX6_mixReplica_187 : decode cX6_mixReplica 187 = .ok (.iaload, 1) := dk_46 (dk_at dksX6_mixReplica_7 21 rfl rfl)
theorem dX6_mixReplica_188 : decode cX6_mixReplica 188 = .ok (.i2l, 1) := dk_133 (dk_at dksX6_mixReplica_7 22 rfl rfl)
theorem dX6_mixReplica_189 : decode cX6_mixReplica 189 = .ok (.invokevirtual 298, 3) := dk_182 1 42 (dk_at dksX6_mixReplica_8 0 rfl rfl)
theorem dX6_mixReplica_192 : decode cX6_mixReplica 192 = .ok (.iinc 3 1, 3) := dk_132 3 1 (dk_at dksX6_mixReplica_8 3 rfl rfl)
theorem dX6_mixReplica_195 : decode cX6_mixReplica 195 = .ok (.goto (-19), 3) := dk_167 255 237 (dk_at dksX6_mixReplica_8 6 rfl rfl)
theorem dX6_mixReplica_198 : decode cX6_mixReplica 198 = .ok (.return_, 1) := dk_177 (dk_at dksX6_mixReplica_8 9 rfl rfl)
abbrev cX6_mix : ByteArray := prog_15_method_86_code
def yX6_mix : MethodName := ⟨RX6, "mix", "(J)V"⟩
def dkwX6_mix_0 : List UInt8 := [42, 20, 1, 37, 42, 180, 1, 39, 105, 31, 97, 181, 1, 39, 177]
abbrev dktX6_mix_0 : List UInt8 := dkwX6_mix_0 ++ []
theorem dksX6_mix_0 : cX6_mix.data.toList.drop 0 = dktX6_mix_0 := by decide +kernel
theorem dX6_mix_0 : decode cX6_mix 0 = .ok (.aload_n 0, 1) := dk_42 (dk_at dksX6_mix_0 0 rfl rfl)
theorem dX6_mix_1 : decode cX6_mix 1 = .ok (.ldc2_w 293, 3) := dk_20 1 37 (dk_at dksX6_mix_0 1 rfl rfl)
theorem dX6_mix_4 : decode cX6_mix 4 = .ok (.aload_n 0, 1) := dk_42 (dk_at dksX6_mix_0 4 rfl rfl)
theorem dX6_mix_5 : decode cX6_mix 5 = .ok (.getfield 295, 3) := dk_180 1 39 (dk_at dksX6_mix_0 5 rfl rfl)
theorem dX6_mix_8 : decode cX6_mix 8 = .ok (.lmul, 1) := dk_105 (dk_at dksX6_mix_0 8 rfl rfl)
theorem dX6_mix_9 : decode cX6_mix 9 = .ok (.lload_n 1, 1) := dk_31 (dk_at dksX6_mix_0 9 rfl rfl)
theorem dX6_mix_10 : decode cX6_mix 10 = .ok (.ladd, 1) := dk_97 (dk_at dksX6_mix_0 10 rfl rfl)
theorem dX6_mix_11 : decode cX6_mix 11 = .ok (.putfield 295, 3) := dk_181 1 39 (dk_at dksX6_mix_0 11 rfl rfl)
theorem dX6_mix_14 : decode cX6_mix 14 = .ok (.return_, 1) := dk_177 (dk_at dksX6_mix_0 14 rfl rfl)
abbrev cX6_mixLines : ByteArray := prog_15_method_87_code
def yX6_mixLines : MethodName := ⟨RX6, "mixLines", "(II)V"⟩
def dkwX6_mixLines_3 : List UInt8 := [167, 255, 207, 177]
abbrev dktX6_mixLines_3 : List UInt8 := dkwX6_mixLines_3 ++ []
def dkwX6_mixLines_2 : List UInt8 := [104, 42, 180, 0, 28, 21, 4, 46, 96, 184, 0, 72, 3, 96, 46, 133, 182, 1, 42, 132, 4, 1]
abbrev dktX6_mixLines_2 : List UInt8 := dkwX6_mixLines_2 ++ dktX6_mixLines_3
def dkwX6_mixLines_1 : List UInt8 := [162, 0, 49, 42, 42, 180, 0, 28, 21, 4, 46, 133, 182, 1, 42, 42, 42, 180, 0, 7, 27, 16, 12, 28]
abbrev dktX6_mixLines_1 : List UInt8 := dkwX6_mixLines_1 ++ dktX6_mixLines_2
def dkwX6_mixLines_0 : List UInt8 := [42, 27, 28, 2, 42, 180, 0, 28, 182, 0, 95, 62, 42, 29, 133, 182, 1, 42, 3, 54, 4, 21, 4, 29]
abbrev dktX6_mixLines_0 : List UInt8 := dkwX6_mixLines_0 ++ dktX6_mixLines_1
theorem dksX6_mixLines_0 : cX6_mixLines.data.toList.drop 0 = dktX6_mixLines_0 := by decide +kernel
theorem dksX6_mixLines_1 : cX6_mixLines.data.toList.drop 24 = dktX6_mixLines_1 := dk_seg dksX6_mixLines_0 24 rfl rfl
theorem dksX6_mixLines_2 : cX6_mixLines.data.toList.drop 48 = dktX6_mixLines_2 := dk_seg dksX6_mixLines_1 24 rfl rfl
theorem dksX6_mixLines_3 : cX6_mixLines.data.toList.drop 70 = dktX6_mixLines_3 := dk_seg dksX6_mixLines_2 22 rfl rfl
theorem dX6_mixLines_0 : decode cX6_mixLines 0 = .ok (.aload_n 0, 1) := dk_42 (dk_at dksX6_mixLines_0 0 rfl rfl)
theorem dX6_mixLines_1 : decode cX6_mixLines 1 = .ok (.iload_n 1, 1) := dk_27 (dk_at dksX6_mixLines_0 1 rfl rfl)
theorem dX6_mixLines_2 : decode cX6_mixLines 2 = .ok (.iload_n 2, 1) := dk_28 (dk_at dksX6_mixLines_0 2 rfl rfl)
theorem dX6_mixLines_3 : decode cX6_mixLines 3 = .ok (.iconst (-1), 1) := dk_2 (dk_at dksX6_mixLines_0 3 rfl rfl)
theorem dX6_mixLines_4 : decode cX6_mixLines 4 = .ok (.aload_n 0, 1) := dk_42 (dk_at dksX6_mixLines_0 4 rfl rfl)
theorem dX6_mixLines_5 : decode cX6_mixLines 5 = .ok (.getfield 28, 3) := dk_180 0 28 (dk_at dksX6_mixLines_0 5 rfl rfl)
theorem dX6_mixLines_8 : decode cX6_mixLines 8 = .ok (.invokevirtual 95, 3) := dk_182 0 95 (dk_at dksX6_mixLines_0 8 rfl rfl)
theorem dX6_mixLines_11 : decode cX6_mixLines 11 = .ok (.istore_n 3, 1) := dk_62 (dk_at dksX6_mixLines_0 11 rfl rfl)
theorem dX6_mixLines_12 : decode cX6_mixLines 12 = .ok (.aload_n 0, 1) := dk_42 (dk_at dksX6_mixLines_0 12 rfl rfl)
theorem dX6_mixLines_13 : decode cX6_mixLines 13 = .ok (.iload_n 3, 1) := dk_29 (dk_at dksX6_mixLines_0 13 rfl rfl)
theorem dX6_mixLines_14 : decode cX6_mixLines 14 = .ok (.i2l, 1) := dk_133 (dk_at dksX6_mixLines_0 14 rfl rfl)
theorem dX6_mixLines_15 : decode cX6_mixLines 15 = .ok (.invokevirtual 298, 3) := dk_182 1 42 (dk_at dksX6_mixLines_0 15 rfl rfl)
theorem dX6_mixLines_18 : decode cX6_mixLines 18 = .ok (.iconst 0, 1) := dk_3 (dk_at dksX6_mixLines_0 18 rfl rfl)
theorem dX6_mixLines_19 : decode cX6_mixLines 19 = .ok (.istore 4, 2) := dk_54 4 (dk_at dksX6_mixLines_0 19 rfl rfl)
theorem dX6_mixLines_21 : decode cX6_mixLines 21 = .ok (.iload 4, 2) := dk_21 4 (dk_at dksX6_mixLines_0 21 rfl rfl)
theorem dX6_mixLines_23 : decode cX6_mixLines 23 = .ok (.iload_n 3, 1) := dk_29 (dk_at dksX6_mixLines_0 23 rfl rfl)
theorem dX6_mixLines_24 : decode cX6_mixLines 24 = .ok (.if_icmp .ge 49, 3) := dk_162 0 49 (dk_at dksX6_mixLines_1 0 rfl rfl)
theorem dX6_mixLines_27 : decode cX6_mixLines 27 = .ok (.aload_n 0, 1) := dk_42 (dk_at dksX6_mixLines_1 3 rfl rfl)
theorem dX6_mixLines_28 : decode cX6_mixLines 28 = .ok (.aload_n 0, 1) := dk_42 (dk_at dksX6_mixLines_1 4 rfl rfl)
theorem dX6_mixLines_29 : decode cX6_mixLines 29 = .ok (.getfield 28, 3) := dk_180 0 28 (dk_at dksX6_mixLines_1 5 rfl rfl)
theorem dX6_mixLines_32 : decode cX6_mixLines 32 = .ok (.iload 4, 2) := dk_21 4 (dk_at dksX6_mixLines_1 8 rfl rfl)
theorem dX6_mixLines_34 : decode cX6_mixLines 34 = .ok (.iaload, 1) := dk_46 (dk_at dksX6_mixLines_1 10 rfl rfl)
theorem dX6_mixLines_35 : decode cX6_mixLines 35 = .ok (.i2l, 1) := dk_133 (dk_at dksX6_mixLines_1 11 rfl rfl)
theorem dX6_mixLines_36 : decode cX6_mixLines 36 = .ok (.invokevirtual 298, 3) := dk_182 1 42 (dk_at dksX6_mixLines_1 12 rfl rfl)
theorem dX6_mixLines_39 : decode cX6_mixLines 39 = .ok (.aload_n 0, 1) := dk_42 (dk_at dksX6_mixLines_1 15 rfl rfl)
theorem dX6_mixLines_40 : decode cX6_mixLines 40 = .ok (.aload_n 0, 1) := dk_42 (dk_at dksX6_mixLines_1 16 rfl rfl)
theorem dX6_mixLines_41 : decode cX6_mixLines 41 = .ok (.getfield 7, 3) := dk_180 0 7 (dk_at dksX6_mixLines_1 17 rfl rfl)
theorem dX6_mixLines_44 : decode cX6_mixLines 44 = .ok (.iload_n 1, 1) := dk_27 (dk_at dksX6_mixLines_1 20 rfl rfl)
theorem dX6_mixLines_45 : decode cX6_mixLines 45 = .ok (.bipush 12, 2) := dk_16 12 (dk_at dksX6_mixLines_1 21 rfl rfl)
theorem dX6_mixLines_47 : decode cX6_mixLines 47 = .ok (.iload_n 2, 1) := dk_28 (dk_at dksX6_mixLines_1 23 rfl rfl)
theorem dX6_mixLines_48 : decode cX6_mixLines 48 = .ok (.imul, 1) := dk_104 (dk_at dksX6_mixLines_2 0 rfl rfl)
theorem dX6_mixLines_49 : decode cX6_mixLines 49 = .ok (.aload_n 0, 1) := dk_42 (dk_at dksX6_mixLines_2 1 rfl rfl)
theorem dX6_mixLines_50 : decode cX6_mixLines 50 = .ok (.getfield 28, 3) := dk_180 0 28 (dk_at dksX6_mixLines_2 2 rfl rfl)
theorem dX6_mixLines_53 : decode cX6_mixLines 53 = .ok (.iload 4, 2) := dk_21 4 (dk_at dksX6_mixLines_2 5 rfl rfl)
theorem dX6_mixLines_55 : decode cX6_mixLines 55 = .ok (.iaload, 1) := dk_46 (dk_at dksX6_mixLines_2 7 rfl rfl)
theorem dX6_mixLines_56 : decode cX6_mixLines 56 = .ok (.iadd, 1) := dk_96 (dk_at dksX6_mixLines_2 8 rfl rfl)
theorem dX6_mixLines_57 : decode cX6_mixLines 57 = .ok (.invokestatic 72, 3) := dk_184 0 72 (dk_at dksX6_mixLines_2 9 rfl rfl)
theorem dX6_mixLines_60 : decode cX6_mixLines 60 = .ok (.iconst 0, 1) := dk_3 (dk_at dksX6_mixLines_2 12 rfl rfl)
theorem dX6_mixLines_61 : decode cX6_mixLines 61 = .ok (.iadd, 1) := dk_96 (dk_at dksX6_mixLines_2 13 rfl rfl)
theorem dX6_mixLines_62 : decode cX6_mixLines 62 = .ok (.iaload, 1) := dk_46 (dk_at dksX6_mixLines_2 14 rfl rfl)
theorem dX6_mixLines_63 : decode cX6_mixLines 63 = .ok (.i2l, 1) := dk_133 (dk_at dksX6_mixLines_2 15 rfl rfl)
theorem dX6_mixLines_64 : decode cX6_mixLines 64 = .ok (.invokevirtual 298, 3) := dk_182 1 42 (dk_at dksX6_mixLines_2 16 rfl rfl)
theorem dX6_mixLines_67 : decode cX6_mixLines 67 = .ok (.iinc 4 1, 3) := dk_132 4 1 (dk_at dksX6_mixLines_2 19 rfl rfl)
theorem dX6_mixLines_70 : decode cX6_mixLines 70 = .ok (.goto (-49), 3) := dk_167 255 207 (dk_at dksX6_mixLines_3 0 rfl rfl)
theorem dX6_mixLines_73 : decode cX6_mixLines 73 = .ok (.return_, 1) := dk_177 (dk_at dksX6_mixLines_3 3 rfl rfl)
theorem q106 : (Jvm.Cond.initialized "SharedSheetModel") ∈ lw_all := lw_g (lw_at lw_m1 21 rfl) rfl
theorem q374 : (Jvm.Cond.selects "SharedSheetModel" ({ cls := "java/lang/Object", name := "getClass", desc := "()Ljava/lang/Class;" } : Jvm.MethodName) ({ cls := "java/lang/Object", name := "getClass", desc := "()Ljava/lang/Class;" } : Jvm.MethodName)) ∈ lw_all := lw_g (lw_at lw_m2 49 rfl) rfl
theorem q1933 : (Jvm.Cond.instantiable "SharedSheetModel" (31 : Nat)) ∈ lw_all := lw_g (lw_at lw_m8 168 rfl) rfl
theorem q1935 : (Jvm.Cond.instanceMethod ({ cls := "SharedSheetModel", name := "<init>", desc := "()V" } : Jvm.MethodName)) ∈ lw_all := lw_g (lw_at lw_m8 170 rfl) rfl
theorem q1936 : (Jvm.Cond.code ({ cls := "SharedSheetModel", name := "<init>", desc := "()V" } : Jvm.MethodName) prog_15_method_1_code (5 : Nat) (Option.none : Option Jvm.ClassFile.FieldType)) ∈ lw_all := lw_g (lw_at lw_m8 171 rfl) rfl
theorem q1937 : (Jvm.Cond.methodLink "SharedSheetModel" (1 : Nat) ({ cls := "java/lang/Object", name := "<init>", desc := "()V" } : Jvm.MethodName)) ∈ lw_all := lw_g (lw_at lw_m8 172 rfl) rfl
theorem q1938 : (Jvm.Cond.methodLink "SharedSheetModel" (72 : Nat) ({ cls := "SharedSheetModel", name := "lineAt", desc := "(II)I" } : Jvm.MethodName)) ∈ lw_all := lw_g (lw_at lw_m8 173 rfl) rfl
theorem q1939 : (Jvm.Cond.static ({ cls := "SharedSheetModel", name := "lineAt", desc := "(II)I" } : Jvm.MethodName)) ∈ lw_all := lw_g (lw_at lw_m8 174 rfl) rfl
theorem q1940 : (Jvm.Cond.code ({ cls := "SharedSheetModel", name := "lineAt", desc := "(II)I" } : Jvm.MethodName) prog_15_method_9_code (2 : Nat) (Option.some Jvm.ClassFile.FieldType.int)) ∈ lw_all := lw_g (lw_at lw_m8 175 rfl) rfl
theorem q1941 : (Jvm.Cond.fieldLink "SharedSheetModel" (7 : Nat) "SharedSheetModel" "s" "[I") ∈ lw_all := lw_g (lw_at lw_m8 176 rfl) rfl
theorem q1942 : (Jvm.Cond.fieldLink "SharedSheetModel" (13 : Nat) "SharedSheetModel" "past" "[I") ∈ lw_all := lw_g (lw_at lw_m8 177 rfl) rfl
theorem q1943 : (Jvm.Cond.fieldLink "SharedSheetModel" (16 : Nat) "SharedSheetModel" "aside" "[I") ∈ lw_all := lw_g (lw_at lw_m8 178 rfl) rfl
theorem q1944 : (Jvm.Cond.fieldLink "SharedSheetModel" (80 : Nat) "SharedSheetModel" "pasts" "I") ∈ lw_all := lw_g (lw_at lw_m8 179 rfl) rfl
theorem q1945 : (Jvm.Cond.fieldLink "SharedSheetModel" (19 : Nat) "SharedSheetModel" "text" "[I") ∈ lw_all := lw_g (lw_at lw_m8 180 rfl) rfl
theorem q1946 : (Jvm.Cond.fieldLink "SharedSheetModel" (176 : Nat) "SharedSheetModel" "typed" "I") ∈ lw_all := lw_g (lw_at lw_m8 181 rfl) rfl
theorem q1947 : (Jvm.Cond.fieldLink "SharedSheetModel" (76 : Nat) "SharedSheetModel" "thrown" "I") ∈ lw_all := lw_g (lw_at lw_m8 182 rfl) rfl
theorem q1948 : (Jvm.Cond.fieldLink "SharedSheetModel" (22 : Nat) "SharedSheetModel" "rows" "[I") ∈ lw_all := lw_g (lw_at lw_m8 183 rfl) rfl
theorem q1949 : (Jvm.Cond.fieldLink "SharedSheetModel" (25 : Nat) "SharedSheetModel" "columns" "[I") ∈ lw_all := lw_g (lw_at lw_m8 184 rfl) rfl
theorem q1950 : (Jvm.Cond.fieldLink "SharedSheetModel" (99 : Nat) "SharedSheetModel" "rowMany" "I") ∈ lw_all := lw_g (lw_at lw_m8 185 rfl) rfl
theorem q1951 : (Jvm.Cond.fieldLink "SharedSheetModel" (102 : Nat) "SharedSheetModel" "columnMany" "I") ∈ lw_all := lw_g (lw_at lw_m8 186 rfl) rfl
theorem q1952 : (Jvm.Cond.fieldLink "SharedSheetModel" (28 : Nat) "SharedSheetModel" "some" "[I") ∈ lw_all := lw_g (lw_at lw_m8 187 rfl) rfl
theorem q1953 : (Jvm.Cond.fieldLink "SharedSheetModel" (31 : Nat) "SharedSheetModel" "read" "[I") ∈ lw_all := lw_g (lw_at lw_m8 188 rfl) rfl
theorem q1954 : (Jvm.Cond.fieldLink "SharedSheetModel" (170 : Nat) "SharedSheetModel" "reads" "I") ∈ lw_all := lw_g (lw_at lw_m8 189 rfl) rfl
theorem q1955 : (Jvm.Cond.fieldLink "SharedSheetModel" (173 : Nat) "SharedSheetModel" "at" "I") ∈ lw_all := lw_g (lw_at lw_m8 190 rfl) rfl
theorem q1956 : (Jvm.Cond.fieldLink "SharedSheetModel" (34 : Nat) "SharedSheetModel" "formulas" "[I") ∈ lw_all := lw_g (lw_at lw_m8 191 rfl) rfl
theorem q1957 : (Jvm.Cond.fieldLink "SharedSheetModel" (211 : Nat) "SharedSheetModel" "formulaMany" "I") ∈ lw_all := lw_g (lw_at lw_m8 192 rfl) rfl
theorem q1958 : (Jvm.Cond.fieldLink "SharedSheetModel" (37 : Nat) "SharedSheetModel" "formulaAt" "[I") ∈ lw_all := lw_g (lw_at lw_m8 193 rfl) rfl
theorem q1959 : (Jvm.Cond.fieldLink "SharedSheetModel" (40 : Nat) "SharedSheetModel" "values" "[J") ∈ lw_all := lw_g (lw_at lw_m8 194 rfl) rfl
theorem q1960 : (Jvm.Cond.fieldLink "SharedSheetModel" (44 : Nat) "SharedSheetModel" "errors" "[I") ∈ lw_all := lw_g (lw_at lw_m8 195 rfl) rfl
theorem q1961 : (Jvm.Cond.fieldLink "SharedSheetModel" (47 : Nat) "SharedSheetModel" "refers" "[Z") ∈ lw_all := lw_g (lw_at lw_m8 196 rfl) rfl
theorem q1962 : (Jvm.Cond.fieldLink "SharedSheetModel" (51 : Nat) "SharedSheetModel" "cyclic" "[Z") ∈ lw_all := lw_g (lw_at lw_m8 197 rfl) rfl
theorem q1963 : (Jvm.Cond.fieldLink "SharedSheetModel" (54 : Nat) "SharedSheetModel" "known" "[Z") ∈ lw_all := lw_g (lw_at lw_m8 198 rfl) rfl
theorem q1964 : (Jvm.Cond.fieldLink "SharedSheetModel" (57 : Nat) "SharedSheetModel" "met" "[Z") ∈ lw_all := lw_g (lw_at lw_m8 199 rfl) rfl
theorem q1965 : (Jvm.Cond.fieldLink "SharedSheetModel" (60 : Nat) "SharedSheetModel" "waiting" "[I") ∈ lw_all := lw_g (lw_at lw_m8 200 rfl) rfl
theorem q1966 : (Jvm.Cond.fieldLink "SharedSheetModel" (237 : Nat) "SharedSheetModel" "error" "I") ∈ lw_all := lw_g (lw_at lw_m8 201 rfl) rfl
theorem q1967 : (Jvm.Cond.fieldLink "SharedSheetModel" (240 : Nat) "SharedSheetModel" "factor" "J") ∈ lw_all := lw_g (lw_at lw_m8 202 rfl) rfl
theorem q1968 : (Jvm.Cond.fieldLink "SharedSheetModel" (63 : Nat) "SharedSheetModel" "ordered" "[I") ∈ lw_all := lw_g (lw_at lw_m8 203 rfl) rfl
theorem q1969 : (Jvm.Cond.fieldLink "SharedSheetModel" (66 : Nat) "SharedSheetModel" "picture" "[J") ∈ lw_all := lw_g (lw_at lw_m8 204 rfl) rfl
theorem q1970 : (Jvm.Cond.fieldLink "SharedSheetModel" (69 : Nat) "SharedSheetModel" "first" "[J") ∈ lw_all := lw_g (lw_at lw_m8 205 rfl) rfl
theorem q1971 : (Jvm.Cond.fieldLink "SharedSheetModel" (295 : Nat) "SharedSheetModel" "h" "J") ∈ lw_all := lw_g (lw_at lw_m8 206 rfl) rfl
theorem q1972 : (Jvm.Cond.laysFinal "SharedSheetModel" "SharedSheetModel" "s" "[I") ∈ lw_all := lw_g (lw_at lw_m8 207 rfl) rfl
theorem q1973 : (Jvm.Cond.soleField "SharedSheetModel" "s") ∈ lw_all := lw_g (lw_at lw_m8 208 rfl) rfl
theorem q1974 : (Jvm.Cond.laysFinal "SharedSheetModel" "SharedSheetModel" "past" "[I") ∈ lw_all := lw_g (lw_at lw_m8 209 rfl) rfl
theorem q1975 : (Jvm.Cond.soleField "SharedSheetModel" "past") ∈ lw_all := lw_g (lw_at lw_m8 210 rfl) rfl
theorem q1976 : (Jvm.Cond.laysFinal "SharedSheetModel" "SharedSheetModel" "aside" "[I") ∈ lw_all := lw_g (lw_at lw_m8 211 rfl) rfl
theorem q1977 : (Jvm.Cond.soleField "SharedSheetModel" "aside") ∈ lw_all := lw_g (lw_at lw_m8 212 rfl) rfl
theorem q1978 : (Jvm.Cond.lays "SharedSheetModel" "SharedSheetModel" "pasts" "I") ∈ lw_all := lw_g (lw_at lw_m8 213 rfl) rfl
theorem q1979 : (Jvm.Cond.soleField "SharedSheetModel" "pasts") ∈ lw_all := lw_g (lw_at lw_m8 214 rfl) rfl
theorem q1980 : (Jvm.Cond.laysFinal "SharedSheetModel" "SharedSheetModel" "text" "[I") ∈ lw_all := lw_g (lw_at lw_m8 215 rfl) rfl
theorem q1981 : (Jvm.Cond.soleField "SharedSheetModel" "text") ∈ lw_all := lw_g (lw_at lw_m8 216 rfl) rfl
theorem q1982 : (Jvm.Cond.lays "SharedSheetModel" "SharedSheetModel" "typed" "I") ∈ lw_all := lw_g (lw_at lw_m8 217 rfl) rfl
theorem q1983 : (Jvm.Cond.soleField "SharedSheetModel" "typed") ∈ lw_all := lw_g (lw_at lw_m8 218 rfl) rfl
theorem q1984 : (Jvm.Cond.lays "SharedSheetModel" "SharedSheetModel" "thrown" "I") ∈ lw_all := lw_g (lw_at lw_m8 219 rfl) rfl
theorem q1985 : (Jvm.Cond.soleField "SharedSheetModel" "thrown") ∈ lw_all := lw_g (lw_at lw_m8 220 rfl) rfl
theorem q1986 : (Jvm.Cond.laysFinal "SharedSheetModel" "SharedSheetModel" "rows" "[I") ∈ lw_all := lw_g (lw_at lw_m8 221 rfl) rfl
theorem q1987 : (Jvm.Cond.soleField "SharedSheetModel" "rows") ∈ lw_all := lw_g (lw_at lw_m8 222 rfl) rfl
theorem q1988 : (Jvm.Cond.laysFinal "SharedSheetModel" "SharedSheetModel" "columns" "[I") ∈ lw_all := lw_g (lw_at lw_m8 223 rfl) rfl
theorem q1989 : (Jvm.Cond.soleField "SharedSheetModel" "columns") ∈ lw_all := lw_g (lw_at lw_m8 224 rfl) rfl
theorem q1990 : (Jvm.Cond.lays "SharedSheetModel" "SharedSheetModel" "rowMany" "I") ∈ lw_all := lw_g (lw_at lw_m8 225 rfl) rfl
theorem q1991 : (Jvm.Cond.soleField "SharedSheetModel" "rowMany") ∈ lw_all := lw_g (lw_at lw_m8 226 rfl) rfl
theorem q1992 : (Jvm.Cond.lays "SharedSheetModel" "SharedSheetModel" "columnMany" "I") ∈ lw_all := lw_g (lw_at lw_m8 227 rfl) rfl
theorem q1993 : (Jvm.Cond.soleField "SharedSheetModel" "columnMany") ∈ lw_all := lw_g (lw_at lw_m8 228 rfl) rfl
theorem q1994 : (Jvm.Cond.laysFinal "SharedSheetModel" "SharedSheetModel" "some" "[I") ∈ lw_all := lw_g (lw_at lw_m8 229 rfl) rfl
theorem q1995 : (Jvm.Cond.soleField "SharedSheetModel" "some") ∈ lw_all := lw_g (lw_at lw_m8 230 rfl) rfl
theorem q1996 : (Jvm.Cond.laysFinal "SharedSheetModel" "SharedSheetModel" "read" "[I") ∈ lw_all := lw_g (lw_at lw_m8 231 rfl) rfl
theorem q1997 : (Jvm.Cond.soleField "SharedSheetModel" "read") ∈ lw_all := lw_g (lw_at lw_m8 232 rfl) rfl
theorem q1998 : (Jvm.Cond.lays "SharedSheetModel" "SharedSheetModel" "reads" "I") ∈ lw_all := lw_g (lw_at lw_m8 233 rfl) rfl
theorem q1999 : (Jvm.Cond.soleField "SharedSheetModel" "reads") ∈ lw_all := lw_g (lw_at lw_m8 234 rfl) rfl
theorem q2000 : (Jvm.Cond.lays "SharedSheetModel" "SharedSheetModel" "at" "I") ∈ lw_all := lw_g (lw_at lw_m8 235 rfl) rfl
theorem q2001 : (Jvm.Cond.soleField "SharedSheetModel" "at") ∈ lw_all := lw_g (lw_at lw_m8 236 rfl) rfl
theorem q2002 : (Jvm.Cond.laysFinal "SharedSheetModel" "SharedSheetModel" "formulas" "[I") ∈ lw_all := lw_g (lw_at lw_m8 237 rfl) rfl
theorem q2003 : (Jvm.Cond.soleField "SharedSheetModel" "formulas") ∈ lw_all := lw_g (lw_at lw_m8 238 rfl) rfl
theorem q2004 : (Jvm.Cond.lays "SharedSheetModel" "SharedSheetModel" "formulaMany" "I") ∈ lw_all := lw_g (lw_at lw_m8 239 rfl) rfl
theorem q2005 : (Jvm.Cond.soleField "SharedSheetModel" "formulaMany") ∈ lw_all := lw_g (lw_at lw_m9 0 rfl) rfl
theorem q2006 : (Jvm.Cond.laysFinal "SharedSheetModel" "SharedSheetModel" "formulaAt" "[I") ∈ lw_all := lw_g (lw_at lw_m9 1 rfl) rfl
theorem q2007 : (Jvm.Cond.soleField "SharedSheetModel" "formulaAt") ∈ lw_all := lw_g (lw_at lw_m9 2 rfl) rfl
theorem q2008 : (Jvm.Cond.laysFinal "SharedSheetModel" "SharedSheetModel" "values" "[J") ∈ lw_all := lw_g (lw_at lw_m9 3 rfl) rfl
theorem q2009 : (Jvm.Cond.soleField "SharedSheetModel" "values") ∈ lw_all := lw_g (lw_at lw_m9 4 rfl) rfl
theorem q2010 : (Jvm.Cond.laysFinal "SharedSheetModel" "SharedSheetModel" "errors" "[I") ∈ lw_all := lw_g (lw_at lw_m9 5 rfl) rfl
theorem q2011 : (Jvm.Cond.soleField "SharedSheetModel" "errors") ∈ lw_all := lw_g (lw_at lw_m9 6 rfl) rfl
theorem q2012 : (Jvm.Cond.laysFinal "SharedSheetModel" "SharedSheetModel" "refers" "[Z") ∈ lw_all := lw_g (lw_at lw_m9 7 rfl) rfl
theorem q2013 : (Jvm.Cond.soleField "SharedSheetModel" "refers") ∈ lw_all := lw_g (lw_at lw_m9 8 rfl) rfl
theorem q2014 : (Jvm.Cond.laysFinal "SharedSheetModel" "SharedSheetModel" "cyclic" "[Z") ∈ lw_all := lw_g (lw_at lw_m9 9 rfl) rfl
theorem q2015 : (Jvm.Cond.soleField "SharedSheetModel" "cyclic") ∈ lw_all := lw_g (lw_at lw_m9 10 rfl) rfl
theorem q2016 : (Jvm.Cond.laysFinal "SharedSheetModel" "SharedSheetModel" "known" "[Z") ∈ lw_all := lw_g (lw_at lw_m9 11 rfl) rfl
theorem q2017 : (Jvm.Cond.soleField "SharedSheetModel" "known") ∈ lw_all := lw_g (lw_at lw_m9 12 rfl) rfl
theorem q2018 : (Jvm.Cond.laysFinal "SharedSheetModel" "SharedSheetModel" "met" "[Z") ∈ lw_all := lw_g (lw_at lw_m9 13 rfl) rfl
theorem q2019 : (Jvm.Cond.soleField "SharedSheetModel" "met") ∈ lw_all := lw_g (lw_at lw_m9 14 rfl) rfl
theorem q2020 : (Jvm.Cond.laysFinal "SharedSheetModel" "SharedSheetModel" "waiting" "[I") ∈ lw_all := lw_g (lw_at lw_m9 15 rfl) rfl
theorem q2021 : (Jvm.Cond.soleField "SharedSheetModel" "waiting") ∈ lw_all := lw_g (lw_at lw_m9 16 rfl) rfl
theorem q2022 : (Jvm.Cond.lays "SharedSheetModel" "SharedSheetModel" "error" "I") ∈ lw_all := lw_g (lw_at lw_m9 17 rfl) rfl
theorem q2023 : (Jvm.Cond.soleField "SharedSheetModel" "error") ∈ lw_all := lw_g (lw_at lw_m9 18 rfl) rfl
theorem q2024 : (Jvm.Cond.lays "SharedSheetModel" "SharedSheetModel" "factor" "J") ∈ lw_all := lw_g (lw_at lw_m9 19 rfl) rfl
theorem q2025 : (Jvm.Cond.soleField "SharedSheetModel" "factor") ∈ lw_all := lw_g (lw_at lw_m9 20 rfl) rfl
theorem q2026 : (Jvm.Cond.laysFinal "SharedSheetModel" "SharedSheetModel" "ordered" "[I") ∈ lw_all := lw_g (lw_at lw_m9 21 rfl) rfl
theorem q2027 : (Jvm.Cond.soleField "SharedSheetModel" "ordered") ∈ lw_all := lw_g (lw_at lw_m9 22 rfl) rfl
theorem q2028 : (Jvm.Cond.laysFinal "SharedSheetModel" "SharedSheetModel" "picture" "[J") ∈ lw_all := lw_g (lw_at lw_m9 23 rfl) rfl
theorem q2029 : (Jvm.Cond.soleField "SharedSheetModel" "picture") ∈ lw_all := lw_g (lw_at lw_m9 24 rfl) rfl
theorem q2030 : (Jvm.Cond.laysFinal "SharedSheetModel" "SharedSheetModel" "first" "[J") ∈ lw_all := lw_g (lw_at lw_m9 25 rfl) rfl
theorem q2031 : (Jvm.Cond.soleField "SharedSheetModel" "first") ∈ lw_all := lw_g (lw_at lw_m9 26 rfl) rfl
theorem q2032 : (Jvm.Cond.lays "SharedSheetModel" "SharedSheetModel" "h" "J") ∈ lw_all := lw_g (lw_at lw_m9 27 rfl) rfl
theorem q2033 : (Jvm.Cond.soleField "SharedSheetModel" "h") ∈ lw_all := lw_g (lw_at lw_m9 28 rfl) rfl
theorem q2034 : (Jvm.Cond.superclass "SharedSheetModel" "java/lang/Object") ∈ lw_all := lw_g (lw_at lw_m9 29 rfl) rfl
theorem q2036 : (Jvm.Cond.instanceMethod ({ cls := "SharedSheetModel", name := "thrown", desc := "()I" } : Jvm.MethodName)) ∈ lw_all := lw_g (lw_at lw_m9 31 rfl) rfl
theorem q2037 : (Jvm.Cond.selects "SharedSheetModel" ({ cls := "SharedSheetModel", name := "thrown", desc := "()I" } : Jvm.MethodName) ({ cls := "SharedSheetModel", name := "thrown", desc := "()I" } : Jvm.MethodName)) ∈ lw_all := lw_g (lw_at lw_m9 32 rfl) rfl
theorem q2038 : (Jvm.Cond.code ({ cls := "SharedSheetModel", name := "thrown", desc := "()I" } : Jvm.MethodName) prog_15_method_2_code (1 : Nat) (Option.some Jvm.ClassFile.FieldType.int)) ∈ lw_all := lw_g (lw_at lw_m9 33 rfl) rfl
theorem q2040 : (Jvm.Cond.instanceMethod ({ cls := "SharedSheetModel", name := "make", desc := "(IZI)I" } : Jvm.MethodName)) ∈ lw_all := lw_g (lw_at lw_m9 35 rfl) rfl
theorem q2041 : (Jvm.Cond.selects "SharedSheetModel" ({ cls := "SharedSheetModel", name := "make", desc := "(IZI)I" } : Jvm.MethodName) ({ cls := "SharedSheetModel", name := "make", desc := "(IZI)I" } : Jvm.MethodName)) ∈ lw_all := lw_g (lw_at lw_m9 36 rfl) rfl
theorem q2042 : (Jvm.Cond.code ({ cls := "SharedSheetModel", name := "make", desc := "(IZI)I" } : Jvm.MethodName) prog_15_method_23_code (9 : Nat) (Option.some Jvm.ClassFile.FieldType.int)) ∈ lw_all := lw_g (lw_at lw_m9 37 rfl) rfl
theorem q2043 : (Jvm.Cond.methodLink "SharedSheetModel" (123 : Nat) ({ cls := "SharedSheetModel", name := "kindOf", desc := "(Z)I" } : Jvm.MethodName)) ∈ lw_all := lw_g (lw_at lw_m9 38 rfl) rfl
theorem q2044 : (Jvm.Cond.static ({ cls := "SharedSheetModel", name := "kindOf", desc := "(Z)I" } : Jvm.MethodName)) ∈ lw_all := lw_g (lw_at lw_m9 39 rfl) rfl
theorem q2045 : (Jvm.Cond.code ({ cls := "SharedSheetModel", name := "kindOf", desc := "(Z)I" } : Jvm.MethodName) prog_15_method_22_code (1 : Nat) (Option.some Jvm.ClassFile.FieldType.int)) ∈ lw_all := lw_g (lw_at lw_m9 40 rfl) rfl
theorem q2046 : (Jvm.Cond.methodLink "SharedSheetModel" (127 : Nat) ({ cls := "SharedSheetModel", name := "isReplica", desc := "(I)Z" } : Jvm.MethodName)) ∈ lw_all := lw_g (lw_at lw_m9 41 rfl) rfl
theorem q2047 : (Jvm.Cond.static ({ cls := "SharedSheetModel", name := "isReplica", desc := "(I)Z" } : Jvm.MethodName)) ∈ lw_all := lw_g (lw_at lw_m9 42 rfl) rfl
theorem q2048 : (Jvm.Cond.code ({ cls := "SharedSheetModel", name := "isReplica", desc := "(I)Z" } : Jvm.MethodName) prog_15_method_8_code (1 : Nat) (Option.some Jvm.ClassFile.FieldType.boolean)) ∈ lw_all := lw_g (lw_at lw_m9 43 rfl) rfl
theorem q2049 : (Jvm.Cond.methodLink "SharedSheetModel" (87 : Nat) ({ cls := "SharedSheetModel", name := "in", desc := "(III)Z" } : Jvm.MethodName)) ∈ lw_all := lw_g (lw_at lw_m9 44 rfl) rfl
theorem q2050 : (Jvm.Cond.static ({ cls := "SharedSheetModel", name := "in", desc := "(III)Z" } : Jvm.MethodName)) ∈ lw_all := lw_g (lw_at lw_m9 45 rfl) rfl
theorem q2051 : (Jvm.Cond.code ({ cls := "SharedSheetModel", name := "in", desc := "(III)Z" } : Jvm.MethodName) prog_15_method_3_code (3 : Nat) (Option.some Jvm.ClassFile.FieldType.boolean)) ∈ lw_all := lw_g (lw_at lw_m9 46 rfl) rfl
theorem q2052 : (Jvm.Cond.methodLink "SharedSheetModel" (131 : Nat) ({ cls := "SharedSheetModel", name := "fails", desc := "(I)I" } : Jvm.MethodName)) ∈ lw_all := lw_g (lw_at lw_m9 47 rfl) rfl
theorem q2053 : (Jvm.Cond.privateMethod ({ cls := "SharedSheetModel", name := "fails", desc := "(I)I" } : Jvm.MethodName)) ∈ lw_tbl := lw_at lw_m9 48 rfl
theorem q2054 : (Jvm.Cond.instanceMethod ({ cls := "SharedSheetModel", name := "fails", desc := "(I)I" } : Jvm.MethodName)) ∈ lw_all := lw_g (lw_at lw_m9 49 rfl) rfl
theorem q2055 : (Jvm.Cond.code ({ cls := "SharedSheetModel", name := "fails", desc := "(I)I" } : Jvm.MethodName) prog_15_method_4_code (2 : Nat) (Option.some Jvm.ClassFile.FieldType.int)) ∈ lw_all := lw_g (lw_at lw_m9 50 rfl) rfl
theorem q2056 : (Jvm.Cond.methodLink "SharedSheetModel" (95 : Nat) ({ cls := "SharedSheetModel", name := "lays", desc := "(III[I)I" } : Jvm.MethodName)) ∈ lw_all := lw_g (lw_at lw_m9 51 rfl) rfl
theorem q2057 : (Jvm.Cond.privateMethod ({ cls := "SharedSheetModel", name := "lays", desc := "(III[I)I" } : Jvm.MethodName)) ∈ lw_tbl := lw_at lw_m9 52 rfl
theorem q2058 : (Jvm.Cond.instanceMethod ({ cls := "SharedSheetModel", name := "lays", desc := "(III[I)I" } : Jvm.MethodName)) ∈ lw_all := lw_g (lw_at lw_m9 53 rfl) rfl
theorem q2059 : (Jvm.Cond.code ({ cls := "SharedSheetModel", name := "lays", desc := "(III[I)I" } : Jvm.MethodName) prog_15_method_14_code (9 : Nat) (Option.some Jvm.ClassFile.FieldType.int)) ∈ lw_all := lw_g (lw_at lw_m9 54 rfl) rfl
theorem q2060 : (Jvm.Cond.methodLink "SharedSheetModel" (91 : Nat) ({ cls := "SharedSheetModel", name := "isShown", desc := "(II)Z" } : Jvm.MethodName)) ∈ lw_all := lw_g (lw_at lw_m9 55 rfl) rfl
theorem q2061 : (Jvm.Cond.privateMethod ({ cls := "SharedSheetModel", name := "isShown", desc := "(II)Z" } : Jvm.MethodName)) ∈ lw_tbl := lw_at lw_m9 56 rfl
theorem q2062 : (Jvm.Cond.instanceMethod ({ cls := "SharedSheetModel", name := "isShown", desc := "(II)Z" } : Jvm.MethodName)) ∈ lw_all := lw_g (lw_at lw_m9 57 rfl) rfl
theorem q2063 : (Jvm.Cond.code ({ cls := "SharedSheetModel", name := "isShown", desc := "(II)Z" } : Jvm.MethodName) prog_15_method_13_code (3 : Nat) (Option.some Jvm.ClassFile.FieldType.boolean)) ∈ lw_all := lw_g (lw_at lw_m9 58 rfl) rfl
theorem q2064 : (Jvm.Cond.methodLink "SharedSheetModel" (134 : Nat) ({ cls := "SharedSheetModel", name := "between", desc := "(IIII)I" } : Jvm.MethodName)) ∈ lw_all := lw_g (lw_at lw_m9 59 rfl) rfl
theorem q2065 : (Jvm.Cond.privateMethod ({ cls := "SharedSheetModel", name := "between", desc := "(IIII)I" } : Jvm.MethodName)) ∈ lw_tbl := lw_at lw_m9 60 rfl
theorem q2066 : (Jvm.Cond.instanceMethod ({ cls := "SharedSheetModel", name := "between", desc := "(IIII)I" } : Jvm.MethodName)) ∈ lw_all := lw_g (lw_at lw_m9 61 rfl) rfl
theorem q2067 : (Jvm.Cond.code ({ cls := "SharedSheetModel", name := "between", desc := "(IIII)I" } : Jvm.MethodName) prog_15_method_17_code (8 : Nat) (Option.some Jvm.ClassFile.FieldType.int)) ∈ lw_all := lw_g (lw_at lw_m9 62 rfl) rfl
theorem q2068 : (Jvm.Cond.methodLink "SharedSheetModel" (108 : Nat) ({ cls := "SharedSheetModel", name := "of", desc := "(II)I" } : Jvm.MethodName)) ∈ lw_all := lw_g (lw_at lw_m9 63 rfl) rfl
theorem q2069 : (Jvm.Cond.privateMethod ({ cls := "SharedSheetModel", name := "of", desc := "(II)I" } : Jvm.MethodName)) ∈ lw_tbl := lw_at lw_m9 64 rfl
theorem q2070 : (Jvm.Cond.instanceMethod ({ cls := "SharedSheetModel", name := "of", desc := "(II)I" } : Jvm.MethodName)) ∈ lw_all := lw_g (lw_at lw_m9 65 rfl) rfl
theorem q2071 : (Jvm.Cond.code ({ cls := "SharedSheetModel", name := "of", desc := "(II)I" } : Jvm.MethodName) prog_15_method_10_code (3 : Nat) (Option.some Jvm.ClassFile.FieldType.int)) ∈ lw_all := lw_g (lw_at lw_m9 66 rfl) rfl
theorem q2072 : (Jvm.Cond.methodLink "SharedSheetModel" (138 : Nat) ({ cls := "SharedSheetModel", name := "isFull", desc := "(I)Z" } : Jvm.MethodName)) ∈ lw_all := lw_g (lw_at lw_m9 67 rfl) rfl
theorem q2073 : (Jvm.Cond.privateMethod ({ cls := "SharedSheetModel", name := "isFull", desc := "(I)Z" } : Jvm.MethodName)) ∈ lw_tbl := lw_at lw_m9 68 rfl
theorem q2074 : (Jvm.Cond.instanceMethod ({ cls := "SharedSheetModel", name := "isFull", desc := "(I)Z" } : Jvm.MethodName)) ∈ lw_all := lw_g (lw_at lw_m9 69 rfl) rfl
theorem q2075 : (Jvm.Cond.code ({ cls := "SharedSheetModel", name := "isFull", desc := "(I)Z" } : Jvm.MethodName) prog_15_method_19_code (2 : Nat) (Option.some Jvm.ClassFile.FieldType.boolean)) ∈ lw_all := lw_g (lw_at lw_m9 70 rfl) rfl
theorem q2076 : (Jvm.Cond.methodLink "SharedSheetModel" (141 : Nat) ({ cls := "SharedSheetModel", name := "hold", desc := "()V" } : Jvm.MethodName)) ∈ lw_all := lw_g (lw_at lw_m9 71 rfl) rfl
theorem q2077 : (Jvm.Cond.privateMethod ({ cls := "SharedSheetModel", name := "hold", desc := "()V" } : Jvm.MethodName)) ∈ lw_tbl := lw_at lw_m9 72 rfl
theorem q2078 : (Jvm.Cond.instanceMethod ({ cls := "SharedSheetModel", name := "hold", desc := "()V" } : Jvm.MethodName)) ∈ lw_all := lw_g (lw_at lw_m9 73 rfl) rfl
theorem q2079 : (Jvm.Cond.code ({ cls := "SharedSheetModel", name := "hold", desc := "()V" } : Jvm.MethodName) prog_15_method_6_code (2 : Nat) (Option.none : Option Jvm.ClassFile.FieldType)) ∈ lw_all := lw_g (lw_at lw_m9 74 rfl) rfl
theorem q2080 : (Jvm.Cond.methodLink "SharedSheetModel" (115 : Nat) ({ cls := "SharedSheetModel", name := "puts", desc := "(III)V" } : Jvm.MethodName)) ∈ lw_all := lw_g (lw_at lw_m9 75 rfl) rfl
theorem q2081 : (Jvm.Cond.privateMethod ({ cls := "SharedSheetModel", name := "puts", desc := "(III)V" } : Jvm.MethodName)) ∈ lw_tbl := lw_at lw_m9 76 rfl
theorem q2082 : (Jvm.Cond.instanceMethod ({ cls := "SharedSheetModel", name := "puts", desc := "(III)V" } : Jvm.MethodName)) ∈ lw_all := lw_g (lw_at lw_m9 77 rfl) rfl
theorem q2083 : (Jvm.Cond.code ({ cls := "SharedSheetModel", name := "puts", desc := "(III)V" } : Jvm.MethodName) prog_15_method_11_code (4 : Nat) (Option.none : Option Jvm.ClassFile.FieldType)) ∈ lw_all := lw_g (lw_at lw_m9 78 rfl) rfl
theorem q2084 : (Jvm.Cond.methodLink "SharedSheetModel" (144 : Nat) ({ cls := "SharedSheetModel", name := "makes", desc := "(IIIII)V" } : Jvm.MethodName)) ∈ lw_all := lw_g (lw_at lw_m9 79 rfl) rfl
theorem q2085 : (Jvm.Cond.privateMethod ({ cls := "SharedSheetModel", name := "makes", desc := "(IIIII)V" } : Jvm.MethodName)) ∈ lw_tbl := lw_at lw_m9 80 rfl
theorem q2086 : (Jvm.Cond.instanceMethod ({ cls := "SharedSheetModel", name := "makes", desc := "(IIIII)V" } : Jvm.MethodName)) ∈ lw_all := lw_g (lw_at lw_m9 81 rfl) rfl
theorem q2087 : (Jvm.Cond.code ({ cls := "SharedSheetModel", name := "makes", desc := "(IIIII)V" } : Jvm.MethodName) prog_15_method_21_code (8 : Nat) (Option.none : Option Jvm.ClassFile.FieldType)) ∈ lw_all := lw_g (lw_at lw_m9 82 rfl) rfl
theorem q2088 : (Jvm.Cond.methodLink "SharedSheetModel" (119 : Nat) ({ cls := "SharedSheetModel", name := "carries", desc := "(II)V" } : Jvm.MethodName)) ∈ lw_all := lw_g (lw_at lw_m9 83 rfl) rfl
theorem q2089 : (Jvm.Cond.privateMethod ({ cls := "SharedSheetModel", name := "carries", desc := "(II)V" } : Jvm.MethodName)) ∈ lw_tbl := lw_at lw_m9 84 rfl
theorem q2090 : (Jvm.Cond.instanceMethod ({ cls := "SharedSheetModel", name := "carries", desc := "(II)V" } : Jvm.MethodName)) ∈ lw_all := lw_g (lw_at lw_m9 85 rfl) rfl
theorem q2091 : (Jvm.Cond.code ({ cls := "SharedSheetModel", name := "carries", desc := "(II)V" } : Jvm.MethodName) prog_15_method_20_code (7 : Nat) (Option.none : Option Jvm.ClassFile.FieldType)) ∈ lw_all := lw_g (lw_at lw_m9 86 rfl) rfl
theorem q2092 : (Jvm.Cond.methodLink "SharedSheetModel" (105 : Nat) ({ cls := "SharedSheetModel", name := "op", desc := "(II)I" } : Jvm.MethodName)) ∈ lw_all := lw_g (lw_at lw_m9 87 rfl) rfl
theorem q2093 : (Jvm.Cond.privateMethod ({ cls := "SharedSheetModel", name := "op", desc := "(II)I" } : Jvm.MethodName)) ∈ lw_tbl := lw_at lw_m9 88 rfl
theorem q2094 : (Jvm.Cond.instanceMethod ({ cls := "SharedSheetModel", name := "op", desc := "(II)I" } : Jvm.MethodName)) ∈ lw_all := lw_g (lw_at lw_m9 89 rfl) rfl
theorem q2095 : (Jvm.Cond.code ({ cls := "SharedSheetModel", name := "op", desc := "(II)I" } : Jvm.MethodName) prog_15_method_12_code (3 : Nat) (Option.some Jvm.ClassFile.FieldType.int)) ∈ lw_all := lw_g (lw_at lw_m9 90 rfl) rfl
theorem q2096 : (Jvm.Cond.methodLink "SharedSheetModel" (111 : Nat) ({ cls := "SharedSheetModel", name := "isLater", desc := "(IIII)Z" } : Jvm.MethodName)) ∈ lw_all := lw_g (lw_at lw_m9 91 rfl) rfl
theorem q2097 : (Jvm.Cond.static ({ cls := "SharedSheetModel", name := "isLater", desc := "(IIII)Z" } : Jvm.MethodName)) ∈ lw_all := lw_g (lw_at lw_m9 92 rfl) rfl
theorem q2098 : (Jvm.Cond.code ({ cls := "SharedSheetModel", name := "isLater", desc := "(IIII)Z" } : Jvm.MethodName) prog_15_method_18_code (4 : Nat) (Option.some Jvm.ClassFile.FieldType.boolean)) ∈ lw_all := lw_g (lw_at lw_m9 93 rfl) rfl
theorem q2099 : (Jvm.Cond.methodLink "SharedSheetModel" (148 : Nat) ({ cls := "SharedSheetModel", name := "ends", desc := "(I)I" } : Jvm.MethodName)) ∈ lw_all := lw_g (lw_at lw_m9 94 rfl) rfl
theorem q2100 : (Jvm.Cond.privateMethod ({ cls := "SharedSheetModel", name := "ends", desc := "(I)I" } : Jvm.MethodName)) ∈ lw_tbl := lw_at lw_m9 95 rfl
theorem q2101 : (Jvm.Cond.instanceMethod ({ cls := "SharedSheetModel", name := "ends", desc := "(I)I" } : Jvm.MethodName)) ∈ lw_all := lw_g (lw_at lw_m9 96 rfl) rfl
theorem q2102 : (Jvm.Cond.code ({ cls := "SharedSheetModel", name := "ends", desc := "(I)I" } : Jvm.MethodName) prog_15_method_7_code (3 : Nat) (Option.some Jvm.ClassFile.FieldType.int)) ∈ lw_all := lw_g (lw_at lw_m9 97 rfl) rfl
theorem q2103 : (Jvm.Cond.methodLink "SharedSheetModel" (83 : Nat) ({ cls := "SharedSheetModel", name := "tells", desc := "(I)I" } : Jvm.MethodName)) ∈ lw_all := lw_g (lw_at lw_m9 98 rfl) rfl
theorem q2104 : (Jvm.Cond.privateMethod ({ cls := "SharedSheetModel", name := "tells", desc := "(I)I" } : Jvm.MethodName)) ∈ lw_tbl := lw_at lw_m9 99 rfl
theorem q2105 : (Jvm.Cond.instanceMethod ({ cls := "SharedSheetModel", name := "tells", desc := "(I)I" } : Jvm.MethodName)) ∈ lw_all := lw_g (lw_at lw_m9 100 rfl) rfl
theorem q2106 : (Jvm.Cond.code ({ cls := "SharedSheetModel", name := "tells", desc := "(I)I" } : Jvm.MethodName) prog_15_method_5_code (2 : Nat) (Option.some Jvm.ClassFile.FieldType.int)) ∈ lw_all := lw_g (lw_at lw_m9 101 rfl) rfl
theorem q2108 : (Jvm.Cond.instanceMethod ({ cls := "SharedSheetModel", name := "move", desc := "(IZII)I" } : Jvm.MethodName)) ∈ lw_all := lw_g (lw_at lw_m9 103 rfl) rfl
theorem q2109 : (Jvm.Cond.selects "SharedSheetModel" ({ cls := "SharedSheetModel", name := "move", desc := "(IZII)I" } : Jvm.MethodName) ({ cls := "SharedSheetModel", name := "move", desc := "(IZII)I" } : Jvm.MethodName)) ∈ lw_all := lw_g (lw_at lw_m9 104 rfl) rfl
theorem q2110 : (Jvm.Cond.code ({ cls := "SharedSheetModel", name := "move", desc := "(IZII)I" } : Jvm.MethodName) prog_15_method_24_code (10 : Nat) (Option.some Jvm.ClassFile.FieldType.int)) ∈ lw_all := lw_g (lw_at lw_m9 105 rfl) rfl
theorem q2111 : (Jvm.Cond.methodLink "SharedSheetModel" (151 : Nat) ({ cls := "SharedSheetModel", name := "positionOf", desc := "(III)I" } : Jvm.MethodName)) ∈ lw_all := lw_g (lw_at lw_m9 106 rfl) rfl
theorem q2112 : (Jvm.Cond.privateMethod ({ cls := "SharedSheetModel", name := "positionOf", desc := "(III)I" } : Jvm.MethodName)) ∈ lw_tbl := lw_at lw_m9 107 rfl
theorem q2113 : (Jvm.Cond.instanceMethod ({ cls := "SharedSheetModel", name := "positionOf", desc := "(III)I" } : Jvm.MethodName)) ∈ lw_all := lw_g (lw_at lw_m9 108 rfl) rfl
theorem q2114 : (Jvm.Cond.code ({ cls := "SharedSheetModel", name := "positionOf", desc := "(III)I" } : Jvm.MethodName) prog_15_method_16_code (6 : Nat) (Option.some Jvm.ClassFile.FieldType.int)) ∈ lw_all := lw_g (lw_at lw_m9 109 rfl) rfl
theorem q2116 : (Jvm.Cond.instanceMethod ({ cls := "SharedSheetModel", name := "remove", desc := "(IZI)I" } : Jvm.MethodName)) ∈ lw_all := lw_g (lw_at lw_m9 111 rfl) rfl
theorem q2117 : (Jvm.Cond.selects "SharedSheetModel" ({ cls := "SharedSheetModel", name := "remove", desc := "(IZI)I" } : Jvm.MethodName) ({ cls := "SharedSheetModel", name := "remove", desc := "(IZI)I" } : Jvm.MethodName)) ∈ lw_all := lw_g (lw_at lw_m9 112 rfl) rfl
theorem q2118 : (Jvm.Cond.code ({ cls := "SharedSheetModel", name := "remove", desc := "(IZI)I" } : Jvm.MethodName) prog_15_method_25_code (6 : Nat) (Option.some Jvm.ClassFile.FieldType.int)) ∈ lw_all := lw_g (lw_at lw_m9 113 rfl) rfl
theorem q2120 : (Jvm.Cond.instanceMethod ({ cls := "SharedSheetModel", name := "shown", desc := "(IZ)I" } : Jvm.MethodName)) ∈ lw_all := lw_g (lw_at lw_m9 115 rfl) rfl
theorem q2121 : (Jvm.Cond.selects "SharedSheetModel" ({ cls := "SharedSheetModel", name := "shown", desc := "(IZ)I" } : Jvm.MethodName) ({ cls := "SharedSheetModel", name := "shown", desc := "(IZ)I" } : Jvm.MethodName)) ∈ lw_all := lw_g (lw_at lw_m9 116 rfl) rfl
theorem q2122 : (Jvm.Cond.code ({ cls := "SharedSheetModel", name := "shown", desc := "(IZ)I" } : Jvm.MethodName) prog_15_method_26_code (3 : Nat) (Option.some Jvm.ClassFile.FieldType.int)) ∈ lw_all := lw_g (lw_at lw_m9 117 rfl) rfl
theorem q2124 : (Jvm.Cond.instanceMethod ({ cls := "SharedSheetModel", name := "line", desc := "(IZI)I" } : Jvm.MethodName)) ∈ lw_all := lw_g (lw_at lw_m9 119 rfl) rfl
theorem q2125 : (Jvm.Cond.selects "SharedSheetModel" ({ cls := "SharedSheetModel", name := "line", desc := "(IZI)I" } : Jvm.MethodName) ({ cls := "SharedSheetModel", name := "line", desc := "(IZI)I" } : Jvm.MethodName)) ∈ lw_all := lw_g (lw_at lw_m9 120 rfl) rfl
theorem q2126 : (Jvm.Cond.code ({ cls := "SharedSheetModel", name := "line", desc := "(IZI)I" } : Jvm.MethodName) prog_15_method_27_code (5 : Nat) (Option.some Jvm.ClassFile.FieldType.int)) ∈ lw_all := lw_g (lw_at lw_m9 121 rfl) rfl
theorem q2128 : (Jvm.Cond.instanceMethod ({ cls := "SharedSheetModel", name := "position", desc := "(IZI)I" } : Jvm.MethodName)) ∈ lw_all := lw_g (lw_at lw_m9 123 rfl) rfl
theorem q2129 : (Jvm.Cond.selects "SharedSheetModel" ({ cls := "SharedSheetModel", name := "position", desc := "(IZI)I" } : Jvm.MethodName) ({ cls := "SharedSheetModel", name := "position", desc := "(IZI)I" } : Jvm.MethodName)) ∈ lw_all := lw_g (lw_at lw_m9 124 rfl) rfl
theorem q2130 : (Jvm.Cond.code ({ cls := "SharedSheetModel", name := "position", desc := "(IZI)I" } : Jvm.MethodName) prog_15_method_28_code (4 : Nat) (Option.some Jvm.ClassFile.FieldType.int)) ∈ lw_all := lw_g (lw_at lw_m9 125 rfl) rfl
theorem q2132 : (Jvm.Cond.instanceMethod ({ cls := "SharedSheetModel", name := "place", desc := "(IZI)I" } : Jvm.MethodName)) ∈ lw_all := lw_g (lw_at lw_m9 127 rfl) rfl
theorem q2133 : (Jvm.Cond.selects "SharedSheetModel" ({ cls := "SharedSheetModel", name := "place", desc := "(IZI)I" } : Jvm.MethodName) ({ cls := "SharedSheetModel", name := "place", desc := "(IZI)I" } : Jvm.MethodName)) ∈ lw_all := lw_g (lw_at lw_m9 128 rfl) rfl
theorem q2134 : (Jvm.Cond.code ({ cls := "SharedSheetModel", name := "place", desc := "(IZI)I" } : Jvm.MethodName) prog_15_method_29_code (4 : Nat) (Option.some Jvm.ClassFile.FieldType.int)) ∈ lw_all := lw_g (lw_at lw_m9 129 rfl) rfl
theorem q2136 : (Jvm.Cond.instanceMethod ({ cls := "SharedSheetModel", name := "setNumber", desc := "(IIII)I" } : Jvm.MethodName)) ∈ lw_all := lw_g (lw_at lw_m9 131 rfl) rfl
theorem q2137 : (Jvm.Cond.selects "SharedSheetModel" ({ cls := "SharedSheetModel", name := "setNumber", desc := "(IIII)I" } : Jvm.MethodName) ({ cls := "SharedSheetModel", name := "setNumber", desc := "(IIII)I" } : Jvm.MethodName)) ∈ lw_all := lw_g (lw_at lw_m9 132 rfl) rfl
theorem q2138 : (Jvm.Cond.code ({ cls := "SharedSheetModel", name := "setNumber", desc := "(IIII)I" } : Jvm.MethodName) prog_15_method_32_code (5 : Nat) (Option.some Jvm.ClassFile.FieldType.int)) ∈ lw_all := lw_g (lw_at lw_m9 133 rfl) rfl
theorem q2139 : (Jvm.Cond.methodLink "SharedSheetModel" (159 : Nat) ({ cls := "SharedSheetModel", name := "isCell", desc := "(III)Z" } : Jvm.MethodName)) ∈ lw_all := lw_g (lw_at lw_m9 134 rfl) rfl
theorem q2140 : (Jvm.Cond.privateMethod ({ cls := "SharedSheetModel", name := "isCell", desc := "(III)Z" } : Jvm.MethodName)) ∈ lw_tbl := lw_at lw_m9 135 rfl
theorem q2141 : (Jvm.Cond.instanceMethod ({ cls := "SharedSheetModel", name := "isCell", desc := "(III)Z" } : Jvm.MethodName)) ∈ lw_all := lw_g (lw_at lw_m9 136 rfl) rfl
theorem q2142 : (Jvm.Cond.code ({ cls := "SharedSheetModel", name := "isCell", desc := "(III)Z" } : Jvm.MethodName) prog_15_method_30_code (4 : Nat) (Option.some Jvm.ClassFile.FieldType.boolean)) ∈ lw_all := lw_g (lw_at lw_m9 137 rfl) rfl
theorem q2143 : (Jvm.Cond.methodLink "SharedSheetModel" (155 : Nat) ({ cls := "SharedSheetModel", name := "looks", desc := "(I)V" } : Jvm.MethodName)) ∈ lw_all := lw_g (lw_at lw_m9 138 rfl) rfl
theorem q2144 : (Jvm.Cond.privateMethod ({ cls := "SharedSheetModel", name := "looks", desc := "(I)V" } : Jvm.MethodName)) ∈ lw_tbl := lw_at lw_m9 139 rfl
theorem q2145 : (Jvm.Cond.instanceMethod ({ cls := "SharedSheetModel", name := "looks", desc := "(I)V" } : Jvm.MethodName)) ∈ lw_all := lw_g (lw_at lw_m9 140 rfl) rfl
theorem q2146 : (Jvm.Cond.code ({ cls := "SharedSheetModel", name := "looks", desc := "(I)V" } : Jvm.MethodName) prog_15_method_15_code (2 : Nat) (Option.none : Option Jvm.ClassFile.FieldType)) ∈ lw_all := lw_g (lw_at lw_m9 141 rfl) rfl
theorem q2147 : (Jvm.Cond.methodLink "SharedSheetModel" (162 : Nat) ({ cls := "SharedSheetModel", name := "writes", desc := "(IIIIII)I" } : Jvm.MethodName)) ∈ lw_all := lw_g (lw_at lw_m9 142 rfl) rfl
theorem q2148 : (Jvm.Cond.privateMethod ({ cls := "SharedSheetModel", name := "writes", desc := "(IIIIII)I" } : Jvm.MethodName)) ∈ lw_tbl := lw_at lw_m9 143 rfl
theorem q2149 : (Jvm.Cond.instanceMethod ({ cls := "SharedSheetModel", name := "writes", desc := "(IIIIII)I" } : Jvm.MethodName)) ∈ lw_all := lw_g (lw_at lw_m9 144 rfl) rfl
theorem q2150 : (Jvm.Cond.code ({ cls := "SharedSheetModel", name := "writes", desc := "(IIIIII)I" } : Jvm.MethodName) prog_15_method_31_code (9 : Nat) (Option.some Jvm.ClassFile.FieldType.int)) ∈ lw_all := lw_g (lw_at lw_m9 145 rfl) rfl
theorem q2152 : (Jvm.Cond.instanceMethod ({ cls := "SharedSheetModel", name := "clearCell", desc := "(III)I" } : Jvm.MethodName)) ∈ lw_all := lw_g (lw_at lw_m9 147 rfl) rfl
theorem q2153 : (Jvm.Cond.selects "SharedSheetModel" ({ cls := "SharedSheetModel", name := "clearCell", desc := "(III)I" } : Jvm.MethodName) ({ cls := "SharedSheetModel", name := "clearCell", desc := "(III)I" } : Jvm.MethodName)) ∈ lw_all := lw_g (lw_at lw_m9 148 rfl) rfl
theorem q2154 : (Jvm.Cond.code ({ cls := "SharedSheetModel", name := "clearCell", desc := "(III)I" } : Jvm.MethodName) prog_15_method_33_code (4 : Nat) (Option.some Jvm.ClassFile.FieldType.int)) ∈ lw_all := lw_g (lw_at lw_m9 149 rfl) rfl
theorem q2156 : (Jvm.Cond.instanceMethod ({ cls := "SharedSheetModel", name := "setFormula", desc := "(III)I" } : Jvm.MethodName)) ∈ lw_all := lw_g (lw_at lw_m9 151 rfl) rfl
theorem q2157 : (Jvm.Cond.selects "SharedSheetModel" ({ cls := "SharedSheetModel", name := "setFormula", desc := "(III)I" } : Jvm.MethodName) ({ cls := "SharedSheetModel", name := "setFormula", desc := "(III)I" } : Jvm.MethodName)) ∈ lw_all := lw_g (lw_at lw_m9 152 rfl) rfl
theorem q2158 : (Jvm.Cond.code ({ cls := "SharedSheetModel", name := "setFormula", desc := "(III)I" } : Jvm.MethodName) prog_15_method_34_code (4 : Nat) (Option.some Jvm.ClassFile.FieldType.int)) ∈ lw_all := lw_g (lw_at lw_m9 153 rfl) rfl
theorem q2159 : (Jvm.Cond.methodLink "SharedSheetModel" (166 : Nat) ({ cls := "SharedSheetModel", name := "faultAt", desc := "()I" } : Jvm.MethodName)) ∈ lw_all := lw_g (lw_at lw_m9 154 rfl) rfl
theorem q2160 : (Jvm.Cond.privateMethod ({ cls := "SharedSheetModel", name := "faultAt", desc := "()I" } : Jvm.MethodName)) ∈ lw_tbl := lw_at lw_m9 155 rfl
theorem q2161 : (Jvm.Cond.instanceMethod ({ cls := "SharedSheetModel", name := "faultAt", desc := "()I" } : Jvm.MethodName)) ∈ lw_all := lw_g (lw_at lw_m9 156 rfl) rfl
theorem q2162 : (Jvm.Cond.code ({ cls := "SharedSheetModel", name := "faultAt", desc := "()I" } : Jvm.MethodName) prog_15_method_40_code (3 : Nat) (Option.some Jvm.ClassFile.FieldType.int)) ∈ lw_all := lw_g (lw_at lw_m9 157 rfl) rfl
theorem q2163 : (Jvm.Cond.methodLink "SharedSheetModel" (192 : Nat) ({ cls := "SharedSheetModel", name := "isFactor", desc := "()Z" } : Jvm.MethodName)) ∈ lw_all := lw_g (lw_at lw_m9 158 rfl) rfl
theorem q2164 : (Jvm.Cond.privateMethod ({ cls := "SharedSheetModel", name := "isFactor", desc := "()Z" } : Jvm.MethodName)) ∈ lw_tbl := lw_at lw_m9 159 rfl
theorem q2165 : (Jvm.Cond.instanceMethod ({ cls := "SharedSheetModel", name := "isFactor", desc := "()Z" } : Jvm.MethodName)) ∈ lw_all := lw_g (lw_at lw_m9 160 rfl) rfl
theorem q2166 : (Jvm.Cond.code ({ cls := "SharedSheetModel", name := "isFactor", desc := "()Z" } : Jvm.MethodName) prog_15_method_39_code (3 : Nat) (Option.some Jvm.ClassFile.FieldType.boolean)) ∈ lw_all := lw_g (lw_at lw_m9 161 rfl) rfl
theorem q2167 : (Jvm.Cond.methodLink "SharedSheetModel" (179 : Nat) ({ cls := "SharedSheetModel", name := "isAt", desc := "(II)Z" } : Jvm.MethodName)) ∈ lw_all := lw_g (lw_at lw_m9 162 rfl) rfl
theorem q2168 : (Jvm.Cond.privateMethod ({ cls := "SharedSheetModel", name := "isAt", desc := "(II)Z" } : Jvm.MethodName)) ∈ lw_tbl := lw_at lw_m9 163 rfl
theorem q2169 : (Jvm.Cond.instanceMethod ({ cls := "SharedSheetModel", name := "isAt", desc := "(II)Z" } : Jvm.MethodName)) ∈ lw_all := lw_g (lw_at lw_m9 164 rfl) rfl
theorem q2170 : (Jvm.Cond.code ({ cls := "SharedSheetModel", name := "isAt", desc := "(II)Z" } : Jvm.MethodName) prog_15_method_35_code (3 : Nat) (Option.some Jvm.ClassFile.FieldType.boolean)) ∈ lw_all := lw_g (lw_at lw_m9 165 rfl) rfl
theorem q2171 : (Jvm.Cond.methodLink "SharedSheetModel" (182 : Nat) ({ cls := "SharedSheetModel", name := "adds", desc := "(I)V" } : Jvm.MethodName)) ∈ lw_all := lw_g (lw_at lw_m9 166 rfl) rfl
theorem q2172 : (Jvm.Cond.privateMethod ({ cls := "SharedSheetModel", name := "adds", desc := "(I)V" } : Jvm.MethodName)) ∈ lw_tbl := lw_at lw_m9 167 rfl
theorem q2173 : (Jvm.Cond.instanceMethod ({ cls := "SharedSheetModel", name := "adds", desc := "(I)V" } : Jvm.MethodName)) ∈ lw_all := lw_g (lw_at lw_m9 168 rfl) rfl
theorem q2174 : (Jvm.Cond.code ({ cls := "SharedSheetModel", name := "adds", desc := "(I)V" } : Jvm.MethodName) prog_15_method_36_code (2 : Nat) (Option.none : Option Jvm.ClassFile.FieldType)) ∈ lw_all := lw_g (lw_at lw_m9 169 rfl) rfl
theorem q2175 : (Jvm.Cond.methodLink "SharedSheetModel" (185 : Nat) ({ cls := "SharedSheetModel", name := "takes", desc := "(I)Z" } : Jvm.MethodName)) ∈ lw_all := lw_g (lw_at lw_m9 170 rfl) rfl
theorem q2176 : (Jvm.Cond.privateMethod ({ cls := "SharedSheetModel", name := "takes", desc := "(I)Z" } : Jvm.MethodName)) ∈ lw_tbl := lw_at lw_m9 171 rfl
theorem q2177 : (Jvm.Cond.instanceMethod ({ cls := "SharedSheetModel", name := "takes", desc := "(I)Z" } : Jvm.MethodName)) ∈ lw_all := lw_g (lw_at lw_m9 172 rfl) rfl
theorem q2178 : (Jvm.Cond.code ({ cls := "SharedSheetModel", name := "takes", desc := "(I)Z" } : Jvm.MethodName) prog_15_method_37_code (3 : Nat) (Option.some Jvm.ClassFile.FieldType.boolean)) ∈ lw_all := lw_g (lw_at lw_m9 173 rfl) rfl
theorem q2179 : (Jvm.Cond.methodLink "SharedSheetModel" (188 : Nat) ({ cls := "SharedSheetModel", name := "isNamed", desc := "()Z" } : Jvm.MethodName)) ∈ lw_all := lw_g (lw_at lw_m9 174 rfl) rfl
theorem q2180 : (Jvm.Cond.privateMethod ({ cls := "SharedSheetModel", name := "isNamed", desc := "()Z" } : Jvm.MethodName)) ∈ lw_tbl := lw_at lw_m9 175 rfl
theorem q2181 : (Jvm.Cond.instanceMethod ({ cls := "SharedSheetModel", name := "isNamed", desc := "()Z" } : Jvm.MethodName)) ∈ lw_all := lw_g (lw_at lw_m9 176 rfl) rfl
theorem q2182 : (Jvm.Cond.code ({ cls := "SharedSheetModel", name := "isNamed", desc := "()Z" } : Jvm.MethodName) prog_15_method_38_code (2 : Nat) (Option.some Jvm.ClassFile.FieldType.boolean)) ∈ lw_all := lw_g (lw_at lw_m9 177 rfl) rfl
theorem q2184 : (Jvm.Cond.instanceMethod ({ cls := "SharedSheetModel", name := "fault", desc := "(I)I" } : Jvm.MethodName)) ∈ lw_all := lw_g (lw_at lw_m9 179 rfl) rfl
theorem q2185 : (Jvm.Cond.selects "SharedSheetModel" ({ cls := "SharedSheetModel", name := "fault", desc := "(I)I" } : Jvm.MethodName) ({ cls := "SharedSheetModel", name := "fault", desc := "(I)I" } : Jvm.MethodName)) ∈ lw_all := lw_g (lw_at lw_m9 180 rfl) rfl
theorem q2186 : (Jvm.Cond.code ({ cls := "SharedSheetModel", name := "fault", desc := "(I)I" } : Jvm.MethodName) prog_15_method_41_code (2 : Nat) (Option.some Jvm.ClassFile.FieldType.int)) ∈ lw_all := lw_g (lw_at lw_m9 181 rfl) rfl
theorem q2188 : (Jvm.Cond.instanceMethod ({ cls := "SharedSheetModel", name := "cell", desc := "(IIII)I" } : Jvm.MethodName)) ∈ lw_all := lw_g (lw_at lw_m9 183 rfl) rfl
theorem q2189 : (Jvm.Cond.selects "SharedSheetModel" ({ cls := "SharedSheetModel", name := "cell", desc := "(IIII)I" } : Jvm.MethodName) ({ cls := "SharedSheetModel", name := "cell", desc := "(IIII)I" } : Jvm.MethodName)) ∈ lw_all := lw_g (lw_at lw_m9 184 rfl) rfl
theorem q2190 : (Jvm.Cond.code ({ cls := "SharedSheetModel", name := "cell", desc := "(IIII)I" } : Jvm.MethodName) prog_15_method_61_code (5 : Nat) (Option.some Jvm.ClassFile.FieldType.int)) ∈ lw_all := lw_g (lw_at lw_m9 185 rfl) rfl
theorem q2191 : (Jvm.Cond.methodLink "SharedSheetModel" (223 : Nat) ({ cls := "SharedSheetModel", name := "gathers", desc := "(I)V" } : Jvm.MethodName)) ∈ lw_all := lw_g (lw_at lw_m9 186 rfl) rfl
theorem q2192 : (Jvm.Cond.privateMethod ({ cls := "SharedSheetModel", name := "gathers", desc := "(I)V" } : Jvm.MethodName)) ∈ lw_tbl := lw_at lw_m9 187 rfl
theorem q2193 : (Jvm.Cond.instanceMethod ({ cls := "SharedSheetModel", name := "gathers", desc := "(I)V" } : Jvm.MethodName)) ∈ lw_all := lw_g (lw_at lw_m9 188 rfl) rfl
theorem q2194 : (Jvm.Cond.code ({ cls := "SharedSheetModel", name := "gathers", desc := "(I)V" } : Jvm.MethodName) prog_15_method_51_code (6 : Nat) (Option.none : Option Jvm.ClassFile.FieldType)) ∈ lw_all := lw_g (lw_at lw_m9 189 rfl) rfl
theorem q2195 : (Jvm.Cond.methodLink "SharedSheetModel" (214 : Nat) ({ cls := "SharedSheetModel", name := "opAt", desc := "(II)I" } : Jvm.MethodName)) ∈ lw_all := lw_g (lw_at lw_m9 190 rfl) rfl
theorem q2196 : (Jvm.Cond.privateMethod ({ cls := "SharedSheetModel", name := "opAt", desc := "(II)I" } : Jvm.MethodName)) ∈ lw_tbl := lw_at lw_m9 191 rfl
theorem q2197 : (Jvm.Cond.instanceMethod ({ cls := "SharedSheetModel", name := "opAt", desc := "(II)I" } : Jvm.MethodName)) ∈ lw_all := lw_g (lw_at lw_m9 192 rfl) rfl
theorem q2198 : (Jvm.Cond.code ({ cls := "SharedSheetModel", name := "opAt", desc := "(II)I" } : Jvm.MethodName) prog_15_method_44_code (3 : Nat) (Option.some Jvm.ClassFile.FieldType.int)) ∈ lw_all := lw_g (lw_at lw_m9 193 rfl) rfl
theorem q2199 : (Jvm.Cond.methodLink "SharedSheetModel" (217 : Nat) ({ cls := "SharedSheetModel", name := "refersTo", desc := "(II)V" } : Jvm.MethodName)) ∈ lw_all := lw_g (lw_at lw_m9 194 rfl) rfl
theorem q2200 : (Jvm.Cond.privateMethod ({ cls := "SharedSheetModel", name := "refersTo", desc := "(II)V" } : Jvm.MethodName)) ∈ lw_tbl := lw_at lw_m9 195 rfl
theorem q2201 : (Jvm.Cond.instanceMethod ({ cls := "SharedSheetModel", name := "refersTo", desc := "(II)V" } : Jvm.MethodName)) ∈ lw_all := lw_g (lw_at lw_m9 196 rfl) rfl
theorem q2202 : (Jvm.Cond.code ({ cls := "SharedSheetModel", name := "refersTo", desc := "(II)V" } : Jvm.MethodName) prog_15_method_47_code (8 : Nat) (Option.none : Option Jvm.ClassFile.FieldType)) ∈ lw_all := lw_g (lw_at lw_m9 197 rfl) rfl
theorem q2203 : (Jvm.Cond.methodLink "SharedSheetModel" (199 : Nat) ({ cls := "SharedSheetModel", name := "seen", desc := "(I)I" } : Jvm.MethodName)) ∈ lw_all := lw_g (lw_at lw_m9 198 rfl) rfl
theorem q2204 : (Jvm.Cond.privateMethod ({ cls := "SharedSheetModel", name := "seen", desc := "(I)I" } : Jvm.MethodName)) ∈ lw_tbl := lw_at lw_m9 199 rfl
theorem q2205 : (Jvm.Cond.instanceMethod ({ cls := "SharedSheetModel", name := "seen", desc := "(I)I" } : Jvm.MethodName)) ∈ lw_all := lw_g (lw_at lw_m9 200 rfl) rfl
theorem q2206 : (Jvm.Cond.code ({ cls := "SharedSheetModel", name := "seen", desc := "(I)I" } : Jvm.MethodName) prog_15_method_43_code (4 : Nat) (Option.some Jvm.ClassFile.FieldType.int)) ∈ lw_all := lw_g (lw_at lw_m9 201 rfl) rfl
theorem q2207 : (Jvm.Cond.methodLink "SharedSheetModel" (195 : Nat) ({ cls := "SharedSheetModel", name := "find", desc := "([III)I" } : Jvm.MethodName)) ∈ lw_all := lw_g (lw_at lw_m9 202 rfl) rfl
theorem q2208 : (Jvm.Cond.static ({ cls := "SharedSheetModel", name := "find", desc := "([III)I" } : Jvm.MethodName)) ∈ lw_all := lw_g (lw_at lw_m9 203 rfl) rfl
theorem q2209 : (Jvm.Cond.code ({ cls := "SharedSheetModel", name := "find", desc := "([III)I" } : Jvm.MethodName) prog_15_method_42_code (4 : Nat) (Option.some Jvm.ClassFile.FieldType.int)) ∈ lw_all := lw_g (lw_at lw_m9 204 rfl) rfl
theorem q2210 : (Jvm.Cond.methodLink "SharedSheetModel" (202 : Nat) ({ cls := "SharedSheetModel", name := "spans", desc := "(III)V" } : Jvm.MethodName)) ∈ lw_all := lw_g (lw_at lw_m9 205 rfl) rfl
theorem q2211 : (Jvm.Cond.privateMethod ({ cls := "SharedSheetModel", name := "spans", desc := "(III)V" } : Jvm.MethodName)) ∈ lw_tbl := lw_at lw_m9 206 rfl
theorem q2212 : (Jvm.Cond.instanceMethod ({ cls := "SharedSheetModel", name := "spans", desc := "(III)V" } : Jvm.MethodName)) ∈ lw_all := lw_g (lw_at lw_m9 207 rfl) rfl
theorem q2213 : (Jvm.Cond.code ({ cls := "SharedSheetModel", name := "spans", desc := "(III)V" } : Jvm.MethodName) prog_15_method_48_code (6 : Nat) (Option.none : Option Jvm.ClassFile.FieldType)) ∈ lw_all := lw_g (lw_at lw_m9 208 rfl) rfl
theorem q2214 : (Jvm.Cond.methodLink "SharedSheetModel" (205 : Nat) ({ cls := "SharedSheetModel", name := "least", desc := "(II)I" } : Jvm.MethodName)) ∈ lw_all := lw_g (lw_at lw_m9 209 rfl) rfl
theorem q2215 : (Jvm.Cond.static ({ cls := "SharedSheetModel", name := "least", desc := "(II)I" } : Jvm.MethodName)) ∈ lw_all := lw_g (lw_at lw_m9 210 rfl) rfl
theorem q2216 : (Jvm.Cond.code ({ cls := "SharedSheetModel", name := "least", desc := "(II)I" } : Jvm.MethodName) prog_15_method_45_code (2 : Nat) (Option.some Jvm.ClassFile.FieldType.int)) ∈ lw_all := lw_g (lw_at lw_m9 211 rfl) rfl
theorem q2217 : (Jvm.Cond.methodLink "SharedSheetModel" (208 : Nat) ({ cls := "SharedSheetModel", name := "greatest", desc := "(II)I" } : Jvm.MethodName)) ∈ lw_all := lw_g (lw_at lw_m9 212 rfl) rfl
theorem q2218 : (Jvm.Cond.static ({ cls := "SharedSheetModel", name := "greatest", desc := "(II)I" } : Jvm.MethodName)) ∈ lw_all := lw_g (lw_at lw_m9 213 rfl) rfl
theorem q2219 : (Jvm.Cond.code ({ cls := "SharedSheetModel", name := "greatest", desc := "(II)I" } : Jvm.MethodName) prog_15_method_46_code (2 : Nat) (Option.some Jvm.ClassFile.FieldType.int)) ∈ lw_all := lw_g (lw_at lw_m9 214 rfl) rfl
theorem q2220 : (Jvm.Cond.methodLink "SharedSheetModel" (220 : Nat) ({ cls := "SharedSheetModel", name := "comesBack", desc := "(I)Z" } : Jvm.MethodName)) ∈ lw_all := lw_g (lw_at lw_m9 215 rfl) rfl
theorem q2221 : (Jvm.Cond.privateMethod ({ cls := "SharedSheetModel", name := "comesBack", desc := "(I)Z" } : Jvm.MethodName)) ∈ lw_tbl := lw_at lw_m9 216 rfl
theorem q2222 : (Jvm.Cond.instanceMethod ({ cls := "SharedSheetModel", name := "comesBack", desc := "(I)Z" } : Jvm.MethodName)) ∈ lw_all := lw_g (lw_at lw_m9 217 rfl) rfl
theorem q2223 : (Jvm.Cond.code ({ cls := "SharedSheetModel", name := "comesBack", desc := "(I)Z" } : Jvm.MethodName) prog_15_method_49_code (5 : Nat) (Option.some Jvm.ClassFile.FieldType.boolean)) ∈ lw_all := lw_g (lw_at lw_m9 218 rfl) rfl
theorem q2224 : (Jvm.Cond.methodLink "SharedSheetModel" (263 : Nat) ({ cls := "SharedSheetModel", name := "told", desc := "(III)I" } : Jvm.MethodName)) ∈ lw_all := lw_g (lw_at lw_m9 219 rfl) rfl
theorem q2225 : (Jvm.Cond.privateMethod ({ cls := "SharedSheetModel", name := "told", desc := "(III)I" } : Jvm.MethodName)) ∈ lw_tbl := lw_at lw_m9 220 rfl
theorem q2226 : (Jvm.Cond.instanceMethod ({ cls := "SharedSheetModel", name := "told", desc := "(III)I" } : Jvm.MethodName)) ∈ lw_all := lw_g (lw_at lw_m9 221 rfl) rfl
theorem q2227 : (Jvm.Cond.code ({ cls := "SharedSheetModel", name := "told", desc := "(III)I" } : Jvm.MethodName) prog_15_method_60_code (6 : Nat) (Option.some Jvm.ClassFile.FieldType.int)) ∈ lw_all := lw_g (lw_at lw_m9 222 rfl) rfl
theorem q2228 : (Jvm.Cond.methodLink "SharedSheetModel" (257 : Nat) ({ cls := "SharedSheetModel", name := "referred", desc := "(I)I" } : Jvm.MethodName)) ∈ lw_all := lw_g (lw_at lw_m9 223 rfl) rfl
theorem q2229 : (Jvm.Cond.privateMethod ({ cls := "SharedSheetModel", name := "referred", desc := "(I)I" } : Jvm.MethodName)) ∈ lw_tbl := lw_at lw_m9 224 rfl
theorem q2230 : (Jvm.Cond.instanceMethod ({ cls := "SharedSheetModel", name := "referred", desc := "(I)I" } : Jvm.MethodName)) ∈ lw_all := lw_g (lw_at lw_m9 225 rfl) rfl
theorem q2231 : (Jvm.Cond.code ({ cls := "SharedSheetModel", name := "referred", desc := "(I)I" } : Jvm.MethodName) prog_15_method_58_code (5 : Nat) (Option.some Jvm.ClassFile.FieldType.int)) ∈ lw_all := lw_g (lw_at lw_m9 226 rfl) rfl
theorem q2232 : (Jvm.Cond.methodLink "SharedSheetModel" (260 : Nat) ({ cls := "SharedSheetModel", name := "referring", desc := "(I)I" } : Jvm.MethodName)) ∈ lw_all := lw_g (lw_at lw_m9 227 rfl) rfl
theorem q2233 : (Jvm.Cond.privateMethod ({ cls := "SharedSheetModel", name := "referring", desc := "(I)I" } : Jvm.MethodName)) ∈ lw_tbl := lw_at lw_m9 228 rfl
theorem q2234 : (Jvm.Cond.instanceMethod ({ cls := "SharedSheetModel", name := "referring", desc := "(I)I" } : Jvm.MethodName)) ∈ lw_all := lw_g (lw_at lw_m9 229 rfl) rfl
theorem q2235 : (Jvm.Cond.code ({ cls := "SharedSheetModel", name := "referring", desc := "(I)I" } : Jvm.MethodName) prog_15_method_59_code (4 : Nat) (Option.some Jvm.ClassFile.FieldType.int)) ∈ lw_all := lw_g (lw_at lw_m9 230 rfl) rfl
theorem q2237 : (Jvm.Cond.instanceMethod ({ cls := "SharedSheetModel", name := "value", desc := "(III)I" } : Jvm.MethodName)) ∈ lw_all := lw_g (lw_at lw_m9 232 rfl) rfl
theorem q2238 : (Jvm.Cond.selects "SharedSheetModel" ({ cls := "SharedSheetModel", name := "value", desc := "(III)I" } : Jvm.MethodName) ({ cls := "SharedSheetModel", name := "value", desc := "(III)I" } : Jvm.MethodName)) ∈ lw_all := lw_g (lw_at lw_m9 233 rfl) rfl
theorem q2239 : (Jvm.Cond.code ({ cls := "SharedSheetModel", name := "value", desc := "(III)I" } : Jvm.MethodName) prog_15_method_62_code (4 : Nat) (Option.some Jvm.ClassFile.FieldType.int)) ∈ lw_all := lw_g (lw_at lw_m9 234 rfl) rfl
theorem q2240 : (Jvm.Cond.methodLink "SharedSheetModel" (266 : Nat) ({ cls := "SharedSheetModel", name := "works", desc := "(I)V" } : Jvm.MethodName)) ∈ lw_all := lw_g (lw_at lw_m9 235 rfl) rfl
theorem q2241 : (Jvm.Cond.privateMethod ({ cls := "SharedSheetModel", name := "works", desc := "(I)V" } : Jvm.MethodName)) ∈ lw_tbl := lw_at lw_m9 236 rfl
theorem q2242 : (Jvm.Cond.instanceMethod ({ cls := "SharedSheetModel", name := "works", desc := "(I)V" } : Jvm.MethodName)) ∈ lw_all := lw_g (lw_at lw_m9 237 rfl) rfl
theorem q2243 : (Jvm.Cond.code ({ cls := "SharedSheetModel", name := "works", desc := "(I)V" } : Jvm.MethodName) prog_15_method_52_code (4 : Nat) (Option.none : Option Jvm.ClassFile.FieldType)) ∈ lw_all := lw_g (lw_at lw_m9 238 rfl) rfl
theorem q2244 : (Jvm.Cond.methodLink "SharedSheetModel" (226 : Nat) ({ cls := "SharedSheetModel", name := "isReady", desc := "(IZ)Z" } : Jvm.MethodName)) ∈ lw_all := lw_g (lw_at lw_m9 239 rfl) rfl
theorem q2245 : (Jvm.Cond.privateMethod ({ cls := "SharedSheetModel", name := "isReady", desc := "(IZ)Z" } : Jvm.MethodName)) ∈ lw_tbl := lw_at lw_m10 0 rfl
theorem q2246 : (Jvm.Cond.instanceMethod ({ cls := "SharedSheetModel", name := "isReady", desc := "(IZ)Z" } : Jvm.MethodName)) ∈ lw_all := lw_g (lw_at lw_m10 1 rfl) rfl
theorem q2247 : (Jvm.Cond.code ({ cls := "SharedSheetModel", name := "isReady", desc := "(IZ)Z" } : Jvm.MethodName) prog_15_method_50_code (5 : Nat) (Option.some Jvm.ClassFile.FieldType.boolean)) ∈ lw_all := lw_g (lw_at lw_m10 2 rfl) rfl
theorem q2248 : (Jvm.Cond.methodLink "SharedSheetModel" (230 : Nat) ({ cls := "SharedSheetModel", name := "calculates", desc := "(II)V" } : Jvm.MethodName)) ∈ lw_all := lw_g (lw_at lw_m10 3 rfl) rfl
theorem q2249 : (Jvm.Cond.privateMethod ({ cls := "SharedSheetModel", name := "calculates", desc := "(II)V" } : Jvm.MethodName)) ∈ lw_tbl := lw_at lw_m10 4 rfl
theorem q2250 : (Jvm.Cond.instanceMethod ({ cls := "SharedSheetModel", name := "calculates", desc := "(II)V" } : Jvm.MethodName)) ∈ lw_all := lw_g (lw_at lw_m10 5 rfl) rfl
theorem q2251 : (Jvm.Cond.code ({ cls := "SharedSheetModel", name := "calculates", desc := "(II)V" } : Jvm.MethodName) prog_15_method_57_code (12 : Nat) (Option.none : Option Jvm.ClassFile.FieldType)) ∈ lw_all := lw_g (lw_at lw_m10 6 rfl) rfl
theorem q2252 : (Jvm.Cond.methodLink "SharedSheetModel" (254 : Nat) ({ cls := "SharedSheetModel", name := "reckons", desc := "(II)I" } : Jvm.MethodName)) ∈ lw_all := lw_g (lw_at lw_m10 7 rfl) rfl
theorem q2253 : (Jvm.Cond.privateMethod ({ cls := "SharedSheetModel", name := "reckons", desc := "(II)I" } : Jvm.MethodName)) ∈ lw_tbl := lw_at lw_m10 8 rfl
theorem q2254 : (Jvm.Cond.instanceMethod ({ cls := "SharedSheetModel", name := "reckons", desc := "(II)I" } : Jvm.MethodName)) ∈ lw_all := lw_g (lw_at lw_m10 9 rfl) rfl
theorem q2255 : (Jvm.Cond.code ({ cls := "SharedSheetModel", name := "reckons", desc := "(II)I" } : Jvm.MethodName) prog_15_method_56_code (6 : Nat) (Option.some Jvm.ClassFile.FieldType.int)) ∈ lw_all := lw_g (lw_at lw_m10 10 rfl) rfl
theorem q2256 : (Jvm.Cond.methodLink "SharedSheetModel" (251 : Nat) ({ cls := "SharedSheetModel", name := "sums", desc := "(II)V" } : Jvm.MethodName)) ∈ lw_all := lw_g (lw_at lw_m10 11 rfl) rfl
theorem q2257 : (Jvm.Cond.privateMethod ({ cls := "SharedSheetModel", name := "sums", desc := "(II)V" } : Jvm.MethodName)) ∈ lw_tbl := lw_at lw_m10 12 rfl
theorem q2258 : (Jvm.Cond.instanceMethod ({ cls := "SharedSheetModel", name := "sums", desc := "(II)V" } : Jvm.MethodName)) ∈ lw_all := lw_g (lw_at lw_m10 13 rfl) rfl
theorem q2259 : (Jvm.Cond.code ({ cls := "SharedSheetModel", name := "sums", desc := "(II)V" } : Jvm.MethodName) prog_15_method_55_code (7 : Nat) (Option.none : Option Jvm.ClassFile.FieldType)) ∈ lw_all := lw_g (lw_at lw_m10 14 rfl) rfl
theorem q2260 : (Jvm.Cond.methodLink "SharedSheetModel" (244 : Nat) ({ cls := "SharedSheetModel", name := "meets", desc := "(I)V" } : Jvm.MethodName)) ∈ lw_all := lw_g (lw_at lw_m10 15 rfl) rfl
theorem q2261 : (Jvm.Cond.privateMethod ({ cls := "SharedSheetModel", name := "meets", desc := "(I)V" } : Jvm.MethodName)) ∈ lw_tbl := lw_at lw_m10 16 rfl
theorem q2262 : (Jvm.Cond.instanceMethod ({ cls := "SharedSheetModel", name := "meets", desc := "(I)V" } : Jvm.MethodName)) ∈ lw_all := lw_g (lw_at lw_m10 17 rfl) rfl
theorem q2263 : (Jvm.Cond.code ({ cls := "SharedSheetModel", name := "meets", desc := "(I)V" } : Jvm.MethodName) prog_15_method_54_code (2 : Nat) (Option.none : Option Jvm.ClassFile.FieldType)) ∈ lw_all := lw_g (lw_at lw_m10 18 rfl) rfl
theorem q2264 : (Jvm.Cond.methodLink "SharedSheetModel" (247 : Nat) ({ cls := "SharedSheetModel", name := "isFar", desc := "(J)Z" } : Jvm.MethodName)) ∈ lw_all := lw_g (lw_at lw_m10 19 rfl) rfl
theorem q2265 : (Jvm.Cond.static ({ cls := "SharedSheetModel", name := "isFar", desc := "(J)Z" } : Jvm.MethodName)) ∈ lw_all := lw_g (lw_at lw_m10 20 rfl) rfl
theorem q2266 : (Jvm.Cond.code ({ cls := "SharedSheetModel", name := "isFar", desc := "(J)Z" } : Jvm.MethodName) prog_15_method_53_code (2 : Nat) (Option.some Jvm.ClassFile.FieldType.boolean)) ∈ lw_all := lw_g (lw_at lw_m10 21 rfl) rfl
theorem q2267 : (Jvm.Cond.constantLong "SharedSheetModel" (233 : Nat) (-1000000000 : Int64)) ∈ lw_all := lw_g (lw_at lw_m10 22 rfl) rfl
theorem q2268 : (Jvm.Cond.constantLong "SharedSheetModel" (235 : Nat) (1000000000 : Int64)) ∈ lw_all := lw_g (lw_at lw_m10 23 rfl) rfl
theorem q2270 : (Jvm.Cond.instanceMethod ({ cls := "SharedSheetModel", name := "error", desc := "(III)I" } : Jvm.MethodName)) ∈ lw_all := lw_g (lw_at lw_m10 25 rfl) rfl
theorem q2271 : (Jvm.Cond.selects "SharedSheetModel" ({ cls := "SharedSheetModel", name := "error", desc := "(III)I" } : Jvm.MethodName) ({ cls := "SharedSheetModel", name := "error", desc := "(III)I" } : Jvm.MethodName)) ∈ lw_all := lw_g (lw_at lw_m10 26 rfl) rfl
theorem q2272 : (Jvm.Cond.code ({ cls := "SharedSheetModel", name := "error", desc := "(III)I" } : Jvm.MethodName) prog_15_method_63_code (4 : Nat) (Option.some Jvm.ClassFile.FieldType.int)) ∈ lw_all := lw_g (lw_at lw_m10 27 rfl) rfl
theorem q2274 : (Jvm.Cond.instanceMethod ({ cls := "SharedSheetModel", name := "write", desc := "(III)I" } : Jvm.MethodName)) ∈ lw_all := lw_g (lw_at lw_m10 29 rfl) rfl
theorem q2275 : (Jvm.Cond.selects "SharedSheetModel" ({ cls := "SharedSheetModel", name := "write", desc := "(III)I" } : Jvm.MethodName) ({ cls := "SharedSheetModel", name := "write", desc := "(III)I" } : Jvm.MethodName)) ∈ lw_all := lw_g (lw_at lw_m10 30 rfl) rfl
theorem q2276 : (Jvm.Cond.code ({ cls := "SharedSheetModel", name := "write", desc := "(III)I" } : Jvm.MethodName) prog_15_method_67_code (8 : Nat) (Option.some Jvm.ClassFile.FieldType.int)) ∈ lw_all := lw_g (lw_at lw_m10 31 rfl) rfl
theorem q2277 : (Jvm.Cond.methodLink "SharedSheetModel" (269 : Nat) ({ cls := "SharedSheetModel", name := "shows", desc := "(I)V" } : Jvm.MethodName)) ∈ lw_all := lw_g (lw_at lw_m10 32 rfl) rfl
theorem q2278 : (Jvm.Cond.privateMethod ({ cls := "SharedSheetModel", name := "shows", desc := "(I)V" } : Jvm.MethodName)) ∈ lw_tbl := lw_at lw_m10 33 rfl
theorem q2279 : (Jvm.Cond.instanceMethod ({ cls := "SharedSheetModel", name := "shows", desc := "(I)V" } : Jvm.MethodName)) ∈ lw_all := lw_g (lw_at lw_m10 34 rfl) rfl
theorem q2280 : (Jvm.Cond.code ({ cls := "SharedSheetModel", name := "shows", desc := "(I)V" } : Jvm.MethodName) prog_15_method_64_code (2 : Nat) (Option.none : Option Jvm.ClassFile.FieldType)) ∈ lw_all := lw_g (lw_at lw_m10 35 rfl) rfl
theorem q2281 : (Jvm.Cond.methodLink "SharedSheetModel" (272 : Nat) ({ cls := "SharedSheetModel", name := "showsNamed", desc := "(I)V" } : Jvm.MethodName)) ∈ lw_all := lw_g (lw_at lw_m10 36 rfl) rfl
theorem q2282 : (Jvm.Cond.privateMethod ({ cls := "SharedSheetModel", name := "showsNamed", desc := "(I)V" } : Jvm.MethodName)) ∈ lw_tbl := lw_at lw_m10 37 rfl
theorem q2283 : (Jvm.Cond.instanceMethod ({ cls := "SharedSheetModel", name := "showsNamed", desc := "(I)V" } : Jvm.MethodName)) ∈ lw_all := lw_g (lw_at lw_m10 38 rfl) rfl
theorem q2284 : (Jvm.Cond.code ({ cls := "SharedSheetModel", name := "showsNamed", desc := "(I)V" } : Jvm.MethodName) prog_15_method_65_code (3 : Nat) (Option.none : Option Jvm.ClassFile.FieldType)) ∈ lw_all := lw_g (lw_at lw_m10 39 rfl) rfl
theorem q2285 : (Jvm.Cond.methodLink "SharedSheetModel" (275 : Nat) ({ cls := "SharedSheetModel", name := "showsNumber", desc := "(I)V" } : Jvm.MethodName)) ∈ lw_all := lw_g (lw_at lw_m10 40 rfl) rfl
theorem q2286 : (Jvm.Cond.privateMethod ({ cls := "SharedSheetModel", name := "showsNumber", desc := "(I)V" } : Jvm.MethodName)) ∈ lw_tbl := lw_at lw_m10 41 rfl
theorem q2287 : (Jvm.Cond.instanceMethod ({ cls := "SharedSheetModel", name := "showsNumber", desc := "(I)V" } : Jvm.MethodName)) ∈ lw_all := lw_g (lw_at lw_m10 42 rfl) rfl
theorem q2288 : (Jvm.Cond.code ({ cls := "SharedSheetModel", name := "showsNumber", desc := "(I)V" } : Jvm.MethodName) prog_15_method_66_code (4 : Nat) (Option.none : Option Jvm.ClassFile.FieldType)) ∈ lw_all := lw_g (lw_at lw_m10 43 rfl) rfl
theorem q2290 : (Jvm.Cond.instanceMethod ({ cls := "SharedSheetModel", name := "cycles", desc := "(I)I" } : Jvm.MethodName)) ∈ lw_all := lw_g (lw_at lw_m10 45 rfl) rfl
theorem q2291 : (Jvm.Cond.selects "SharedSheetModel" ({ cls := "SharedSheetModel", name := "cycles", desc := "(I)I" } : Jvm.MethodName) ({ cls := "SharedSheetModel", name := "cycles", desc := "(I)I" } : Jvm.MethodName)) ∈ lw_all := lw_g (lw_at lw_m10 46 rfl) rfl
theorem q2292 : (Jvm.Cond.code ({ cls := "SharedSheetModel", name := "cycles", desc := "(I)I" } : Jvm.MethodName) prog_15_method_69_code (2 : Nat) (Option.some Jvm.ClassFile.FieldType.int)) ∈ lw_all := lw_g (lw_at lw_m10 47 rfl) rfl
theorem q2293 : (Jvm.Cond.methodLink "SharedSheetModel" (278 : Nat) ({ cls := "SharedSheetModel", name := "cycleMany", desc := "()I" } : Jvm.MethodName)) ∈ lw_all := lw_g (lw_at lw_m10 48 rfl) rfl
theorem q2294 : (Jvm.Cond.privateMethod ({ cls := "SharedSheetModel", name := "cycleMany", desc := "()I" } : Jvm.MethodName)) ∈ lw_tbl := lw_at lw_m10 49 rfl
theorem q2295 : (Jvm.Cond.instanceMethod ({ cls := "SharedSheetModel", name := "cycleMany", desc := "()I" } : Jvm.MethodName)) ∈ lw_all := lw_g (lw_at lw_m10 50 rfl) rfl
theorem q2296 : (Jvm.Cond.code ({ cls := "SharedSheetModel", name := "cycleMany", desc := "()I" } : Jvm.MethodName) prog_15_method_68_code (3 : Nat) (Option.some Jvm.ClassFile.FieldType.int)) ∈ lw_all := lw_g (lw_at lw_m10 51 rfl) rfl
theorem q2298 : (Jvm.Cond.instanceMethod ({ cls := "SharedSheetModel", name := "order", desc := "(II)I" } : Jvm.MethodName)) ∈ lw_all := lw_g (lw_at lw_m10 53 rfl) rfl
theorem q2299 : (Jvm.Cond.selects "SharedSheetModel" ({ cls := "SharedSheetModel", name := "order", desc := "(II)I" } : Jvm.MethodName) ({ cls := "SharedSheetModel", name := "order", desc := "(II)I" } : Jvm.MethodName)) ∈ lw_all := lw_g (lw_at lw_m10 54 rfl) rfl
theorem q2300 : (Jvm.Cond.code ({ cls := "SharedSheetModel", name := "order", desc := "(II)I" } : Jvm.MethodName) prog_15_method_71_code (4 : Nat) (Option.some Jvm.ClassFile.FieldType.int)) ∈ lw_all := lw_g (lw_at lw_m10 55 rfl) rfl
theorem q2301 : (Jvm.Cond.methodLink "SharedSheetModel" (281 : Nat) ({ cls := "SharedSheetModel", name := "orders", desc := "()I" } : Jvm.MethodName)) ∈ lw_all := lw_g (lw_at lw_m10 56 rfl) rfl
theorem q2302 : (Jvm.Cond.privateMethod ({ cls := "SharedSheetModel", name := "orders", desc := "()I" } : Jvm.MethodName)) ∈ lw_tbl := lw_at lw_m10 57 rfl
theorem q2303 : (Jvm.Cond.instanceMethod ({ cls := "SharedSheetModel", name := "orders", desc := "()I" } : Jvm.MethodName)) ∈ lw_all := lw_g (lw_at lw_m10 58 rfl) rfl
theorem q2304 : (Jvm.Cond.code ({ cls := "SharedSheetModel", name := "orders", desc := "()I" } : Jvm.MethodName) prog_15_method_70_code (4 : Nat) (Option.some Jvm.ClassFile.FieldType.int)) ∈ lw_all := lw_g (lw_at lw_m10 59 rfl) rfl
theorem q2306 : (Jvm.Cond.instanceMethod ({ cls := "SharedSheetModel", name := "receive", desc := "(III)I" } : Jvm.MethodName)) ∈ lw_all := lw_g (lw_at lw_m10 61 rfl) rfl
theorem q2307 : (Jvm.Cond.selects "SharedSheetModel" ({ cls := "SharedSheetModel", name := "receive", desc := "(III)I" } : Jvm.MethodName) ({ cls := "SharedSheetModel", name := "receive", desc := "(III)I" } : Jvm.MethodName)) ∈ lw_all := lw_g (lw_at lw_m10 62 rfl) rfl
theorem q2308 : (Jvm.Cond.code ({ cls := "SharedSheetModel", name := "receive", desc := "(III)I" } : Jvm.MethodName) prog_15_method_74_code (4 : Nat) (Option.some Jvm.ClassFile.FieldType.int)) ∈ lw_all := lw_g (lw_at lw_m10 63 rfl) rfl
theorem q2309 : (Jvm.Cond.methodLink "SharedSheetModel" (287 : Nat) ({ cls := "SharedSheetModel", name := "gets", desc := "(III)I" } : Jvm.MethodName)) ∈ lw_all := lw_g (lw_at lw_m10 64 rfl) rfl
theorem q2310 : (Jvm.Cond.privateMethod ({ cls := "SharedSheetModel", name := "gets", desc := "(III)I" } : Jvm.MethodName)) ∈ lw_tbl := lw_at lw_m10 65 rfl
theorem q2311 : (Jvm.Cond.instanceMethod ({ cls := "SharedSheetModel", name := "gets", desc := "(III)I" } : Jvm.MethodName)) ∈ lw_all := lw_g (lw_at lw_m10 66 rfl) rfl
theorem q2312 : (Jvm.Cond.code ({ cls := "SharedSheetModel", name := "gets", desc := "(III)I" } : Jvm.MethodName) prog_15_method_73_code (7 : Nat) (Option.some Jvm.ClassFile.FieldType.int)) ∈ lw_all := lw_g (lw_at lw_m10 67 rfl) rfl
theorem q2313 : (Jvm.Cond.methodLink "SharedSheetModel" (284 : Nat) ({ cls := "SharedSheetModel", name := "missed", desc := "(II)I" } : Jvm.MethodName)) ∈ lw_all := lw_g (lw_at lw_m10 68 rfl) rfl
theorem q2314 : (Jvm.Cond.privateMethod ({ cls := "SharedSheetModel", name := "missed", desc := "(II)I" } : Jvm.MethodName)) ∈ lw_tbl := lw_at lw_m10 69 rfl
theorem q2315 : (Jvm.Cond.instanceMethod ({ cls := "SharedSheetModel", name := "missed", desc := "(II)I" } : Jvm.MethodName)) ∈ lw_all := lw_g (lw_at lw_m10 70 rfl) rfl
theorem q2316 : (Jvm.Cond.code ({ cls := "SharedSheetModel", name := "missed", desc := "(II)I" } : Jvm.MethodName) prog_15_method_72_code (3 : Nat) (Option.some Jvm.ClassFile.FieldType.int)) ∈ lw_all := lw_g (lw_at lw_m10 71 rfl) rfl
theorem q2318 : (Jvm.Cond.instanceMethod ({ cls := "SharedSheetModel", name := "settle", desc := "()I" } : Jvm.MethodName)) ∈ lw_all := lw_g (lw_at lw_m10 73 rfl) rfl
theorem q2319 : (Jvm.Cond.selects "SharedSheetModel" ({ cls := "SharedSheetModel", name := "settle", desc := "()I" } : Jvm.MethodName) ({ cls := "SharedSheetModel", name := "settle", desc := "()I" } : Jvm.MethodName)) ∈ lw_all := lw_g (lw_at lw_m10 74 rfl) rfl
theorem q2320 : (Jvm.Cond.code ({ cls := "SharedSheetModel", name := "settle", desc := "()I" } : Jvm.MethodName) prog_15_method_75_code (4 : Nat) (Option.some Jvm.ClassFile.FieldType.int)) ∈ lw_all := lw_g (lw_at lw_m10 75 rfl) rfl
theorem q2322 : (Jvm.Cond.instanceMethod ({ cls := "SharedSheetModel", name := "missing", desc := "(II)I" } : Jvm.MethodName)) ∈ lw_all := lw_g (lw_at lw_m10 77 rfl) rfl
theorem q2323 : (Jvm.Cond.selects "SharedSheetModel" ({ cls := "SharedSheetModel", name := "missing", desc := "(II)I" } : Jvm.MethodName) ({ cls := "SharedSheetModel", name := "missing", desc := "(II)I" } : Jvm.MethodName)) ∈ lw_all := lw_g (lw_at lw_m10 78 rfl) rfl
theorem q2324 : (Jvm.Cond.code ({ cls := "SharedSheetModel", name := "missing", desc := "(II)I" } : Jvm.MethodName) prog_15_method_76_code (3 : Nat) (Option.some Jvm.ClassFile.FieldType.int)) ∈ lw_all := lw_g (lw_at lw_m10 79 rfl) rfl
theorem q2326 : (Jvm.Cond.instanceMethod ({ cls := "SharedSheetModel", name := "clock", desc := "(I)I" } : Jvm.MethodName)) ∈ lw_all := lw_g (lw_at lw_m10 81 rfl) rfl
theorem q2327 : (Jvm.Cond.selects "SharedSheetModel" ({ cls := "SharedSheetModel", name := "clock", desc := "(I)I" } : Jvm.MethodName) ({ cls := "SharedSheetModel", name := "clock", desc := "(I)I" } : Jvm.MethodName)) ∈ lw_all := lw_g (lw_at lw_m10 82 rfl) rfl
theorem q2328 : (Jvm.Cond.code ({ cls := "SharedSheetModel", name := "clock", desc := "(I)I" } : Jvm.MethodName) prog_15_method_77_code (2 : Nat) (Option.some Jvm.ClassFile.FieldType.int)) ∈ lw_all := lw_g (lw_at lw_m10 83 rfl) rfl
theorem q2330 : (Jvm.Cond.instanceMethod ({ cls := "SharedSheetModel", name := "operation", desc := "(III)I" } : Jvm.MethodName)) ∈ lw_all := lw_g (lw_at lw_m10 85 rfl) rfl
theorem q2331 : (Jvm.Cond.selects "SharedSheetModel" ({ cls := "SharedSheetModel", name := "operation", desc := "(III)I" } : Jvm.MethodName) ({ cls := "SharedSheetModel", name := "operation", desc := "(III)I" } : Jvm.MethodName)) ∈ lw_all := lw_g (lw_at lw_m10 86 rfl) rfl
theorem q2332 : (Jvm.Cond.code ({ cls := "SharedSheetModel", name := "operation", desc := "(III)I" } : Jvm.MethodName) prog_15_method_78_code (4 : Nat) (Option.some Jvm.ClassFile.FieldType.int)) ∈ lw_all := lw_g (lw_at lw_m10 87 rfl) rfl
theorem q2334 : (Jvm.Cond.instanceMethod ({ cls := "SharedSheetModel", name := "areAlike", desc := "(II)Z" } : Jvm.MethodName)) ∈ lw_all := lw_g (lw_at lw_m10 89 rfl) rfl
theorem q2335 : (Jvm.Cond.selects "SharedSheetModel" ({ cls := "SharedSheetModel", name := "areAlike", desc := "(II)Z" } : Jvm.MethodName) ({ cls := "SharedSheetModel", name := "areAlike", desc := "(II)Z" } : Jvm.MethodName)) ∈ lw_all := lw_g (lw_at lw_m10 90 rfl) rfl
theorem q2336 : (Jvm.Cond.code ({ cls := "SharedSheetModel", name := "areAlike", desc := "(II)Z" } : Jvm.MethodName) prog_15_method_80_code (5 : Nat) (Option.some Jvm.ClassFile.FieldType.boolean)) ∈ lw_all := lw_g (lw_at lw_m10 91 rfl) rfl
theorem q2337 : (Jvm.Cond.methodLink "SharedSheetModel" (290 : Nat) ({ cls := "SharedSheetModel", name := "pictures", desc := "(I)V" } : Jvm.MethodName)) ∈ lw_all := lw_g (lw_at lw_m10 92 rfl) rfl
theorem q2338 : (Jvm.Cond.privateMethod ({ cls := "SharedSheetModel", name := "pictures", desc := "(I)V" } : Jvm.MethodName)) ∈ lw_tbl := lw_at lw_m10 93 rfl
theorem q2339 : (Jvm.Cond.instanceMethod ({ cls := "SharedSheetModel", name := "pictures", desc := "(I)V" } : Jvm.MethodName)) ∈ lw_all := lw_g (lw_at lw_m10 94 rfl) rfl
theorem q2340 : (Jvm.Cond.code ({ cls := "SharedSheetModel", name := "pictures", desc := "(I)V" } : Jvm.MethodName) prog_15_method_79_code (3 : Nat) (Option.none : Option Jvm.ClassFile.FieldType)) ∈ lw_all := lw_g (lw_at lw_m10 95 rfl) rfl
theorem q2342 : (Jvm.Cond.instanceMethod ({ cls := "SharedSheetModel", name := "different", desc := "(II)I" } : Jvm.MethodName)) ∈ lw_all := lw_g (lw_at lw_m10 97 rfl) rfl
theorem q2343 : (Jvm.Cond.selects "SharedSheetModel" ({ cls := "SharedSheetModel", name := "different", desc := "(II)I" } : Jvm.MethodName) ({ cls := "SharedSheetModel", name := "different", desc := "(II)I" } : Jvm.MethodName)) ∈ lw_all := lw_g (lw_at lw_m10 98 rfl) rfl
theorem q2344 : (Jvm.Cond.code ({ cls := "SharedSheetModel", name := "different", desc := "(II)I" } : Jvm.MethodName) prog_15_method_81_code (5 : Nat) (Option.some Jvm.ClassFile.FieldType.int)) ∈ lw_all := lw_g (lw_at lw_m10 99 rfl) rfl
theorem q2346 : (Jvm.Cond.instanceMethod ({ cls := "SharedSheetModel", name := "type", desc := "(I)I" } : Jvm.MethodName)) ∈ lw_all := lw_g (lw_at lw_m10 101 rfl) rfl
theorem q2347 : (Jvm.Cond.selects "SharedSheetModel" ({ cls := "SharedSheetModel", name := "type", desc := "(I)I" } : Jvm.MethodName) ({ cls := "SharedSheetModel", name := "type", desc := "(I)I" } : Jvm.MethodName)) ∈ lw_all := lw_g (lw_at lw_m10 102 rfl) rfl
theorem q2348 : (Jvm.Cond.code ({ cls := "SharedSheetModel", name := "type", desc := "(I)I" } : Jvm.MethodName) prog_15_method_82_code (2 : Nat) (Option.some Jvm.ClassFile.FieldType.int)) ∈ lw_all := lw_g (lw_at lw_m10 103 rfl) rfl
theorem q2350 : (Jvm.Cond.instanceMethod ({ cls := "SharedSheetModel", name := "clearText", desc := "()I" } : Jvm.MethodName)) ∈ lw_all := lw_g (lw_at lw_m10 105 rfl) rfl
theorem q2351 : (Jvm.Cond.selects "SharedSheetModel" ({ cls := "SharedSheetModel", name := "clearText", desc := "()I" } : Jvm.MethodName) ({ cls := "SharedSheetModel", name := "clearText", desc := "()I" } : Jvm.MethodName)) ∈ lw_all := lw_g (lw_at lw_m10 106 rfl) rfl
theorem q2352 : (Jvm.Cond.code ({ cls := "SharedSheetModel", name := "clearText", desc := "()I" } : Jvm.MethodName) prog_15_method_83_code (2 : Nat) (Option.some Jvm.ClassFile.FieldType.int)) ∈ lw_all := lw_g (lw_at lw_m10 107 rfl) rfl
theorem q2354 : (Jvm.Cond.instanceMethod ({ cls := "SharedSheetModel", name := "character", desc := "(I)I" } : Jvm.MethodName)) ∈ lw_all := lw_g (lw_at lw_m10 109 rfl) rfl
theorem q2355 : (Jvm.Cond.selects "SharedSheetModel" ({ cls := "SharedSheetModel", name := "character", desc := "(I)I" } : Jvm.MethodName) ({ cls := "SharedSheetModel", name := "character", desc := "(I)I" } : Jvm.MethodName)) ∈ lw_all := lw_g (lw_at lw_m10 110 rfl) rfl
theorem q2356 : (Jvm.Cond.code ({ cls := "SharedSheetModel", name := "character", desc := "(I)I" } : Jvm.MethodName) prog_15_method_84_code (2 : Nat) (Option.some Jvm.ClassFile.FieldType.int)) ∈ lw_all := lw_g (lw_at lw_m10 111 rfl) rfl
theorem q2358 : (Jvm.Cond.instanceMethod ({ cls := "SharedSheetModel", name := "undo", desc := "()I" } : Jvm.MethodName)) ∈ lw_all := lw_g (lw_at lw_m10 113 rfl) rfl
theorem q2359 : (Jvm.Cond.selects "SharedSheetModel" ({ cls := "SharedSheetModel", name := "undo", desc := "()I" } : Jvm.MethodName) ({ cls := "SharedSheetModel", name := "undo", desc := "()I" } : Jvm.MethodName)) ∈ lw_all := lw_g (lw_at lw_m10 114 rfl) rfl
theorem q2360 : (Jvm.Cond.code ({ cls := "SharedSheetModel", name := "undo", desc := "()I" } : Jvm.MethodName) prog_15_method_85_code (2 : Nat) (Option.some Jvm.ClassFile.FieldType.int)) ∈ lw_all := lw_g (lw_at lw_m10 115 rfl) rfl
theorem q2362 : (Jvm.Cond.instanceMethod ({ cls := "SharedSheetModel", name := "checksum", desc := "()J" } : Jvm.MethodName)) ∈ lw_all := lw_g (lw_at lw_m10 117 rfl) rfl
theorem q2363 : (Jvm.Cond.selects "SharedSheetModel" ({ cls := "SharedSheetModel", name := "checksum", desc := "()J" } : Jvm.MethodName) ({ cls := "SharedSheetModel", name := "checksum", desc := "()J" } : Jvm.MethodName)) ∈ lw_all := lw_g (lw_at lw_m10 118 rfl) rfl
theorem q2364 : (Jvm.Cond.code ({ cls := "SharedSheetModel", name := "checksum", desc := "()J" } : Jvm.MethodName) prog_15_method_89_code (2 : Nat) (Option.some Jvm.ClassFile.FieldType.long)) ∈ lw_all := lw_g (lw_at lw_m10 119 rfl) rfl
theorem q2365 : (Jvm.Cond.constantLong "SharedSheetModel" (305 : Nat) (18539 : Int64)) ∈ lw_all := lw_g (lw_at lw_m10 120 rfl) rfl
theorem q2366 : (Jvm.Cond.methodLink "SharedSheetModel" (307 : Nat) ({ cls := "SharedSheetModel", name := "mixReplica", desc := "(I)V" } : Jvm.MethodName)) ∈ lw_all := lw_g (lw_at lw_m10 121 rfl) rfl
theorem q2367 : (Jvm.Cond.privateMethod ({ cls := "SharedSheetModel", name := "mixReplica", desc := "(I)V" } : Jvm.MethodName)) ∈ lw_tbl := lw_at lw_m10 122 rfl
theorem q2368 : (Jvm.Cond.instanceMethod ({ cls := "SharedSheetModel", name := "mixReplica", desc := "(I)V" } : Jvm.MethodName)) ∈ lw_all := lw_g (lw_at lw_m10 123 rfl) rfl
theorem q2369 : (Jvm.Cond.code ({ cls := "SharedSheetModel", name := "mixReplica", desc := "(I)V" } : Jvm.MethodName) prog_15_method_88_code (6 : Nat) (Option.none : Option Jvm.ClassFile.FieldType)) ∈ lw_all := lw_g (lw_at lw_m10 124 rfl) rfl
theorem q2370 : (Jvm.Cond.methodLink "SharedSheetModel" (298 : Nat) ({ cls := "SharedSheetModel", name := "mix", desc := "(J)V" } : Jvm.MethodName)) ∈ lw_all := lw_g (lw_at lw_m10 125 rfl) rfl
theorem q2371 : (Jvm.Cond.privateMethod ({ cls := "SharedSheetModel", name := "mix", desc := "(J)V" } : Jvm.MethodName)) ∈ lw_tbl := lw_at lw_m10 126 rfl
theorem q2372 : (Jvm.Cond.instanceMethod ({ cls := "SharedSheetModel", name := "mix", desc := "(J)V" } : Jvm.MethodName)) ∈ lw_all := lw_g (lw_at lw_m10 127 rfl) rfl
theorem q2373 : (Jvm.Cond.code ({ cls := "SharedSheetModel", name := "mix", desc := "(J)V" } : Jvm.MethodName) prog_15_method_86_code (3 : Nat) (Option.none : Option Jvm.ClassFile.FieldType)) ∈ lw_all := lw_g (lw_at lw_m10 128 rfl) rfl
theorem q2374 : (Jvm.Cond.constantLong "SharedSheetModel" (293 : Nat) (31 : Int64)) ∈ lw_all := lw_g (lw_at lw_m10 129 rfl) rfl
theorem q2375 : (Jvm.Cond.methodLink "SharedSheetModel" (302 : Nat) ({ cls := "SharedSheetModel", name := "mixLines", desc := "(II)V" } : Jvm.MethodName)) ∈ lw_all := lw_g (lw_at lw_m10 130 rfl) rfl
theorem q2376 : (Jvm.Cond.privateMethod ({ cls := "SharedSheetModel", name := "mixLines", desc := "(II)V" } : Jvm.MethodName)) ∈ lw_tbl := lw_at lw_m10 131 rfl
theorem q2377 : (Jvm.Cond.instanceMethod ({ cls := "SharedSheetModel", name := "mixLines", desc := "(II)V" } : Jvm.MethodName)) ∈ lw_all := lw_g (lw_at lw_m10 132 rfl) rfl
theorem q2378 : (Jvm.Cond.code ({ cls := "SharedSheetModel", name := "mixLines", desc := "(II)V" } : Jvm.MethodName) prog_15_method_87_code (5 : Nat) (Option.none : Option Jvm.ClassFile.FieldType)) ∈ lw_all := lw_g (lw_at lw_m10 133 rfl) rfl
theorem q2407 : (Jvm.Cond.castable "SharedSheetModel" "java/lang/Object") ∈ lw_tbl := lw_at lw_m10 162 rfl
theorem in_X6 : ∀ w ∈ wsX60, w ∈ lw_all := lw_in wsX60 [1972, 1974, 1976, 1978, 1980, 1982, 1984, 1986, 1988, 1990, 1992, 1994, 1996, 1998, 2000, 2002, 2004, 2006, 2008, 2010, 2012, 2014, 2016, 2018, 2020, 2022, 2024, 2026, 2028, 2030, 2032] (by decide +kernel) (by decide +kernel)
