/-! SharedSheet$View -/
set_option maxRecDepth 100000
def RX9 : String := "SharedSheet$View"
def TX9 : u_T := fun k => match k with
  | 0 => ("SharedSheet$View", "replica", "LSharedSheet$Replica;", true)
  | 1 => ("SharedSheet$View", "rows", "Ljava/util/List;", true)
  | 2 => ("SharedSheet$View", "columns", "Ljava/util/List;", true)
  | 3 => ("SharedSheet$View", "wide", "I", true)
  | 4 => ("SharedSheet$View", "size", "I", true)
  | 5 => ("SharedSheet$View", "refers", "[[Z", true)
  | 6 => ("SharedSheet$View", "reaches", "[[Z", true)
  | 7 => ("SharedSheet$View", "isKnown", "[Z", true)
  | 8 => ("SharedSheet$View", "values", "[J", true)
  | _ => ("SharedSheet$View", "errors", "[I", true)
def tyX9 : Nat → FieldType := fun k => match k with
  | 0 => .object "SharedSheet$Replica"
  | 1 => .object "java/util/List"
  | 2 => .object "java/util/List"
  | 3 => .int
  | 4 => .int
  | 5 => .array (.array .boolean)
  | 6 => .array (.array .boolean)
  | 7 => .array .boolean
  | 8 => .array .long
  | _ => .array .int
abbrev wsX90 : List Cond := u_ws RX9 TX9 10
theorem nmX9 : ∀ a, a < 10 → ∀ b, b < 10 → a ≠ b → (TX9 a).2.1 ≠ (TX9 b).2.1 := by decide +kernel
theorem tyX9_ok : ∀ k, k < 10 → parseFieldDescriptor (TX9 k).2.2.1 = some (tyX9 k) := by decide +kernel
abbrev cX9_init : ByteArray := prog_13_method_1_code
def yX9_init : MethodName := ⟨RX9, "<init>", "(LSharedSheet$Replica;)V"⟩
def dkwX9_init_6 : List UInt8 := [167, 255, 240, 42, 182, 0, 64, 177]
abbrev dktX9_init_6 : List UInt8 := dkwX9_init_6 ++ []
def dkwX9_init_5 : List UInt8 := [188, 10, 181, 0, 56, 3, 61, 28, 42, 180, 0, 38, 162, 0, 14, 42, 28, 182, 0, 60, 132, 2, 1]
abbrev dktX9_init_5 : List UInt8 := dkwX9_init_5 ++ dktX9_init_6
def dkwX9_init_4 : List UInt8 := [42, 180, 0, 38, 188, 4, 181, 0, 48, 42, 42, 180, 0, 38, 188, 11, 181, 0, 52, 42, 42, 180, 0, 38]
abbrev dktX9_init_4 : List UInt8 := dkwX9_init_4 ++ dktX9_init_5
def dkwX9_init_3 : List UInt8 := [197, 0, 40, 2, 181, 0, 42, 42, 42, 180, 0, 38, 42, 180, 0, 38, 197, 0, 40, 2, 181, 0, 45, 42]
abbrev dktX9_init_3 : List UInt8 := dkwX9_init_3 ++ dktX9_init_4
def dkwX9_init_2 : List UInt8 := [185, 0, 28, 1, 0, 42, 180, 0, 34, 104, 181, 0, 38, 42, 42, 180, 0, 38, 42, 180, 0, 38]
abbrev dktX9_init_2 : List UInt8 := dkwX9_init_2 ++ dktX9_init_3
def dkwX9_init_1 : List UInt8 := [181, 0, 25, 42, 42, 180, 0, 25, 185, 0, 28, 1, 0, 181, 0, 34, 42, 42, 180, 0, 21]
abbrev dktX9_init_1 : List UInt8 := dkwX9_init_1 ++ dktX9_init_2
def dkwX9_init_0 : List UInt8 := [42, 183, 0, 3, 42, 43, 181, 0, 9, 42, 43, 3, 182, 0, 15, 181, 0, 21, 42, 43, 4, 182, 0, 15]
abbrev dktX9_init_0 : List UInt8 := dkwX9_init_0 ++ dktX9_init_1
theorem dksX9_init_0 : cX9_init.data.toList.drop 0 = dktX9_init_0 := by decide +kernel
theorem dksX9_init_1 : cX9_init.data.toList.drop 24 = dktX9_init_1 := dk_seg dksX9_init_0 24 rfl rfl
theorem dksX9_init_2 : cX9_init.data.toList.drop 45 = dktX9_init_2 := dk_seg dksX9_init_1 21 rfl rfl
theorem dksX9_init_3 : cX9_init.data.toList.drop 67 = dktX9_init_3 := dk_seg dksX9_init_2 22 rfl rfl
theorem dksX9_init_4 : cX9_init.data.toList.drop 91 = dktX9_init_4 := dk_seg dksX9_init_3 24 rfl rfl
theorem dksX9_init_5 : cX9_init.data.toList.drop 115 = dktX9_init_5 := dk_seg dksX9_init_4 24 rfl rfl
theorem dksX9_init_6 : cX9_init.data.toList.drop 138 = dktX9_init_6 := dk_seg dksX9_init_5 23 rfl rfl
theorem dX9_init_0 : decode cX9_init 0 = .ok (.aload_n 0, 1) := dk_42 (dk_at dksX9_init_0 0 rfl rfl)
theorem dX9_init_1 : decode cX9_init 1 = .ok (.invokespecial 3, 3) := dk_183 0 3 (dk_at dksX9_init_0 1 rfl rfl)
theorem dX9_init_4 : decode cX9_init 4 = .ok (.aload_n 0, 1) := dk_42 (dk_at dksX9_init_0 4 rfl rfl)
theorem dX9_init_5 : decode cX9_init 5 = .ok (.aload_n 1, 1) := dk_43 (dk_at dksX9_init_0 5 rfl rfl)
theorem dX9_init_6 : decode cX9_init 6 = .ok (.putfield 9, 3) := dk_181 0 9 (dk_at dksX9_init_0 6 rfl rfl)
theorem dX9_init_9 : decode cX9_init 9 = .ok (.aload_n 0, 1) := dk_42 (dk_at dksX9_init_0 9 rfl rfl)
theorem dX9_init_10 : decode cX9_init 10 = .ok (.aload_n 1, 1) := dk_43 (dk_at dksX9_init_0 10 rfl rfl)
theorem dX9_init_11 : decode cX9_init 11 = .ok (.iconst 0, 1) := dk_3 (dk_at dksX9_init_0 11 rfl rfl)
theorem dX9_init_12 : decode cX9_init 12 = .ok (.invokevirtual 15, 3) := dk_182 0 15 (dk_at dksX9_init_0 12 rfl rfl)
theorem dX9_init_15 : decode cX9_init 15 = .ok (.putfield 21, 3) := dk_181 0 21 (dk_at dksX9_init_0 15 rfl rfl)
theorem dX9_init_18 : decode cX9_init 18 = .ok (.aload_n 0, 1) := dk_42 (dk_at dksX9_init_0 18 rfl rfl)
theorem dX9_init_19 : decode cX9_init 19 = .ok (.aload_n 1, 1) := dk_43 (dk_at dksX9_init_0 19 rfl rfl)
theorem dX9_init_20 : decode cX9_init 20 = .ok (.iconst 1, 1) := dk_4 (dk_at dksX9_init_0 20 rfl rfl)
theorem dX9_init_21 : decode cX9_init 21 = .ok (.invokevirtual 15, 3) := dk_182 0 15 (dk_at dksX9_init_0 21 rfl rfl)
theorem dX9_init_24 : decode cX9_init 24 = .ok (.putfield 25, 3) := dk_181 0 25 (dk_at dksX9_init_1 0 rfl rfl)
theorem dX9_init_27 : decode cX9_init 27 = .ok (.aload_n 0, 1) := dk_42 (dk_at dksX9_init_1 3 rfl rfl)
theorem dX9_init_28 : decode cX9_init 28 = .ok (.aload_n 0, 1) := dk_42 (dk_at dksX9_init_1 4 rfl rfl)
theorem dX9_init_29 : decode cX9_init 29 = .ok (.getfield 25, 3) := dk_180 0 25 (dk_at dksX9_init_1 5 rfl rfl)
theorem dX9_init_32 : decode cX9_init 32 = .ok (.invokeinterface 28 1, 5) := by decide +kernel
theorem dX9_init_37 : decode cX9_init 37 = .ok (.putfield 34, 3) := dk_181 0 34 (dk_at dksX9_init_1 13 rfl rfl)
theorem dX9_init_40 : decode cX9_init 40 = .ok (.aload_n 0, 1) := dk_42 (dk_at dksX9_init_1 16 rfl rfl)
theorem dX9_init_41 : decode cX9_init 41 = .ok (.aload_n 0, 1) := dk_42 (dk_at dksX9_init_1 17 rfl rfl)
theorem dX9_init_42 : decode cX9_init 42 = .ok (.getfield 21, 3) := dk_180 0 21 (dk_at dksX9_init_1 18 rfl rfl)
theorem dX9_init_45 : decode cX9_init 45 = .ok (.invokeinterface 28 1, 5) := by decide +kernel
theorem dX9_init_50 : decode cX9_init 50 = .ok (.aload_n 0, 1) := dk_42 (dk_at dksX9_init_2 5 rfl rfl)
theorem dX9_init_51 : decode cX9_init 51 = .ok (.getfield 34, 3) := dk_180 0 34 (dk_at dksX9_init_2 6 rfl rfl)
theorem dX9_init_54 : decode cX9_init 54 = .ok (.imul, 1) := dk_104 (dk_at dksX9_init_2 9 rfl rfl)
theorem dX9_init_55 : decode cX9_init 55 = .ok (.putfield 38, 3) := dk_181 0 38 (dk_at dksX9_init_2 10 rfl rfl)
theorem dX9_init_58 : decode cX9_init 58 = .ok (.aload_n 0, 1) := dk_42 (dk_at dksX9_init_2 13 rfl rfl)
theorem dX9_init_59 : decode cX9_init 59 = .ok (.aload_n 0, 1) := dk_42 (dk_at dksX9_init_2 14 rfl rfl)
theorem dX9_init_60 : decode cX9_init 60 = .ok (.getfield 38, 3) := dk_180 0 38 (dk_at dksX9_init_2 15 rfl rfl)
theorem dX9_init_63 : decode cX9_init 63 = .ok (.aload_n 0, 1) := dk_42 (dk_at dksX9_init_2 18 rfl rfl)
theorem dX9_init_64 : decode cX9_init 64 = .ok (.getfield 38, 3) := dk_180 0 38 (dk_at dksX9_init_2 19 rfl rfl)
theorem dX9_init_67 : decode cX9_init 67 = .ok (.multianewarray 40 2, 4) := by decide +kernel
theorem dX9_init_71 : decode cX9_init 71 = .ok (.putfield 42, 3) := dk_181 0 42 (dk_at dksX9_init_3 4 rfl rfl)
theorem dX9_init_74 : decode cX9_init 74 = .ok (.aload_n 0, 1) := dk_42 (dk_at dksX9_init_3 7 rfl rfl)
theorem dX9_init_75 : decode cX9_init 75 = .ok (.aload_n 0, 1) := dk_42 (dk_at dksX9_init_3 8 rfl rfl)
theorem dX9_init_76 : decode cX9_init 76 = .ok (.getfield 38, 3) := dk_180 0 38 (dk_at dksX9_init_3 9 rfl rfl)
theorem dX9_init_79 : decode cX9_init 79 = .ok (.aload_n 0, 1) := dk_42 (dk_at dksX9_init_3 12 rfl rfl)
theorem dX9_init_80 : decode cX9_init 80 = .ok (.getfield 38, 3) := dk_180 0 38 (dk_at dksX9_init_3 13 rfl rfl)
theorem dX9_init_83 : decode cX9_init 83 = .ok (.multianewarray 40 2, 4) := by decide +kernel
theorem dX9_init_87 : decode cX9_init 87 = .ok (.putfield 45, 3) := dk_181 0 45 (dk_at dksX9_init_3 20 rfl rfl)
theorem dX9_init_90 : decode cX9_init 90 = .ok (.aload_n 0, 1) := dk_42 (dk_at dksX9_init_3 23 rfl rfl)
theorem dX9_init_91 : decode cX9_init 91 = .ok (.aload_n 0, 1) := dk_42 (dk_at dksX9_init_4 0 rfl rfl)
theorem dX9_init_92 : decode cX9_init 92 = .ok (.getfield 38, 3) := dk_180 0 38 (dk_at dksX9_init_4 1 rfl rfl)
theorem dX9_init_95 : decode cX9_init 95 = .ok (.newarray .boolean, 2) := dk_188_4 (dk_at dksX9_init_4 4 rfl rfl)
theorem dX9_init_97 : decode cX9_init 97 = .ok (.putfield 48, 3) := dk_181 0 48 (dk_at dksX9_init_4 6 rfl rfl)
theorem dX9_init_100 : decode cX9_init 100 = .ok (.aload_n 0, 1) := dk_42 (dk_at dksX9_init_4 9 rfl rfl)
theorem dX9_init_101 : decode cX9_init 101 = .ok (.aload_n 0, 1) := dk_42 (dk_at dksX9_init_4 10 rfl rfl)
theorem dX9_init_102 : decode cX9_init 102 = .ok (.getfield 38, 3) := dk_180 0 38 (dk_at dksX9_init_4 11 rfl rfl)
theorem dX9_init_105 : decode cX9_init 105 = .ok (.newarray .long, 2) := dk_188_11 (dk_at dksX9_init_4 14 rfl rfl)
theorem dX9_init_107 : decode cX9_init 107 = .ok (.putfield 52, 3) := dk_181 0 52 (dk_at dksX9_init_4 16 rfl rfl)
theorem dX9_init_110 : decode cX9_init 110 = .ok (.aload_n 0, 1) := dk_42 (dk_at dksX9_init_4 19 rfl rfl)
theorem dX9_init_111 : decode cX9_init 111 = .ok (.aload_n 0, 1) := dk_42 (dk_at dksX9_init_4 20 rfl rfl)
theorem dX9_init_112 : decode cX9_init 112 = .ok (.getfield 38, 3) := dk_180 0 38 (dk_at dksX9_init_4 21 rfl rfl)
theorem dX9_init_115 : decode cX9_init 115 = .ok (.newarray .int, 2) := dk_188_10 (dk_at dksX9_init_5 0 rfl rfl)
theorem dX9_init_117 : decode cX9_init 117 = .ok (.putfield 56, 3) := dk_181 0 56 (dk_at dksX9_init_5 2 rfl rfl)
theorem dX9_init_120 : decode cX9_init 120 = .ok (.iconst 0, 1) := dk_3 (dk_at dksX9_init_5 5 rfl rfl)
theorem dX9_init_121 : decode cX9_init 121 = .ok (.istore_n 2, 1) := dk_61 (dk_at dksX9_init_5 6 rfl rfl)
theorem dX9_init_122 : decode cX9_init 122 = .ok (.iload_n 2, 1) := dk_28 (dk_at dksX9_init_5 7 rfl rfl)
theorem dX9_init_123 : decode cX9_init 123 = .ok (.aload_n 0, 1) := dk_42 (dk_at dksX9_init_5 8 rfl rfl)
theorem dX9_init_124 : decode cX9_init 124 = .ok (.getfield 38, 3) := dk_180 0 38 (dk_at dksX9_init_5 9 rfl rfl)
theorem dX9_init_127 : decode cX9_init 127 = .ok (.if_icmp .ge 14, 3) := dk_162 0 14 (dk_at dksX9_init_5 12 rfl rfl)
theorem dX9_init_130 : decode cX9_init 130 = .ok (.aload_n 0, 1) := dk_42 (dk_at dksX9_init_5 15 rfl rfl)
theorem dX9_init_131 : decode cX9_init 131 = .ok (.iload_n 2, 1) := dk_28 (dk_at dksX9_init_5 16 rfl rfl)
theorem dX9_init_132 : decode cX9_init 132 = .ok (.invokevirtual 60, 3) := dk_182 0 60 (dk_at dksX9_init_5 17 rfl rfl)
theorem dX9_init_135 : decode cX9_init 135 = .ok (.iinc 2 1, 3) := dk_132 2 1 (dk_at dksX9_init_5 20 rfl rfl)
theorem dX9_init_138 : decode cX9_init 138 = .ok (.goto (-16), 3) := dk_167 255 240 (dk_at dksX9_init_6 0 rfl rfl)
theorem dX9_init_141 : decode cX9_init 141 = .ok (.aload_n 0, 1) := dk_42 (dk_at dksX9_init_6 3 rfl rfl)
theorem dX9_init_142 : decode cX9_init 142 = .ok (.invokevirtual 64, 3) := dk_182 0 64 (dk_at dksX9_init_6 4 rfl rfl)
theorem dX9_init_145 : decode cX9_init 145 = .ok (.return_, 1) := dk_177 (dk_at dksX9_init_6 7 rfl rfl)
abbrev cX9_refer : ByteArray := prog_13_method_6_code
def yX9_refer : MethodName := ⟨RX9, "refer", "(I)V"⟩
def dkwX9_refer_6 : List UInt8 := [167, 255, 130, 177]
abbrev dktX9_refer_6 : List UInt8 := dkwX9_refer_6 ++ []
def dkwX9_refer_5 : List UInt8 := [21, 5, 42, 25, 6, 180, 0, 108, 25, 6, 180, 0, 111, 182, 0, 114, 182, 0, 118, 132, 3, 1]
abbrev dktX9_refer_5 : List UInt8 := dkwX9_refer_5 ++ dktX9_refer_6
def dkwX9_refer_4 : List UInt8 := [180, 0, 104, 16, 83, 160, 0, 38, 44, 29, 4, 96, 185, 0, 67, 2, 0, 192, 0, 102, 58, 6, 42, 27]
abbrev dktX9_refer_4 : List UInt8 := dkwX9_refer_4 ++ dktX9_refer_5
def dkwX9_refer_3 : List UInt8 := [167, 0, 4, 2, 54, 5, 21, 5, 2, 159, 0, 13, 42, 180, 0, 42, 27, 50, 21, 5, 4, 84, 25, 4]
abbrev dktX9_refer_3 : List UInt8 := dkwX9_refer_3 ++ dktX9_refer_4
def dkwX9_refer_2 : List UInt8 := [180, 0, 104, 16, 83, 160, 0, 20, 42, 25, 4, 180, 0, 108, 25, 4, 180, 0, 111, 182, 0, 114]
abbrev dktX9_refer_2 : List UInt8 := dkwX9_refer_2 ++ dktX9_refer_3
def dkwX9_refer_1 : List UInt8 := [185, 0, 67, 2, 0, 192, 0, 102, 58, 4, 25, 4, 180, 0, 104, 16, 64, 159, 0, 13, 25, 4]
abbrev dktX9_refer_1 : List UInt8 := dkwX9_refer_1 ++ dktX9_refer_2
def dkwX9_refer_0 : List UInt8 := [42, 27, 182, 0, 96, 180, 0, 99, 77, 3, 62, 29, 44, 185, 0, 28, 1, 0, 162, 0, 122, 44, 29]
abbrev dktX9_refer_0 : List UInt8 := dkwX9_refer_0 ++ dktX9_refer_1
theorem dksX9_refer_0 : cX9_refer.data.toList.drop 0 = dktX9_refer_0 := by decide +kernel
theorem dksX9_refer_1 : cX9_refer.data.toList.drop 23 = dktX9_refer_1 := dk_seg dksX9_refer_0 23 rfl rfl
theorem dksX9_refer_2 : cX9_refer.data.toList.drop 45 = dktX9_refer_2 := dk_seg dksX9_refer_1 22 rfl rfl
theorem dksX9_refer_3 : cX9_refer.data.toList.drop 67 = dktX9_refer_3 := dk_seg dksX9_refer_2 22 rfl rfl
theorem dksX9_refer_4 : cX9_refer.data.toList.drop 91 = dktX9_refer_4 := dk_seg dksX9_refer_3 24 rfl rfl
theorem dksX9_refer_5 : cX9_refer.data.toList.drop 115 = dktX9_refer_5 := dk_seg dksX9_refer_4 24 rfl rfl
theorem dksX9_refer_6 : cX9_refer.data.toList.drop 137 = dktX9_refer_6 := dk_seg dksX9_refer_5 22 rfl rfl
theorem dX9_refer_0 : decode cX9_refer 0 = .ok (.aload_n 0, 1) := dk_42 (dk_at dksX9_refer_0 0 rfl rfl)
theorem dX9_refer_1 : decode cX9_refer 1 = .ok (.iload_n 1, 1) := dk_27 (dk_at dksX9_refer_0 1 rfl rfl)
theorem dX9_refer_2 : decode cX9_refer 2 = .ok (.invokevirtual 96, 3) := dk_182 0 96 (dk_at dksX9_refer_0 2 rfl rfl)
theorem dX9_refer_5 : decode cX9_refer 5 = .ok (.getfield 99, 3) := dk_180 0 99 (dk_at dksX9_refer_0 5 rfl rfl)
theorem dX9_refer_8 : decode cX9_refer 8 = .ok (.astore_n 2, 1) := dk_77 (dk_at dksX9_refer_0 8 rfl rfl)
theorem dX9_refer_9 : decode cX9_refer 9 = .ok (.iconst 0, 1) := dk_3 (dk_at dksX9_refer_0 9 rfl rfl)
theorem dX9_refer_10 : decode cX9_refer 10 = .ok (.istore_n 3, 1) := dk_62 (dk_at dksX9_refer_0 10 rfl rfl)
theorem dX9_refer_11 : decode cX9_refer 11 = .ok (.iload_n 3, 1) := dk_29 (dk_at dksX9_refer_0 11 rfl rfl)
theorem dX9_refer_12 : decode cX9_refer 12 = .ok (.aload_n 2, 1) := dk_44 (dk_at dksX9_refer_0 12 rfl rfl)
theorem dX9_refer_13 : decode cX9_refer 13 = .ok (.invokeinterface 28 1, 5) := by decide +kernel
theorem dX9_refer_18 : decode cX9_refer 18 = .ok (.if_icmp .ge 122, 3) := dk_162 0 122 (dk_at dksX9_refer_0 18 rfl rfl)
theorem dX9_refer_21 : decode cX9_refer 21 = .ok (.aload_n 2, 1) := dk_44 (dk_at dksX9_refer_0 21 rfl rfl)
theorem dX9_refer_22 : decode cX9_refer 22 = .ok (.iload_n 3, 1) := dk_29 (dk_at dksX9_refer_0 22 rfl rfl)
theorem dX9_refer_23 : decode cX9_refer 23 = .ok (.invokeinterface 67 2, 5) := by decide +kernel
theorem dX9_refer_28 : decode cX9_refer 28 = .ok (.checkcast 102, 3) := dk_192 0 102 (dk_at dksX9_refer_1 5 rfl rfl)
theorem dX9_refer_31 : decode cX9_refer 31 = .ok (.astore 4, 2) := dk_58 4 (dk_at dksX9_refer_1 8 rfl rfl)
theorem dX9_refer_33 : decode cX9_refer 33 = .ok (.aload 4, 2) := dk_25 4 (dk_at dksX9_refer_1 10 rfl rfl)
theorem dX9_refer_35 : decode cX9_refer 35 = .ok (.getfield 104, 3) := dk_180 0 104 (dk_at dksX9_refer_1 12 rfl rfl)
theorem dX9_refer_38 : decode cX9_refer 38 = .ok (.bipush 64, 2) := dk_16 64 (dk_at dksX9_refer_1 15 rfl rfl)
theorem dX9_refer_40 : decode cX9_refer 40 = .ok (.if_icmp .eq 13, 3) := dk_159 0 13 (dk_at dksX9_refer_1 17 rfl rfl)
theorem dX9_refer_43 : decode cX9_refer 43 = .ok (.aload 4, 2) := dk_25 4 (dk_at dksX9_refer_1 20 rfl rfl)
theorem dX9_refer_45 : decode cX9_refer 45 = .ok (.getfield 104, 3) := dk_180 0 104 (dk_at dksX9_refer_2 0 rfl rfl)
theorem dX9_refer_48 : decode cX9_refer 48 = .ok (.bipush 83, 2) := dk_16 83 (dk_at dksX9_refer_2 3 rfl rfl)
theorem dX9_refer_50 : decode cX9_refer 50 = .ok (.if_icmp .ne 20, 3) := dk_160 0 20 (dk_at dksX9_refer_2 5 rfl rfl)
theorem dX9_refer_53 : decode cX9_refer 53 = .ok (.aload_n 0, 1) := dk_42 (dk_at dksX9_refer_2 8 rfl rfl)
theorem dX9_refer_54 : decode cX9_refer 54 = .ok (.aload 4, 2) := dk_25 4 (dk_at dksX9_refer_2 9 rfl rfl)
theorem dX9_refer_56 : decode cX9_refer 56 = .ok (.getfield 108, 3) := dk_180 0 108 (dk_at dksX9_refer_2 11 rfl rfl)
theorem dX9_refer_59 : decode cX9_refer 59 = .ok (.aload 4, 2) := dk_25 4 (dk_at dksX9_refer_2 14 rfl rfl)
theorem dX9_refer_61 : decode cX9_refer 61 = .ok (.getfield 111, 3) := dk_180 0 111 (dk_at dksX9_refer_2 16 rfl rfl)
theorem dX9_refer_64 : decode cX9_refer 64 = .ok (.invokevirtual 114, 3) := dk_182 0 114 (dk_at dksX9_refer_2 19 rfl rfl)
theorem dX9_refer_67 : decode cX9_refer 67 = .ok (.goto 4, 3) := dk_167 0 4 (dk_at dksX9_refer_3 0 rfl rfl)
theorem dX9_refer_70 : decode cX9_refer 70 = .ok (.iconst (-1), 1) := dk_2 (dk_at dksX9_refer_3 3 rfl rfl)
theorem dX9_refer_71 : decode cX9_refer 71 = .ok (.istore 5, 2) := dk_54 5 (dk_at dksX9_refer_3 4 rfl rfl)
theorem dX9_refer_73 : decode cX9_refer 73 = .ok (.iload 5, 2) := dk_21 5 (dk_at dksX9_refer_3 6 rfl rfl)
theorem dX9_refer_75 : decode cX9_refer 75 = .ok (.iconst (-1), 1) := dk_2 (dk_at dksX9_refer_3 8 rfl rfl)
theorem dX9_refer_76 : decode cX9_refer 76 = .ok (.if_icmp .eq 13, 3) := dk_159 0 13 (dk_at dksX9_refer_3 9 rfl rfl)
theorem dX9_refer_79 : decode cX9_refer 79 = .ok (.aload_n 0, 1) := dk_42 (dk_at dksX9_refer_3 12 rfl rfl)
theorem dX9_refer_80 : decode cX9_refer 80 = .ok (.getfield 42, 3) := dk_180 0 42 (dk_at dksX9_refer_3 13 rfl rfl)
theorem dX9_refer_83 : decode cX9_refer 83 = .ok (.iload_n 1, 1) := dk_27 (dk_at dksX9_refer_3 16 rfl rfl)
theorem dX9_refer_84 : decode cX9_refer 84 = .ok (.aaload, 1) := dk_50 (dk_at dksX9_refer_3 17 rfl rfl)
theorem dX9_refer_85 : decode cX9_refer 85 = .ok (.iload 5, 2) := dk_21 5 (dk_at dksX9_refer_3 18 rfl rfl)
theorem dX9_refer_87 : decode cX9_refer 87 = .ok (.iconst 1, 1) := dk_4 (dk_at dksX9_refer_3 20 rfl rfl)
theorem dX9_refer_88 : decode cX9_refer 88 = .ok (.bastore, 1) := dk_84 (dk_at dksX9_refer_3 21 rfl rfl)
theorem dX9_refer_89 : decode cX9_refer 89 = .ok (.aload 4, 2) := dk_25 4 (dk_at dksX9_refer_3 22 rfl rfl)
theorem dX9_refer_91 : decode cX9_refer 91 = .ok (.getfield 104, 3) := dk_180 0 104 (dk_at dksX9_refer_4 0 rfl rfl)
theorem dX9_refer_94 : decode cX9_refer 94 = .ok (.bipush 83, 2) := dk_16 83 (dk_at dksX9_refer_4 3 rfl rfl)
theorem dX9_refer_96 : decode cX9_refer 96 = .ok (.if_icmp .ne 38, 3) := dk_160 0 38 (dk_at dksX9_refer_4 5 rfl rfl)
theorem dX9_refer_99 : decode cX9_refer 99 = .ok (.aload_n 2, 1) := dk_44 (dk_at dksX9_refer_4 8 rfl rfl)
theorem dX9_refer_100 : decode cX9_refer 100 = .ok (.iload_n 3, 1) := dk_29 (dk_at dksX9_refer_4 9 rfl rfl)
theorem dX9_refer_101 : decode cX9_refer 101 = .ok (.iconst 1, 1) := dk_4 (dk_at dksX9_refer_4 10 rfl rfl)
theorem dX9_refer_102 : decode cX9_refer 102 = .ok (.iadd, 1) := dk_96 (dk_at dksX9_refer_4 11 rfl rfl)
theorem dX9_refer_103 : decode cX9_refer 103 = .ok (.invokeinterface 67 2, 5) := by decide +kernel
theorem dX9_refer_108 : decode cX9_refer 108 = .ok (.checkcast 102, 3) := dk_192 0 102 (dk_at dksX9_refer_4 17 rfl rfl)
theorem dX9_refer_111 : decode cX9_refer 111 = .ok (.astore 6, 2) := dk_58 6 (dk_at dksX9_refer_4 20 rfl rfl)
theorem dX9_refer_113 : decode cX9_refer 113 = .ok (.aload_n 0, 1) := dk_42 (dk_at dksX9_refer_4 22 rfl rfl)
theorem dX9_refer_114 : decode cX9_refer 114 = .ok (.iload_n 1, 1) := dk_27 (dk_at dksX9_refer_4 23 rfl rfl)
theorem dX9_refer_115 : decode cX9_refer 115 = .ok (.iload 5, 2) := dk_21 5 (dk_at dksX9_refer_5 0 rfl rfl)
theorem dX9_refer_117 : decode cX9_refer 117 = .ok (.aload_n 0, 1) := dk_42 (dk_at dksX9_refer_5 2 rfl rfl)
theorem dX9_refer_118 : decode cX9_refer 118 = .ok (.aload 6, 2) := dk_25 6 (dk_at dksX9_refer_5 3 rfl rfl)
theorem dX9_refer_120 : decode cX9_refer 120 = .ok (.getfield 108, 3) := dk_180 0 108 (dk_at dksX9_refer_5 5 rfl rfl)
theorem dX9_refer_123 : decode cX9_refer 123 = .ok (.aload 6, 2) := dk_25 6 (dk_at dksX9_refer_5 8 rfl rfl)
theorem dX9_refer_125 : decode cX9_refer 125 = .ok (.getfield 111, 3) := dk_180 0 111 (dk_at dksX9_refer_5 10 rfl rfl)
theorem dX9_refer_128 : decode cX9_refer 128 = .ok (.invokevirtual 114, 3) := dk_182 0 114 (dk_at dksX9_refer_5 13 rfl rfl)
theorem dX9_refer_131 : decode cX9_refer 131 = .ok (.invokevirtual 118, 3) := dk_182 0 118 (dk_at dksX9_refer_5 16 rfl rfl)
theorem dX9_refer_134 : decode cX9_refer 134 = .ok (.iinc 3 1, 3) := dk_132 3 1 (dk_at dksX9_refer_5 19 rfl rfl)
theorem dX9_refer_137 : decode cX9_refer 137 = .ok (.goto (-126), 3) := dk_167 255 130 (dk_at dksX9_refer_6 0 rfl rfl)
theorem dX9_refer_140 : decode cX9_refer 140 = .ok (.return_, 1) := dk_177 (dk_at dksX9_refer_6 3 rfl rfl)
abbrev cX9_content : ByteArray := prog_13_method_3_code
def yX9_content : MethodName := ⟨RX9, "content", "(I)LSharedSheet$Content;"⟩
def dkwX9_content_0 : List UInt8 := [42, 27, 182, 0, 80, 180, 0, 84, 192, 0, 90, 176]
abbrev dktX9_content_0 : List UInt8 := dkwX9_content_0 ++ []
theorem dksX9_content_0 : cX9_content.data.toList.drop 0 = dktX9_content_0 := by decide +kernel
theorem dX9_content_0 : decode cX9_content 0 = .ok (.aload_n 0, 1) := dk_42 (dk_at dksX9_content_0 0 rfl rfl)
theorem dX9_content_1 : decode cX9_content 1 = .ok (.iload_n 1, 1) := dk_27 (dk_at dksX9_content_0 1 rfl rfl)
theorem dX9_content_2 : decode cX9_content 2 = .ok (.invokevirtual 80, 3) := dk_182 0 80 (dk_at dksX9_content_0 2 rfl rfl)
theorem dX9_content_5 : decode cX9_content 5 = .ok (.getfield 84, 3) := dk_180 0 84 (dk_at dksX9_content_0 5 rfl rfl)
theorem dX9_content_8 : decode cX9_content 8 = .ok (.checkcast 90, 3) := dk_192 0 90 (dk_at dksX9_content_0 8 rfl rfl)
theorem dX9_content_11 : decode cX9_content 11 = .ok (.areturn, 1) := dk_176 (dk_at dksX9_content_0 11 rfl rfl)
abbrev cX9_at : ByteArray := prog_13_method_2_code
def yX9_at : MethodName := ⟨RX9, "at", "(I)LSharedSheet$Register;"⟩
def dkwX9_at_2 : List UInt8 := [182, 0, 76, 176]
abbrev dktX9_at_2 : List UInt8 := dkwX9_at_2 ++ []
def dkwX9_at_1 : List UInt8 := [180, 0, 73, 42, 180, 0, 25, 27, 42, 180, 0, 34, 112, 185, 0, 67, 2, 0, 192, 0, 71, 180, 0, 73]
abbrev dktX9_at_1 : List UInt8 := dkwX9_at_1 ++ dktX9_at_2
def dkwX9_at_0 : List UInt8 := [42, 180, 0, 9, 42, 180, 0, 21, 27, 42, 180, 0, 34, 108, 185, 0, 67, 2, 0, 192, 0, 71]
abbrev dktX9_at_0 : List UInt8 := dkwX9_at_0 ++ dktX9_at_1
theorem dksX9_at_0 : cX9_at.data.toList.drop 0 = dktX9_at_0 := by decide +kernel
theorem dksX9_at_1 : cX9_at.data.toList.drop 22 = dktX9_at_1 := dk_seg dksX9_at_0 22 rfl rfl
theorem dksX9_at_2 : cX9_at.data.toList.drop 46 = dktX9_at_2 := dk_seg dksX9_at_1 24 rfl rfl
theorem dX9_at_0 : decode cX9_at 0 = .ok (.aload_n 0, 1) := dk_42 (dk_at dksX9_at_0 0 rfl rfl)
theorem dX9_at_1 : decode cX9_at 1 = .ok (.getfield 9, 3) := dk_180 0 9 (dk_at dksX9_at_0 1 rfl rfl)
theorem dX9_at_4 : decode cX9_at 4 = .ok (.aload_n 0, 1) := dk_42 (dk_at dksX9_at_0 4 rfl rfl)
theorem dX9_at_5 : decode cX9_at 5 = .ok (.getfield 21, 3) := dk_180 0 21 (dk_at dksX9_at_0 5 rfl rfl)
theorem dX9_at_8 : decode cX9_at 8 = .ok (.iload_n 1, 1) := dk_27 (dk_at dksX9_at_0 8 rfl rfl)
theorem dX9_at_9 : decode cX9_at 9 = .ok (.aload_n 0, 1) := dk_42 (dk_at dksX9_at_0 9 rfl rfl)
theorem dX9_at_10 : decode cX9_at 10 = .ok (.getfield 34, 3) := dk_180 0 34 (dk_at dksX9_at_0 10 rfl rfl)
theorem dX9_at_13 : decode cX9_at 13 = .ok (.idiv, 1) := dk_108 (dk_at dksX9_at_0 13 rfl rfl)
theorem dX9_at_14 : decode cX9_at 14 = .ok (.invokeinterface 67 2, 5) := by decide +kernel
theorem dX9_at_19 : decode cX9_at 19 = .ok (.checkcast 71, 3) := dk_192 0 71 (dk_at dksX9_at_0 19 rfl rfl)
theorem dX9_at_22 : decode cX9_at 22 = .ok (.getfield 73, 3) := dk_180 0 73 (dk_at dksX9_at_1 0 rfl rfl)
theorem dX9_at_25 : decode cX9_at 25 = .ok (.aload_n 0, 1) := dk_42 (dk_at dksX9_at_1 3 rfl rfl)
theorem dX9_at_26 : decode cX9_at 26 = .ok (.getfield 25, 3) := dk_180 0 25 (dk_at dksX9_at_1 4 rfl rfl)
theorem dX9_at_29 : decode cX9_at 29 = .ok (.iload_n 1, 1) := dk_27 (dk_at dksX9_at_1 7 rfl rfl)
theorem dX9_at_30 : decode cX9_at 30 = .ok (.aload_n 0, 1) := dk_42 (dk_at dksX9_at_1 8 rfl rfl)
theorem dX9_at_31 : decode cX9_at 31 = .ok (.getfield 34, 3) := dk_180 0 34 (dk_at dksX9_at_1 9 rfl rfl)
theorem dX9_at_34 : decode cX9_at 34 = .ok (.irem, 1) := dk_112 (dk_at dksX9_at_1 12 rfl rfl)
theorem dX9_at_35 : decode cX9_at 35 = .ok (.invokeinterface 67 2, 5) := by decide +kernel
theorem dX9_at_40 : decode cX9_at 40 = .ok (.checkcast 71, 3) := dk_192 0 71 (dk_at dksX9_at_1 18 rfl rfl)
theorem dX9_at_43 : decode cX9_at 43 = .ok (.getfield 73, 3) := dk_180 0 73 (dk_at dksX9_at_1 21 rfl rfl)
theorem dX9_at_46 : decode cX9_at 46 = .ok (.invokevirtual 76, 3) := dk_182 0 76 (dk_at dksX9_at_2 0 rfl rfl)
theorem dX9_at_49 : decode cX9_at 49 = .ok (.areturn, 1) := dk_176 (dk_at dksX9_at_2 3 rfl rfl)
abbrev cX9_find : ByteArray := prog_13_method_5_code
def yX9_find : MethodName := ⟨RX9, "find", "(II)I"⟩
def dkwX9_find_1 : List UInt8 := [21, 4, 156, 0, 7, 2, 167, 0, 12, 42, 180, 0, 34, 29, 104, 21, 4, 96, 172]
abbrev dktX9_find_1 : List UInt8 := dkwX9_find_1 ++ []
def dkwX9_find_0 : List UInt8 := [42, 180, 0, 21, 27, 184, 0, 92, 62, 42, 180, 0, 25, 28, 184, 0, 92, 54, 4, 29, 155, 0, 8]
abbrev dktX9_find_0 : List UInt8 := dkwX9_find_0 ++ dktX9_find_1
theorem dksX9_find_0 : cX9_find.data.toList.drop 0 = dktX9_find_0 := by decide +kernel
theorem dksX9_find_1 : cX9_find.data.toList.drop 23 = dktX9_find_1 := dk_seg dksX9_find_0 23 rfl rfl
theorem dX9_find_0 : decode cX9_find 0 = .ok (.aload_n 0, 1) := dk_42 (dk_at dksX9_find_0 0 rfl rfl)
theorem dX9_find_1 : decode cX9_find 1 = .ok (.getfield 21, 3) := dk_180 0 21 (dk_at dksX9_find_0 1 rfl rfl)
theorem dX9_find_4 : decode cX9_find 4 = .ok (.iload_n 1, 1) := dk_27 (dk_at dksX9_find_0 4 rfl rfl)
theorem dX9_find_5 : decode cX9_find 5 = .ok (.invokestatic 92, 3) := dk_184 0 92 (dk_at dksX9_find_0 5 rfl rfl)
theorem dX9_find_8 : decode cX9_find 8 = .ok (.istore_n 3, 1) := dk_62 (dk_at dksX9_find_0 8 rfl rfl)
theorem dX9_find_9 : decode cX9_find 9 = .ok (.aload_n 0, 1) := dk_42 (dk_at dksX9_find_0 9 rfl rfl)
theorem dX9_find_10 : decode cX9_find 10 = .ok (.getfield 25, 3) := dk_180 0 25 (dk_at dksX9_find_0 10 rfl rfl)
theorem dX9_find_13 : decode cX9_find 13 = .ok (.iload_n 2, 1) := dk_28 (dk_at dksX9_find_0 13 rfl rfl)
theorem dX9_find_14 : decode cX9_find 14 = .ok (.invokestatic 92, 3) := dk_184 0 92 (dk_at dksX9_find_0 14 rfl rfl)
theorem dX9_find_17 : decode cX9_find 17 = .ok (.istore 4, 2) := dk_54 4 (dk_at dksX9_find_0 17 rfl rfl)
theorem dX9_find_19 : decode cX9_find 19 = .ok (.iload_n 3, 1) := dk_29 (dk_at dksX9_find_0 19 rfl rfl)
theorem dX9_find_20 : decode cX9_find 20 = .ok (.ifCond .lt 8, 3) := dk_155 0 8 (dk_at dksX9_find_0 20 rfl rfl)
theorem dX9_find_23 : decode cX9_find 23 = .ok (.iload 4, 2) := dk_21 4 (dk_at dksX9_find_1 0 rfl rfl)
theorem dX9_find_25 : decode cX9_find 25 = .ok (.ifCond .ge 7, 3) := dk_156 0 7 (dk_at dksX9_find_1 2 rfl rfl)
theorem dX9_find_28 : decode cX9_find 28 = .ok (.iconst (-1), 1) := dk_2 (dk_at dksX9_find_1 5 rfl rfl)
theorem dX9_find_29 : decode cX9_find 29 = .ok (.goto 12, 3) := dk_167 0 12 (dk_at dksX9_find_1 6 rfl rfl)
theorem dX9_find_32 : decode cX9_find 32 = .ok (.aload_n 0, 1) := dk_42 (dk_at dksX9_find_1 9 rfl rfl)
theorem dX9_find_33 : decode cX9_find 33 = .ok (.getfield 34, 3) := dk_180 0 34 (dk_at dksX9_find_1 10 rfl rfl)
theorem dX9_find_36 : decode cX9_find 36 = .ok (.iload_n 3, 1) := dk_29 (dk_at dksX9_find_1 13 rfl rfl)
theorem dX9_find_37 : decode cX9_find 37 = .ok (.imul, 1) := dk_104 (dk_at dksX9_find_1 14 rfl rfl)
theorem dX9_find_38 : decode cX9_find 38 = .ok (.iload 4, 2) := dk_21 4 (dk_at dksX9_find_1 15 rfl rfl)
theorem dX9_find_40 : decode cX9_find 40 = .ok (.iadd, 1) := dk_96 (dk_at dksX9_find_1 17 rfl rfl)
theorem dX9_find_41 : decode cX9_find 41 = .ok (.ireturn, 1) := dk_172 (dk_at dksX9_find_1 18 rfl rfl)
abbrev cX9_positionOf : ByteArray := prog_13_method_4_code
def yX9_positionOf : MethodName := ⟨RX9, "positionOf", "(Ljava/util/List;I)I"⟩
def dkwX9_positionOf_1 : List UInt8 := [180, 0, 73, 27, 159, 0, 9, 132, 2, 255, 167, 255, 232, 28, 172]
abbrev dktX9_positionOf_1 : List UInt8 := dkwX9_positionOf_1 ++ []
def dkwX9_positionOf_0 : List UInt8 := [42, 185, 0, 28, 1, 0, 4, 100, 61, 28, 155, 0, 26, 42, 28, 185, 0, 67, 2, 0, 192, 0, 71]
abbrev dktX9_positionOf_0 : List UInt8 := dkwX9_positionOf_0 ++ dktX9_positionOf_1
theorem dksX9_positionOf_0 : cX9_positionOf.data.toList.drop 0 = dktX9_positionOf_0 := by decide +kernel
theorem dksX9_positionOf_1 : cX9_positionOf.data.toList.drop 23 = dktX9_positionOf_1 := dk_seg dksX9_positionOf_0 23 rfl rfl
theorem dX9_positionOf_0 : decode cX9_positionOf 0 = .ok (.aload_n 0, 1) := dk_42 (dk_at dksX9_positionOf_0 0 rfl rfl)
theorem dX9_positionOf_1 : decode cX9_positionOf 1 = .ok (.invokeinterface 28 1, 5) := by decide +kernel
theorem dX9_positionOf_6 : decode cX9_positionOf 6 = .ok (.iconst 1, 1) := dk_4 (dk_at dksX9_positionOf_0 6 rfl rfl)
theorem dX9_positionOf_7 : decode cX9_positionOf 7 = .ok (.isub, 1) := dk_100 (dk_at dksX9_positionOf_0 7 rfl rfl)
theorem dX9_positionOf_8 : decode cX9_positionOf 8 = .ok (.istore_n 2, 1) := dk_61 (dk_at dksX9_positionOf_0 8 rfl rfl)
theorem dX9_positionOf_9 : decode cX9_positionOf 9 = .ok (.iload_n 2, 1) := dk_28 (dk_at dksX9_positionOf_0 9 rfl rfl)
theorem dX9_positionOf_10 : decode cX9_positionOf 10 = .ok (.ifCond .lt 26, 3) := dk_155 0 26 (dk_at dksX9_positionOf_0 10 rfl rfl)
theorem dX9_positionOf_13 : decode cX9_positionOf 13 = .ok (.aload_n 0, 1) := dk_42 (dk_at dksX9_positionOf_0 13 rfl rfl)
theorem dX9_positionOf_14 : decode cX9_positionOf 14 = .ok (.iload_n 2, 1) := dk_28 (dk_at dksX9_positionOf_0 14 rfl rfl)
theorem dX9_positionOf_15 : decode cX9_positionOf 15 = .ok (.invokeinterface 67 2, 5) := by decide +kernel
theorem dX9_positionOf_20 : decode cX9_positionOf 20 = .ok (.checkcast 71, 3) := dk_192 0 71 (dk_at dksX9_positionOf_0 20 rfl rfl)
theorem dX9_positionOf_23 : decode cX9_positionOf 23 = .ok (.getfield 73, 3) := dk_180 0 73 (dk_at dksX9_positionOf_1 0 rfl rfl)
theorem dX9_positionOf_26 : decode cX9_positionOf 26 = .ok (.iload_n 1, 1) := dk_27 (dk_at dksX9_positionOf_1 3 rfl rfl)
theorem dX9_positionOf_27 : decode cX9_positionOf 27 = .ok (.if_icmp .eq 9, 3) := dk_159 0 9 (dk_at dksX9_positionOf_1 4 rfl rfl)
theorem dX9_positionOf_30 : decode cX9_positionOf 30 = .ok (.iinc 2 (-1), 3) := dk_132 2 255 (dk_at dksX9_positionOf_1 7 rfl rfl)
theorem dX9_positionOf_33 : decode cX9_positionOf 33 = .ok (.goto (-24), 3) := dk_167 255 232 (dk_at dksX9_positionOf_1 10 rfl rfl)
theorem dX9_positionOf_36 : decode cX9_positionOf 36 = .ok (.iload_n 2, 1) := dk_28 (dk_at dksX9_positionOf_1 13 rfl rfl)
theorem dX9_positionOf_37 : decode cX9_positionOf 37 = .ok (.ireturn, 1) := dk_172 (dk_at dksX9_positionOf_1 14 rfl rfl)
abbrev cX9_referAll : ByteArray := prog_13_method_7_code
def yX9_referAll : MethodName := ⟨RX9, "referAll", "(III)V"⟩
def dkwX9_referAll_2 : List UInt8 := [167, 255, 214, 177]
abbrev dktX9_referAll_2 : List UInt8 := dkwX9_referAll_2 ++ []
def dkwX9_referAll_1 : List UInt8 := [180, 0, 42, 27, 50, 21, 4, 92, 51, 42, 21, 4, 28, 29, 182, 0, 122, 128, 84, 132, 4, 1]
abbrev dktX9_referAll_1 : List UInt8 := dkwX9_referAll_1 ++ dktX9_referAll_2
def dkwX9_referAll_0 : List UInt8 := [3, 54, 4, 21, 4, 42, 180, 0, 38, 162, 0, 39, 28, 2, 159, 0, 34, 29, 2, 159, 0, 29, 42]
abbrev dktX9_referAll_0 : List UInt8 := dkwX9_referAll_0 ++ dktX9_referAll_1
theorem dksX9_referAll_0 : cX9_referAll.data.toList.drop 0 = dktX9_referAll_0 := by decide +kernel
theorem dksX9_referAll_1 : cX9_referAll.data.toList.drop 23 = dktX9_referAll_1 := dk_seg dksX9_referAll_0 23 rfl rfl
theorem dksX9_referAll_2 : cX9_referAll.data.toList.drop 45 = dktX9_referAll_2 := dk_seg dksX9_referAll_1 22 rfl rfl
theorem dX9_referAll_0 : decode cX9_referAll 0 = .ok (.iconst 0, 1) := dk_3 (dk_at dksX9_referAll_0 0 rfl rfl)
theorem dX9_referAll_1 : decode cX9_referAll 1 = .ok (.istore 4, 2) := dk_54 4 (dk_at dksX9_referAll_0 1 rfl rfl)
theorem dX9_referAll_3 : decode cX9_referAll 3 = .ok (.iload 4, 2) := dk_21 4 (dk_at dksX9_referAll_0 3 rfl rfl)
theorem dX9_referAll_5 : decode cX9_referAll 5 = .ok (.aload_n 0, 1) := dk_42 (dk_at dksX9_referAll_0 5 rfl rfl)
theorem dX9_referAll_6 : decode cX9_referAll 6 = .ok (.getfield 38, 3) := dk_180 0 38 (dk_at dksX9_referAll_0 6 rfl rfl)
theorem dX9_referAll_9 : decode cX9_referAll 9 = .ok (.if_icmp .ge 39, 3) := dk_162 0 39 (dk_at dksX9_referAll_0 9 rfl rfl)
theorem dX9_referAll_12 : decode cX9_referAll 12 = .ok (.iload_n 2, 1) := dk_28 (dk_at dksX9_referAll_0 12 rfl rfl)
theorem dX9_referAll_13 : decode cX9_referAll 13 = .ok (.iconst (-1), 1) := dk_2 (dk_at dksX9_referAll_0 13 rfl rfl)
theorem dX9_referAll_14 : decode cX9_referAll 14 = .ok (.if_icmp .eq 34, 3) := dk_159 0 34 (dk_at dksX9_referAll_0 14 rfl rfl)
theorem dX9_referAll_17 : decode cX9_referAll 17 = .ok (.iload_n 3, 1) := dk_29 (dk_at dksX9_referAll_0 17 rfl rfl)
theorem dX9_referAll_18 : decode cX9_referAll 18 = .ok (.iconst (-1), 1) := dk_2 (dk_at dksX9_referAll_0 18 rfl rfl)
theorem dX9_referAll_19 : decode cX9_referAll 19 = .ok (.if_icmp .eq 29, 3) := dk_159 0 29 (dk_at dksX9_referAll_0 19 rfl rfl)
theorem dX9_referAll_22 : decode cX9_referAll 22 = .ok (.aload_n 0, 1) := dk_42 (dk_at dksX9_referAll_0 22 rfl rfl)
theorem dX9_referAll_23 : decode cX9_referAll 23 = .ok (.getfield 42, 3) := dk_180 0 42 (dk_at dksX9_referAll_1 0 rfl rfl)
theorem dX9_referAll_26 : decode cX9_referAll 26 = .ok (.iload_n 1, 1) := dk_27 (dk_at dksX9_referAll_1 3 rfl rfl)
theorem dX9_referAll_27 : decode cX9_referAll 27 = .ok (.aaload, 1) := dk_50 (dk_at dksX9_referAll_1 4 rfl rfl)
theorem dX9_referAll_28 : decode cX9_referAll 28 = .ok (.iload 4, 2) := dk_21 4 (dk_at dksX9_referAll_1 5 rfl rfl)
theorem dX9_referAll_30 : decode cX9_referAll 30 = .ok (.dup2, 1) := dk_92 (dk_at dksX9_referAll_1 7 rfl rfl)
theorem dX9_referAll_31 : decode cX9_referAll 31 = .ok (.baload, 1) := dk_51 (dk_at dksX9_referAll_1 8 rfl rfl)
theorem dX9_referAll_32 : decode cX9_referAll 32 = .ok (.aload_n 0, 1) := dk_42 (dk_at dksX9_referAll_1 9 rfl rfl)
theorem dX9_referAll_33 : decode cX9_referAll 33 = .ok (.iload 4, 2) := dk_21 4 (dk_at dksX9_referAll_1 10 rfl rfl)
theorem dX9_referAll_35 : decode cX9_referAll 35 = .ok (.iload_n 2, 1) := dk_28 (dk_at dksX9_referAll_1 12 rfl rfl)
theorem dX9_referAll_36 : decode cX9_referAll 36 = .ok (.iload_n 3, 1) := dk_29 (dk_at dksX9_referAll_1 13 rfl rfl)
theorem dX9_referAll_37 : decode cX9_referAll 37 = .ok (.invokevirtual 122, 3) := dk_182 0 122 (dk_at dksX9_referAll_1 14 rfl rfl)
theorem dX9_referAll_40 : decode cX9_referAll 40 = .ok (.ior, 1) := dk_128 (dk_at dksX9_referAll_1 17 rfl rfl)
theorem dX9_referAll_41 : decode cX9_referAll 41 = .ok (.bastore, 1) := dk_84 (dk_at dksX9_referAll_1 18 rfl rfl)
theorem dX9_referAll_42 : decode cX9_referAll 42 = .ok (.iinc 4 1, 3) := dk_132 4 1 (dk_at dksX9_referAll_1 19 rfl rfl)
theorem dX9_referAll_45 : decode cX9_referAll 45 = .ok (.goto (-42), 3) := dk_167 255 214 (dk_at dksX9_referAll_2 0 rfl rfl)
theorem dX9_referAll_48 : decode cX9_referAll 48 = .ok (.return_, 1) := dk_177 (dk_at dksX9_referAll_2 3 rfl rfl)
abbrev cX9_isBetween : ByteArray := prog_13_method_8_code
def yX9_isBetween : MethodName := ⟨RX9, "isBetween", "(III)Z"⟩
def dkwX9_isBetween_4 : List UInt8 := [184, 0, 134, 153, 0, 7, 4, 167, 0, 4, 3, 172]
abbrev dktX9_isBetween_4 : List UInt8 := dkwX9_isBetween_4 ++ []
def dkwX9_isBetween_3 : List UInt8 := [180, 0, 34, 108, 21, 4, 21, 5, 184, 0, 134, 153, 0, 23, 27, 42, 180, 0, 34, 112, 21, 6, 21, 7]
abbrev dktX9_isBetween_3 : List UInt8 := dkwX9_isBetween_3 ++ dktX9_isBetween_4
def dkwX9_isBetween_2 : List UInt8 := [184, 0, 126, 54, 6, 28, 42, 180, 0, 34, 112, 29, 42, 180, 0, 34, 112, 184, 0, 131, 54, 7, 27, 42]
abbrev dktX9_isBetween_2 : List UInt8 := dkwX9_isBetween_2 ++ dktX9_isBetween_3
def dkwX9_isBetween_1 : List UInt8 := [42, 180, 0, 34, 108, 184, 0, 131, 54, 5, 28, 42, 180, 0, 34, 112, 29, 42, 180, 0, 34, 112]
abbrev dktX9_isBetween_1 : List UInt8 := dkwX9_isBetween_1 ++ dktX9_isBetween_2
def dkwX9_isBetween_0 : List UInt8 := [28, 42, 180, 0, 34, 108, 29, 42, 180, 0, 34, 108, 184, 0, 126, 54, 4, 28, 42, 180, 0, 34, 108, 29]
abbrev dktX9_isBetween_0 : List UInt8 := dkwX9_isBetween_0 ++ dktX9_isBetween_1
theorem dksX9_isBetween_0 : cX9_isBetween.data.toList.drop 0 = dktX9_isBetween_0 := by decide +kernel
theorem dksX9_isBetween_1 : cX9_isBetween.data.toList.drop 24 = dktX9_isBetween_1 := dk_seg dksX9_isBetween_0 24 rfl rfl
theorem dksX9_isBetween_2 : cX9_isBetween.data.toList.drop 46 = dktX9_isBetween_2 := dk_seg dksX9_isBetween_1 22 rfl rfl
theorem dksX9_isBetween_3 : cX9_isBetween.data.toList.drop 70 = dktX9_isBetween_3 := dk_seg dksX9_isBetween_2 24 rfl rfl
theorem dksX9_isBetween_4 : cX9_isBetween.data.toList.drop 94 = dktX9_isBetween_4 := dk_seg dksX9_isBetween_3 24 rfl rfl
theorem dX9_isBetween_0 : decode cX9_isBetween 0 = .ok (.iload_n 2, 1) := dk_28 (dk_at dksX9_isBetween_0 0 rfl rfl)
theorem dX9_isBetween_1 : decode cX9_isBetween 1 = .ok (.aload_n 0, 1) := dk_42 (dk_at dksX9_isBetween_0 1 rfl rfl)
theorem dX9_isBetween_2 : decode cX9_isBetween 2 = .ok (.getfield 34, 3) := dk_180 0 34 (dk_at dksX9_isBetween_0 2 rfl rfl)
theorem dX9_isBetween_5 : decode cX9_isBetween 5 = .ok (.idiv, 1) := dk_108 (dk_at dksX9_isBetween_0 5 rfl rfl)
theorem dX9_isBetween_6 : decode cX9_isBetween 6 = .ok (.iload_n 3, 1) := dk_29 (dk_at dksX9_isBetween_0 6 rfl rfl)
theorem dX9_isBetween_7 : decode cX9_isBetween 7 = .ok (.aload_n 0, 1) := dk_42 (dk_at dksX9_isBetween_0 7 rfl rfl)
theorem dX9_isBetween_8 : decode cX9_isBetween 8 = .ok (.getfield 34, 3) := dk_180 0 34 (dk_at dksX9_isBetween_0 8 rfl rfl)
theorem dX9_isBetween_11 : decode cX9_isBetween 11 = .ok (.idiv, 1) := dk_108 (dk_at dksX9_isBetween_0 11 rfl rfl)
theorem dX9_isBetween_12 : decode cX9_isBetween 12 = .ok (.invokestatic 126, 3) := dk_184 0 126 (dk_at dksX9_isBetween_0 12 rfl rfl)
theorem dX9_isBetween_15 : decode cX9_isBetween 15 = .ok (.istore 4, 2) := dk_54 4 (dk_at dksX9_isBetween_0 15 rfl rfl)
theorem dX9_isBetween_17 : decode cX9_isBetween 17 = .ok (.iload_n 2, 1) := dk_28 (dk_at dksX9_isBetween_0 17 rfl rfl)
theorem dX9_isBetween_18 : decode cX9_isBetween 18 = .ok (.aload_n 0, 1) := dk_42 (dk_at dksX9_isBetween_0 18 rfl rfl)
theorem dX9_isBetween_19 : decode cX9_isBetween 19 = .ok (.getfield 34, 3) := dk_180 0 34 (dk_at dksX9_isBetween_0 19 rfl rfl)
theorem dX9_isBetween_22 : decode cX9_isBetween 22 = .ok (.idiv, 1) := dk_108 (dk_at dksX9_isBetween_0 22 rfl rfl)
theorem dX9_isBetween_23 : decode cX9_isBetween 23 = .ok (.iload_n 3, 1) := dk_29 (dk_at dksX9_isBetween_0 23 rfl rfl)
theorem dX9_isBetween_24 : decode cX9_isBetween 24 = .ok (.aload_n 0, 1) := dk_42 (dk_at dksX9_isBetween_1 0 rfl rfl)
theorem dX9_isBetween_25 : decode cX9_isBetween 25 = .ok (.getfield 34, 3) := dk_180 0 34 (dk_at dksX9_isBetween_1 1 rfl rfl)
theorem dX9_isBetween_28 : decode cX9_isBetween 28 = .ok (.idiv, 1) := dk_108 (dk_at dksX9_isBetween_1 4 rfl rfl)
theorem dX9_isBetween_29 : decode cX9_isBetween 29 = .ok (.invokestatic 131, 3) := dk_184 0 131 (dk_at dksX9_isBetween_1 5 rfl rfl)
theorem dX9_isBetween_32 : decode cX9_isBetween 32 = .ok (.istore 5, 2) := dk_54 5 (dk_at dksX9_isBetween_1 8 rfl rfl)
theorem dX9_isBetween_34 : decode cX9_isBetween 34 = .ok (.iload_n 2, 1) := dk_28 (dk_at dksX9_isBetween_1 10 rfl rfl)
theorem dX9_isBetween_35 : decode cX9_isBetween 35 = .ok (.aload_n 0, 1) := dk_42 (dk_at dksX9_isBetween_1 11 rfl rfl)
theorem dX9_isBetween_36 : decode cX9_isBetween 36 = .ok (.getfield 34, 3) := dk_180 0 34 (dk_at dksX9_isBetween_1 12 rfl rfl)
theorem dX9_isBetween_39 : decode cX9_isBetween 39 = .ok (.irem, 1) := dk_112 (dk_at dksX9_isBetween_1 15 rfl rfl)
theorem dX9_isBetween_40 : decode cX9_isBetween 40 = .ok (.iload_n 3, 1) := dk_29 (dk_at dksX9_isBetween_1 16 rfl rfl)
theorem dX9_isBetween_41 : decode cX9_isBetween 41 = .ok (.aload_n 0, 1) := dk_42 (dk_at dksX9_isBetween_1 17 rfl rfl)
theorem dX9_isBetween_42 : decode cX9_isBetween 42 = .ok (.getfield 34, 3) := dk_180 0 34 (dk_at dksX9_isBetween_1 18 rfl rfl)
theorem dX9_isBetween_45 : decode cX9_isBetween 45 = .ok (.irem, 1) := dk_112 (dk_at dksX9_isBetween_1 21 rfl rfl)
theorem dX9_isBetween_46 : decode cX9_isBetween 46 = .ok (.invokestatic 126, 3) := dk_184 0 126 (dk_at dksX9_isBetween_2 0 rfl rfl)
theorem dX9_isBetween_49 : decode cX9_isBetween 49 = .ok (.istore 6, 2) := dk_54 6 (dk_at dksX9_isBetween_2 3 rfl rfl)
theorem dX9_isBetween_51 : decode cX9_isBetween 51 = .ok (.iload_n 2, 1) := dk_28 (dk_at dksX9_isBetween_2 5 rfl rfl)
theorem dX9_isBetween_52 : decode cX9_isBetween 52 = .ok (.aload_n 0, 1) := dk_42 (dk_at dksX9_isBetween_2 6 rfl rfl)
theorem dX9_isBetween_53 : decode cX9_isBetween 53 = .ok (.getfield 34, 3) := dk_180 0 34 (dk_at dksX9_isBetween_2 7 rfl rfl)
theorem dX9_isBetween_56 : decode cX9_isBetween 56 = .ok (.irem, 1) := dk_112 (dk_at dksX9_isBetween_2 10 rfl rfl)
theorem dX9_isBetween_57 : decode cX9_isBetween 57 = .ok (.iload_n 3, 1) := dk_29 (dk_at dksX9_isBetween_2 11 rfl rfl)
theorem dX9_isBetween_58 : decode cX9_isBetween 58 = .ok (.aload_n 0, 1) := dk_42 (dk_at dksX9_isBetween_2 12 rfl rfl)
theorem dX9_isBetween_59 : decode cX9_isBetween 59 = .ok (.getfield 34, 3) := dk_180 0 34 (dk_at dksX9_isBetween_2 13 rfl rfl)
theorem dX9_isBetween_62 : decode cX9_isBetween 62 = .ok (.irem, 1) := dk_112 (dk_at dksX9_isBetween_2 16 rfl rfl)
theorem dX9_isBetween_63 : decode cX9_isBetween 63 = .ok (.invokestatic 131, 3) := dk_184 0 131 (dk_at dksX9_isBetween_2 17 rfl rfl)
theorem dX9_isBetween_66 : decode cX9_isBetween 66 = .ok (.istore 7, 2) := dk_54 7 (dk_at dksX9_isBetween_2 20 rfl rfl)
theorem dX9_isBetween_68 : decode cX9_isBetween 68 = .ok (.iload_n 1, 1) := dk_27 (dk_at dksX9_isBetween_2 22 rfl rfl)
theorem dX9_isBetween_69 : decode cX9_isBetween 69 = .ok (.aload_n 0, 1) := dk_42 (dk_at dksX9_isBetween_2 23 rfl rfl)
theorem dX9_isBetween_70 : decode cX9_isBetween 70 = .ok (.getfield 34, 3) := dk_180 0 34 (dk_at dksX9_isBetween_3 0 rfl rfl)
theorem dX9_isBetween_73 : decode cX9_isBetween 73 = .ok (.idiv, 1) := dk_108 (dk_at dksX9_isBetween_3 3 rfl rfl)
theorem dX9_isBetween_74 : decode cX9_isBetween 74 = .ok (.iload 4, 2) := dk_21 4 (dk_at dksX9_isBetween_3 4 rfl rfl)
theorem dX9_isBetween_76 : decode cX9_isBetween 76 = .ok (.iload 5, 2) := dk_21 5 (dk_at dksX9_isBetween_3 6 rfl rfl)
theorem dX9_isBetween_78 : decode cX9_isBetween 78 = .ok (.invokestatic 134, 3) := dk_184 0 134 (dk_at dksX9_isBetween_3 8 rfl rfl)
theorem dX9_isBetween_81 : decode cX9_isBetween 81 = .ok (.ifCond .eq 23, 3) := dk_153 0 23 (dk_at dksX9_isBetween_3 11 rfl rfl)
theorem dX9_isBetween_84 : decode cX9_isBetween 84 = .ok (.iload_n 1, 1) := dk_27 (dk_at dksX9_isBetween_3 14 rfl rfl)
theorem dX9_isBetween_85 : decode cX9_isBetween 85 = .ok (.aload_n 0, 1) := dk_42 (dk_at dksX9_isBetween_3 15 rfl rfl)
theorem dX9_isBetween_86 : decode cX9_isBetween 86 = .ok (.getfield 34, 3) := dk_180 0 34 (dk_at dksX9_isBetween_3 16 rfl rfl)
theorem dX9_isBetween_89 : decode cX9_isBetween 89 = .ok (.irem, 1) := dk_112 (dk_at dksX9_isBetween_3 19 rfl rfl)
theorem dX9_isBetween_90 : decode cX9_isBetween 90 = .ok (.iload 6, 2) := dk_21 6 (dk_at dksX9_isBetween_3 20 rfl rfl)
theorem dX9_isBetween_92 : decode cX9_isBetween 92 = .ok (.iload 7, 2) := dk_21 7 (dk_at dksX9_isBetween_3 22 rfl rfl)
theorem dX9_isBetween_94 : decode cX9_isBetween 94 = .ok (.invokestatic 134, 3) := dk_184 0 134 (dk_at dksX9_isBetween_4 0 rfl rfl)
theorem dX9_isBetween_97 : decode cX9_isBetween 97 = .ok (.ifCond .eq 7, 3) := dk_153 0 7 (dk_at dksX9_isBetween_4 3 rfl rfl)
theorem dX9_isBetween_100 : decode cX9_isBetween 100 = .ok (.iconst 1, 1) := dk_4 (dk_at dksX9_isBetween_4 6 rfl rfl)
theorem dX9_isBetween_101 : decode cX9_isBetween 101 = .ok (.goto 4, 3) := dk_167 0 4 (dk_at dksX9_isBetween_4 7 rfl rfl)
theorem dX9_isBetween_104 : decode cX9_isBetween 104 = .ok (.iconst 0, 1) := dk_3 (dk_at dksX9_isBetween_4 10 rfl rfl)
theorem dX9_isBetween_105 : decode cX9_isBetween 105 = .ok (.ireturn, 1) := dk_172 (dk_at dksX9_isBetween_4 11 rfl rfl)
abbrev cX9_close : ByteArray := prog_13_method_10_code
def yX9_close : MethodName := ⟨RX9, "close", "()V"⟩
def dkwX9_close_5 : List UInt8 := [50, 29, 51, 128, 84, 132, 3, 1, 167, 255, 215, 132, 2, 1, 167, 255, 199, 132, 1, 1, 167, 255, 183, 177]
abbrev dktX9_close_5 : List UInt8 := dkwX9_close_5 ++ []
def dkwX9_close_4 : List UInt8 := [180, 0, 45, 28, 50, 27, 51, 153, 0, 28, 42, 180, 0, 45, 28, 50, 29, 92, 51, 42, 180, 0, 45, 27]
abbrev dktX9_close_4 : List UInt8 := dkwX9_close_4 ++ dktX9_close_5
def dkwX9_close_3 : List UInt8 := [162, 0, 71, 3, 61, 28, 42, 180, 0, 38, 162, 0, 55, 3, 62, 29, 42, 180, 0, 38, 162, 0, 39, 42]
abbrev dktX9_close_3 : List UInt8 := dkwX9_close_3 ++ dktX9_close_4
def dkwX9_close_2 : List UInt8 := [167, 0, 4, 3, 84, 132, 2, 1, 167, 255, 213, 132, 1, 1, 167, 255, 197, 3, 60, 27, 42, 180, 0, 38]
abbrev dktX9_close_2 : List UInt8 := dkwX9_close_2 ++ dktX9_close_3
def dkwX9_close_1 : List UInt8 := [27, 50, 28, 42, 180, 0, 42, 27, 50, 28, 51, 153, 0, 15, 42, 27, 182, 0, 139, 153, 0, 7, 4]
abbrev dktX9_close_1 : List UInt8 := dkwX9_close_1 ++ dktX9_close_2
def dkwX9_close_0 : List UInt8 := [3, 60, 27, 42, 180, 0, 38, 162, 0, 57, 3, 61, 28, 42, 180, 0, 38, 162, 0, 41, 42, 180, 0, 45]
abbrev dktX9_close_0 : List UInt8 := dkwX9_close_0 ++ dktX9_close_1
theorem dksX9_close_0 : cX9_close.data.toList.drop 0 = dktX9_close_0 := by decide +kernel
theorem dksX9_close_1 : cX9_close.data.toList.drop 24 = dktX9_close_1 := dk_seg dksX9_close_0 24 rfl rfl
theorem dksX9_close_2 : cX9_close.data.toList.drop 47 = dktX9_close_2 := dk_seg dksX9_close_1 23 rfl rfl
theorem dksX9_close_3 : cX9_close.data.toList.drop 71 = dktX9_close_3 := dk_seg dksX9_close_2 24 rfl rfl
theorem dksX9_close_4 : cX9_close.data.toList.drop 95 = dktX9_close_4 := dk_seg dksX9_close_3 24 rfl rfl
theorem dksX9_close_5 : cX9_close.data.toList.drop 119 = dktX9_close_5 := dk_seg dksX9_close_4 24 rfl rfl
theorem dX9_close_0 : decode cX9_close 0 = .ok (.iconst 0, 1) := dk_3 (dk_at dksX9_close_0 0 rfl rfl)
theorem dX9_close_1 : decode cX9_close 1 = .ok (.istore_n 1, 1) := dk_60 (dk_at dksX9_close_0 1 rfl rfl)
theorem dX9_close_2 : decode cX9_close 2 = .ok (.iload_n 1, 1) := dk_27 (dk_at dksX9_close_0 2 rfl rfl)
theorem dX9_close_3 : decode cX9_close 3 = .ok (.aload_n 0, 1) := dk_42 (dk_at dksX9_close_0 3 rfl rfl)
theorem dX9_close_4 : decode cX9_close 4 = .ok (.getfield 38, 3) := dk_180 0 38 (dk_at dksX9_close_0 4 rfl rfl)
theorem dX9_close_7 : decode cX9_close 7 = .ok (.if_icmp .ge 57, 3) := dk_162 0 57 (dk_at dksX9_close_0 7 rfl rfl)
theorem dX9_close_10 : decode cX9_close 10 = .ok (.iconst 0, 1) := dk_3 (dk_at dksX9_close_0 10 rfl rfl)
theorem dX9_close_11 : decode cX9_close 11 = .ok (.istore_n 2, 1) := dk_61 (dk_at dksX9_close_0 11 rfl rfl)
theorem dX9_close_12 : decode cX9_close 12 = .ok (.iload_n 2, 1) := dk_28 (dk_at dksX9_close_0 12 rfl rfl)
theorem dX9_close_13 : decode cX9_close 13 = .ok (.aload_n 0, 1) := dk_42 (dk_at dksX9_close_0 13 rfl rfl)
theorem dX9_close_14 : decode cX9_close 14 = .ok (.getfield 38, 3) := dk_180 0 38 (dk_at dksX9_close_0 14 rfl rfl)
theorem dX9_close_17 : decode cX9_close 17 = .ok (.if_icmp .ge 41, 3) := dk_162 0 41 (dk_at dksX9_close_0 17 rfl rfl)
theorem dX9_close_20 : decode cX9_close 20 = .ok (.aload_n 0, 1) := dk_42 (dk_at dksX9_close_0 20 rfl rfl)
theorem dX9_close_21 : decode cX9_close 21 = .ok (.getfield 45, 3) := dk_180 0 45 (dk_at dksX9_close_0 21 rfl rfl)
theorem dX9_close_24 : decode cX9_close 24 = .ok (.iload_n 1, 1) := dk_27 (dk_at dksX9_close_1 0 rfl rfl)
theorem dX9_close_25 : decode cX9_close 25 = .ok (.aaload, 1) := dk_50 (dk_at dksX9_close_1 1 rfl rfl)
theorem dX9_close_26 : decode cX9_close 26 = .ok (.iload_n 2, 1) := dk_28 (dk_at dksX9_close_1 2 rfl rfl)
theorem dX9_close_27 : decode cX9_close 27 = .ok (.aload_n 0, 1) := dk_42 (dk_at dksX9_close_1 3 rfl rfl)
theorem dX9_close_28 : decode cX9_close 28 = .ok (.getfield 42, 3) := dk_180 0 42 (dk_at dksX9_close_1 4 rfl rfl)
theorem dX9_close_31 : decode cX9_close 31 = .ok (.iload_n 1, 1) := dk_27 (dk_at dksX9_close_1 7 rfl rfl)
theorem dX9_close_32 : decode cX9_close 32 = .ok (.aaload, 1) := dk_50 (dk_at dksX9_close_1 8 rfl rfl)
theorem dX9_close_33 : decode cX9_close 33 = .ok (.iload_n 2, 1) := dk_28 (dk_at dksX9_close_1 9 rfl rfl)
theorem dX9_close_34 : decode cX9_close 34 = .ok (.baload, 1) := dk_51 (dk_at dksX9_close_1 10 rfl rfl)
theorem dX9_close_35 : decode cX9_close 35 = .ok (.ifCond .eq 15, 3) := dk_153 0 15 (dk_at dksX9_close_1 11 rfl rfl)
theorem dX9_close_38 : decode cX9_close 38 = .ok (.aload_n 0, 1) := dk_42 (dk_at dksX9_close_1 14 rfl rfl)
theorem dX9_close_39 : decode cX9_close 39 = .ok (.iload_n 1, 1) := dk_27 (dk_at dksX9_close_1 15 rfl rfl)
theorem dX9_close_40 : decode cX9_close 40 = .ok (.invokevirtual 139, 3) := dk_182 0 139 (dk_at dksX9_close_1 16 rfl rfl)
theorem dX9_close_43 : decode cX9_close 43 = .ok (.ifCond .eq 7, 3) := dk_153 0 7 (dk_at dksX9_close_1 19 rfl rfl)
theorem dX9_close_46 : decode cX9_close 46 = .ok (.iconst 1, 1) := dk_4 (dk_at dksX9_close_1 22 rfl rfl)
theorem dX9_close_47 : decode cX9_close 47 = .ok (.goto 4, 3) := dk_167 0 4 (dk_at dksX9_close_2 0 rfl rfl)
theorem dX9_close_50 : decode cX9_close 50 = .ok (.iconst 0, 1) := dk_3 (dk_at dksX9_close_2 3 rfl rfl)
theorem dX9_close_51 : decode cX9_close 51 = .ok (.bastore, 1) := dk_84 (dk_at dksX9_close_2 4 rfl rfl)
theorem dX9_close_52 : decode cX9_close 52 = .ok (.iinc 2 1, 3) := dk_132 2 1 (dk_at dksX9_close_2 5 rfl rfl)
theorem dX9_close_55 : decode cX9_close 55 = .ok (.goto (-43), 3) := dk_167 255 213 (dk_at dksX9_close_2 8 rfl rfl)
theorem dX9_close_58 : decode cX9_close 58 = .ok (.iinc 1 1, 3) := dk_132 1 1 (dk_at dksX9_close_2 11 rfl rfl)
theorem dX9_close_61 : decode cX9_close 61 = .ok (.goto (-59), 3) := dk_167 255 197 (dk_at dksX9_close_2 14 rfl rfl)
theorem dX9_close_64 : decode cX9_close 64 = .ok (.iconst 0, 1) := dk_3 (dk_at dksX9_close_2 17 rfl rfl)
theorem dX9_close_65 : decode cX9_close 65 = .ok (.istore_n 1, 1) := dk_60 (dk_at dksX9_close_2 18 rfl rfl)
theorem dX9_close_66 : decode cX9_close 66 = .ok (.iload_n 1, 1) := dk_27 (dk_at dksX9_close_2 19 rfl rfl)
theorem dX9_close_67 : decode cX9_close 67 = .ok (.aload_n 0, 1) := dk_42 (dk_at dksX9_close_2 20 rfl rfl)
theorem dX9_close_68 : decode cX9_close 68 = .ok (.getfield 38, 3) := dk_180 0 38 (dk_at dksX9_close_2 21 rfl rfl)
theorem dX9_close_71 : decode cX9_close 71 = .ok (.if_icmp .ge 71, 3) := dk_162 0 71 (dk_at dksX9_close_3 0 rfl rfl)
theorem dX9_close_74 : decode cX9_close 74 = .ok (.iconst 0, 1) := dk_3 (dk_at dksX9_close_3 3 rfl rfl)
theorem dX9_close_75 : decode cX9_close 75 = .ok (.istore_n 2, 1) := dk_61 (dk_at dksX9_close_3 4 rfl rfl)
theorem dX9_close_76 : decode cX9_close 76 = .ok (.iload_n 2, 1) := dk_28 (dk_at dksX9_close_3 5 rfl rfl)
theorem dX9_close_77 : decode cX9_close 77 = .ok (.aload_n 0, 1) := dk_42 (dk_at dksX9_close_3 6 rfl rfl)
theorem dX9_close_78 : decode cX9_close 78 = .ok (.getfield 38, 3) := dk_180 0 38 (dk_at dksX9_close_3 7 rfl rfl)
theorem dX9_close_81 : decode cX9_close 81 = .ok (.if_icmp .ge 55, 3) := dk_162 0 55 (dk_at dksX9_close_3 10 rfl rfl)
theorem dX9_close_84 : decode cX9_close 84 = .ok (.iconst 0, 1) := dk_3 (dk_at dksX9_close_3 13 rfl rfl)
theorem dX9_close_85 : decode cX9_close 85 = .ok (.istore_n 3, 1) := dk_62 (dk_at dksX9_close_3 14 rfl rfl)
theorem dX9_close_86 : decode cX9_close 86 = .ok (.iload_n 3, 1) := dk_29 (dk_at dksX9_close_3 15 rfl rfl)
theorem dX9_close_87 : decode cX9_close 87 = .ok (.aload_n 0, 1) := dk_42 (dk_at dksX9_close_3 16 rfl rfl)
theorem dX9_close_88 : decode cX9_close 88 = .ok (.getfield 38, 3) := dk_180 0 38 (dk_at dksX9_close_3 17 rfl rfl)
theorem dX9_close_91 : decode cX9_close 91 = .ok (.if_icmp .ge 39, 3) := dk_162 0 39 (dk_at dksX9_close_3 20 rfl rfl)
theorem dX9_close_94 : decode cX9_close 94 = .ok (.aload_n 0, 1) := dk_42 (dk_at dksX9_close_3 23 rfl rfl)
theorem dX9_close_95 : decode cX9_close 95 = .ok (.getfield 45, 3) := dk_180 0 45 (dk_at dksX9_close_4 0 rfl rfl)
theorem dX9_close_98 : decode cX9_close 98 = .ok (.iload_n 2, 1) := dk_28 (dk_at dksX9_close_4 3 rfl rfl)
theorem dX9_close_99 : decode cX9_close 99 = .ok (.aaload, 1) := dk_50 (dk_at dksX9_close_4 4 rfl rfl)
theorem dX9_close_100 : decode cX9_close 100 = .ok (.iload_n 1, 1) := dk_27 (dk_at dksX9_close_4 5 rfl rfl)
theorem dX9_close_101 : decode cX9_close 101 = .ok (.baload, 1) := dk_51 (dk_at dksX9_close_4 6 rfl rfl)
theorem dX9_close_102 : decode cX9_close 102 = .ok (.ifCond .eq 28, 3) := dk_153 0 28 (dk_at dksX9_close_4 7 rfl rfl)
theorem dX9_close_105 : decode cX9_close 105 = .ok (.aload_n 0, 1) := dk_42 (dk_at dksX9_close_4 10 rfl rfl)
theorem dX9_close_106 : decode cX9_close 106 = .ok (.getfield 45, 3) := dk_180 0 45 (dk_at dksX9_close_4 11 rfl rfl)
theorem dX9_close_109 : decode cX9_close 109 = .ok (.iload_n 2, 1) := dk_28 (dk_at dksX9_close_4 14 rfl rfl)
theorem dX9_close_110 : decode cX9_close 110 = .ok (.aaload, 1) := dk_50 (dk_at dksX9_close_4 15 rfl rfl)
theorem dX9_close_111 : decode cX9_close 111 = .ok (.iload_n 3, 1) := dk_29 (dk_at dksX9_close_4 16 rfl rfl)
theorem dX9_close_112 : decode cX9_close 112 = .ok (.dup2, 1) := dk_92 (dk_at dksX9_close_4 17 rfl rfl)
theorem dX9_close_113 : decode cX9_close 113 = .ok (.baload, 1) := dk_51 (dk_at dksX9_close_4 18 rfl rfl)
theorem dX9_close_114 : decode cX9_close 114 = .ok (.aload_n 0, 1) := dk_42 (dk_at dksX9_close_4 19 rfl rfl)
theorem dX9_close_115 : decode cX9_close 115 = .ok (.getfield 45, 3) := dk_180 0 45 (dk_at dksX9_close_4 20 rfl rfl)
theorem dX9_close_118 : decode cX9_close 118 = .ok (.iload_n 1, 1) := dk_27 (dk_at dksX9_close_4 23 rfl rfl)
theorem dX9_close_119 : decode cX9_close 119 = .ok (.aaload, 1) := dk_50 (dk_at dksX9_close_5 0 rfl rfl)
theorem dX9_close_120 : decode cX9_close 120 = .ok (.iload_n 3, 1) := dk_29 (dk_at dksX9_close_5 1 rfl rfl)
theorem dX9_close_121 : decode cX9_close 121 = .ok (.baload, 1) := dk_51 (dk_at dksX9_close_5 2 rfl rfl)
theorem dX9_close_122 : decode cX9_close 122 = .ok (.ior, 1) := dk_128 (dk_at dksX9_close_5 3 rfl rfl)
theorem dX9_close_123 : decode cX9_close 123 = .ok (.bastore, 1) := dk_84 (dk_at dksX9_close_5 4 rfl rfl)
theorem dX9_close_124 : decode cX9_close 124 = .ok (.iinc 3 1, 3) := dk_132 3 1 (dk_at dksX9_close_5 5 rfl rfl)
theorem dX9_close_127 : decode cX9_close 127 = .ok (.goto (-41), 3) := dk_167 255 215 (dk_at dksX9_close_5 8 rfl rfl)
theorem dX9_close_130 : decode cX9_close 130 = .ok (.iinc 2 1, 3) := dk_132 2 1 (dk_at dksX9_close_5 11 rfl rfl)
theorem dX9_close_133 : decode cX9_close 133 = .ok (.goto (-57), 3) := dk_167 255 199 (dk_at dksX9_close_5 14 rfl rfl)
theorem dX9_close_136 : decode cX9_close 136 = .ok (.iinc 1 1, 3) := dk_132 1 1 (dk_at dksX9_close_5 17 rfl rfl)
theorem dX9_close_139 : decode cX9_close 139 = .ok (.goto (-73), 3) := dk_167 255 183 (dk_at dksX9_close_5 20 rfl rfl)
theorem dX9_close_142 : decode cX9_close 142 = .ok (.return_, 1) := dk_177 (dk_at dksX9_close_5 23 rfl rfl)
abbrev cX9_isFormula : ByteArray := prog_13_method_9_code
def yX9_isFormula : MethodName := ⟨RX9, "isFormula", "(I)Z"⟩
def dkwX9_isFormula_0 : List UInt8 := [42, 27, 182, 0, 96, 180, 0, 137, 5, 160, 0, 7, 4, 167, 0, 4, 3, 172]
abbrev dktX9_isFormula_0 : List UInt8 := dkwX9_isFormula_0 ++ []
theorem dksX9_isFormula_0 : cX9_isFormula.data.toList.drop 0 = dktX9_isFormula_0 := by decide +kernel
theorem dX9_isFormula_0 : decode cX9_isFormula 0 = .ok (.aload_n 0, 1) := dk_42 (dk_at dksX9_isFormula_0 0 rfl rfl)
theorem dX9_isFormula_1 : decode cX9_isFormula 1 = .ok (.iload_n 1, 1) := dk_27 (dk_at dksX9_isFormula_0 1 rfl rfl)
theorem dX9_isFormula_2 : decode cX9_isFormula 2 = .ok (.invokevirtual 96, 3) := dk_182 0 96 (dk_at dksX9_isFormula_0 2 rfl rfl)
theorem dX9_isFormula_5 : decode cX9_isFormula 5 = .ok (.getfield 137, 3) := dk_180 0 137 (dk_at dksX9_isFormula_0 5 rfl rfl)
theorem dX9_isFormula_8 : decode cX9_isFormula 8 = .ok (.iconst 2, 1) := dk_5 (dk_at dksX9_isFormula_0 8 rfl rfl)
theorem dX9_isFormula_9 : decode cX9_isFormula 9 = .ok (.if_icmp .ne 7, 3) := dk_160 0 7 (dk_at dksX9_isFormula_0 9 rfl rfl)
theorem dX9_isFormula_12 : decode cX9_isFormula 12 = .ok (.iconst 1, 1) := dk_4 (dk_at dksX9_isFormula_0 12 rfl rfl)
theorem dX9_isFormula_13 : decode cX9_isFormula 13 = .ok (.goto 4, 3) := dk_167 0 4 (dk_at dksX9_isFormula_0 13 rfl rfl)
theorem dX9_isFormula_16 : decode cX9_isFormula 16 = .ok (.iconst 0, 1) := dk_3 (dk_at dksX9_isFormula_0 16 rfl rfl)
theorem dX9_isFormula_17 : decode cX9_isFormula 17 = .ok (.ireturn, 1) := dk_172 (dk_at dksX9_isFormula_0 17 rfl rfl)
abbrev cX9_isOnCycle : ByteArray := prog_13_method_11_code
def yX9_isOnCycle : MethodName := ⟨RX9, "isOnCycle", "(I)Z"⟩
def dkwX9_isOnCycle_0 : List UInt8 := [42, 180, 0, 45, 27, 50, 27, 51, 172]
abbrev dktX9_isOnCycle_0 : List UInt8 := dkwX9_isOnCycle_0 ++ []
theorem dksX9_isOnCycle_0 : cX9_isOnCycle.data.toList.drop 0 = dktX9_isOnCycle_0 := by decide +kernel
theorem dX9_isOnCycle_0 : decode cX9_isOnCycle 0 = .ok (.aload_n 0, 1) := dk_42 (dk_at dksX9_isOnCycle_0 0 rfl rfl)
theorem dX9_isOnCycle_1 : decode cX9_isOnCycle 1 = .ok (.getfield 45, 3) := dk_180 0 45 (dk_at dksX9_isOnCycle_0 1 rfl rfl)
theorem dX9_isOnCycle_4 : decode cX9_isOnCycle 4 = .ok (.iload_n 1, 1) := dk_27 (dk_at dksX9_isOnCycle_0 4 rfl rfl)
theorem dX9_isOnCycle_5 : decode cX9_isOnCycle 5 = .ok (.aaload, 1) := dk_50 (dk_at dksX9_isOnCycle_0 5 rfl rfl)
theorem dX9_isOnCycle_6 : decode cX9_isOnCycle 6 = .ok (.iload_n 1, 1) := dk_27 (dk_at dksX9_isOnCycle_0 6 rfl rfl)
theorem dX9_isOnCycle_7 : decode cX9_isOnCycle 7 = .ok (.baload, 1) := dk_51 (dk_at dksX9_isOnCycle_0 7 rfl rfl)
theorem dX9_isOnCycle_8 : decode cX9_isOnCycle 8 = .ok (.ireturn, 1) := dk_172 (dk_at dksX9_isOnCycle_0 8 rfl rfl)
abbrev cX9_value : ByteArray := prog_13_method_13_code
def yX9_value : MethodName := ⟨RX9, "value", "(I)J"⟩
def dkwX9_value_1 : List UInt8 := [173]
abbrev dktX9_value_1 : List UInt8 := dkwX9_value_1 ++ []
def dkwX9_value_0 : List UInt8 := [42, 27, 182, 0, 161, 42, 180, 0, 56, 27, 46, 158, 0, 7, 9, 167, 0, 9, 42, 180, 0, 52, 27, 47]
abbrev dktX9_value_0 : List UInt8 := dkwX9_value_0 ++ dktX9_value_1
theorem dksX9_value_0 : cX9_value.data.toList.drop 0 = dktX9_value_0 := by decide +kernel
theorem dksX9_value_1 : cX9_value.data.toList.drop 24 = dktX9_value_1 := dk_seg dksX9_value_0 24 rfl rfl
theorem dX9_value_0 : decode cX9_value 0 = .ok (.aload_n 0, 1) := dk_42 (dk_at dksX9_value_0 0 rfl rfl)
theorem dX9_value_1 : decode cX9_value 1 = .ok (.iload_n 1, 1) := dk_27 (dk_at dksX9_value_0 1 rfl rfl)
theorem dX9_value_2 : decode cX9_value 2 = .ok (.invokevirtual 161, 3) := dk_182 0 161 (dk_at dksX9_value_0 2 rfl rfl)
theorem dX9_value_5 : decode cX9_value 5 = .ok (.aload_n 0, 1) := dk_42 (dk_at dksX9_value_0 5 rfl rfl)
theorem dX9_value_6 : decode cX9_value 6 = .ok (.getfield 56, 3) := dk_180 0 56 (dk_at dksX9_value_0 6 rfl rfl)
theorem dX9_value_9 : decode cX9_value 9 = .ok (.iload_n 1, 1) := dk_27 (dk_at dksX9_value_0 9 rfl rfl)
theorem dX9_value_10 : decode cX9_value 10 = .ok (.iaload, 1) := dk_46 (dk_at dksX9_value_0 10 rfl rfl)
theorem dX9_value_11 : decode cX9_value 11 = .ok (.ifCond .le 7, 3) := dk_158 0 7 (dk_at dksX9_value_0 11 rfl rfl)
theorem dX9_value_14 : decode cX9_value 14 = .ok (.lconst 0, 1) := dk_9 (dk_at dksX9_value_0 14 rfl rfl)
theorem dX9_value_15 : decode cX9_value 15 = .ok (.goto 9, 3) := dk_167 0 9 (dk_at dksX9_value_0 15 rfl rfl)
theorem dX9_value_18 : decode cX9_value 18 = .ok (.aload_n 0, 1) := dk_42 (dk_at dksX9_value_0 18 rfl rfl)
theorem dX9_value_19 : decode cX9_value 19 = .ok (.getfield 52, 3) := dk_180 0 52 (dk_at dksX9_value_0 19 rfl rfl)
theorem dX9_value_22 : decode cX9_value 22 = .ok (.iload_n 1, 1) := dk_27 (dk_at dksX9_value_0 22 rfl rfl)
theorem dX9_value_23 : decode cX9_value 23 = .ok (.laload, 1) := dk_47 (dk_at dksX9_value_0 23 rfl rfl)
theorem dX9_value_24 : decode cX9_value 24 = .ok (.lreturn, 1) := dk_173 (dk_at dksX9_value_1 0 rfl rfl)
abbrev cX9_know : ByteArray := prog_13_method_12_code
def yX9_know : MethodName := ⟨RX9, "know", "(I)V"⟩
def dkwX9_know_4 : List UInt8 := [180, 0, 160, 133, 80, 177]
abbrev dktX9_know_4 : List UInt8 := dkwX9_know_4 ++ []
def dkwX9_know_3 : List UInt8 := [167, 0, 28, 78, 42, 180, 0, 56, 27, 45, 180, 0, 157, 79, 167, 0, 14, 42, 180, 0, 52, 27, 44]
abbrev dktX9_know_3 : List UInt8 := dkwX9_know_3 ++ dktX9_know_4
def dkwX9_know_2 : List UInt8 := [160, 0, 41, 42, 180, 0, 52, 27, 187, 0, 146, 89, 42, 44, 180, 0, 99, 183, 0, 148, 182, 0, 151, 80]
abbrev dktX9_know_2 : List UInt8 := dkwX9_know_2 ++ dktX9_know_3
def dkwX9_know_1 : List UInt8 := [27, 182, 0, 143, 153, 0, 13, 42, 180, 0, 56, 27, 4, 79, 167, 0, 60, 44, 180, 0, 137, 5]
abbrev dktX9_know_1 : List UInt8 := dkwX9_know_1 ++ dktX9_know_2
def dkwX9_know_0 : List UInt8 := [42, 180, 0, 48, 27, 51, 153, 0, 4, 177, 42, 180, 0, 48, 27, 4, 84, 42, 27, 182, 0, 96, 77, 42]
abbrev dktX9_know_0 : List UInt8 := dkwX9_know_0 ++ dktX9_know_1
theorem dksX9_know_0 : cX9_know.data.toList.drop 0 = dktX9_know_0 := by decide +kernel
theorem dksX9_know_1 : cX9_know.data.toList.drop 24 = dktX9_know_1 := dk_seg dksX9_know_0 24 rfl rfl
theorem dksX9_know_2 : cX9_know.data.toList.drop 46 = dktX9_know_2 := dk_seg dksX9_know_1 22 rfl rfl
theorem dksX9_know_3 : cX9_know.data.toList.drop 70 = dktX9_know_3 := dk_seg dksX9_know_2 24 rfl rfl
theorem dksX9_know_4 : cX9_know.data.toList.drop 93 = dktX9_know_4 := dk_seg dksX9_know_3 23 rfl rfl
theorem dX9_know_0 : decode cX9_know 0 = .ok (.aload_n 0, 1) := dk_42 (dk_at dksX9_know_0 0 rfl rfl)
theorem dX9_know_1 : decode cX9_know 1 = .ok (.getfield 48, 3) := dk_180 0 48 (dk_at dksX9_know_0 1 rfl rfl)
theorem dX9_know_4 : decode cX9_know 4 = .ok (.iload_n 1, 1) := dk_27 (dk_at dksX9_know_0 4 rfl rfl)
theorem dX9_know_5 : decode cX9_know 5 = .ok (.baload, 1) := dk_51 (dk_at dksX9_know_0 5 rfl rfl)
theorem dX9_know_6 : decode cX9_know 6 = .ok (.ifCond .eq 4, 3) := dk_153 0 4 (dk_at dksX9_know_0 6 rfl rfl)
theorem dX9_know_9 : decode cX9_know 9 = .ok (.return_, 1) := dk_177 (dk_at dksX9_know_0 9 rfl rfl)
theorem dX9_know_10 : decode cX9_know 10 = .ok (.aload_n 0, 1) := dk_42 (dk_at dksX9_know_0 10 rfl rfl)
theorem dX9_know_11 : decode cX9_know 11 = .ok (.getfield 48, 3) := dk_180 0 48 (dk_at dksX9_know_0 11 rfl rfl)
theorem dX9_know_14 : decode cX9_know 14 = .ok (.iload_n 1, 1) := dk_27 (dk_at dksX9_know_0 14 rfl rfl)
theorem dX9_know_15 : decode cX9_know 15 = .ok (.iconst 1, 1) := dk_4 (dk_at dksX9_know_0 15 rfl rfl)
theorem dX9_know_16 : decode cX9_know 16 = .ok (.bastore, 1) := dk_84 (dk_at dksX9_know_0 16 rfl rfl)
theorem dX9_know_17 : decode cX9_know 17 = .ok (.aload_n 0, 1) := dk_42 (dk_at dksX9_know_0 17 rfl rfl)
theorem dX9_know_18 : decode cX9_know 18 = .ok (.iload_n 1, 1) := dk_27 (dk_at dksX9_know_0 18 rfl rfl)
theorem dX9_know_19 : decode cX9_know 19 = .ok (.invokevirtual 96, 3) := dk_182 0 96 (dk_at dksX9_know_0 19 rfl rfl)
theorem dX9_know_22 : decode cX9_know 22 = .ok (.astore_n 2, 1) := dk_77 (dk_at dksX9_know_0 22 rfl rfl)
theorem dX9_know_23 : decode cX9_know 23 = .ok (.aload_n 0, 1) := dk_42 (dk_at dksX9_know_0 23 rfl rfl)
theorem dX9_know_24 : decode cX9_know 24 = .ok (.iload_n 1, 1) := dk_27 (dk_at dksX9_know_1 0 rfl rfl)
theorem dX9_know_25 : decode cX9_know 25 = .ok (.invokevirtual 143, 3) := dk_182 0 143 (dk_at dksX9_know_1 1 rfl rfl)
theorem dX9_know_28 : decode cX9_know 28 = .ok (.ifCond .eq 13, 3) := dk_153 0 13 (dk_at dksX9_know_1 4 rfl rfl)
theorem dX9_know_31 : decode cX9_know 31 = .ok (.aload_n 0, 1) := dk_42 (dk_at dksX9_know_1 7 rfl rfl)
theorem dX9_know_32 : decode cX9_know 32 = .ok (.getfield 56, 3) := dk_180 0 56 (dk_at dksX9_know_1 8 rfl rfl)
theorem dX9_know_35 : decode cX9_know 35 = .ok (.iload_n 1, 1) := dk_27 (dk_at dksX9_know_1 11 rfl rfl)
theorem dX9_know_36 : decode cX9_know 36 = .ok (.iconst 1, 1) := dk_4 (dk_at dksX9_know_1 12 rfl rfl)
theorem dX9_know_37 : decode cX9_know 37 = .ok (.iastore, 1) := dk_79 (dk_at dksX9_know_1 13 rfl rfl)
theorem dX9_know_38 : decode cX9_know 38 = .ok (.goto 60, 3) := dk_167 0 60 (dk_at dksX9_know_1 14 rfl rfl)
theorem dX9_know_41 : decode cX9_know 41 = .ok (.aload_n 2, 1) := dk_44 (dk_at dksX9_know_1 17 rfl rfl)
theorem dX9_know_42 : decode cX9_know 42 = .ok (.getfield 137, 3) := dk_180 0 137 (dk_at dksX9_know_1 18 rfl rfl)
theorem dX9_know_45 : decode cX9_know 45 = .ok (.iconst 2, 1) := dk_5 (dk_at dksX9_know_1 21 rfl rfl)
theorem dX9_know_46 : decode cX9_know 46 = .ok (.if_icmp .ne 41, 3) := dk_160 0 41 (dk_at dksX9_know_2 0 rfl rfl)
theorem dX9_know_49 : decode cX9_know 49 = .ok (.aload_n 0, 1) := dk_42 (dk_at dksX9_know_2 3 rfl rfl)
theorem dX9_know_50 : decode cX9_know 50 = .ok (.getfield 52, 3) := dk_180 0 52 (dk_at dksX9_know_2 4 rfl rfl)
theorem dX9_know_53 : decode cX9_know 53 = .ok (.iload_n 1, 1) := dk_27 (dk_at dksX9_know_2 7 rfl rfl)
theorem dX9_know_54 : decode cX9_know 54 = .ok (.new 146, 3) := dk_187 0 146 (dk_at dksX9_know_2 8 rfl rfl)
theorem dX9_know_57 : decode cX9_know 57 = .ok (.dup, 1) := dk_89 (dk_at dksX9_know_2 11 rfl rfl)
theorem dX9_know_58 : decode cX9_know 58 = .ok (.aload_n 0, 1) := dk_42 (dk_at dksX9_know_2 12 rfl rfl)
theorem dX9_know_59 : decode cX9_know 59 = .ok (.aload_n 2, 1) := dk_44 (dk_at dksX9_know_2 13 rfl rfl)
theorem dX9_know_60 : decode cX9_know 60 = .ok (.getfield 99, 3) := dk_180 0 99 (dk_at dksX9_know_2 14 rfl rfl)
theorem dX9_know_63 : decode cX9_know 63 = .ok (.invokespecial 148, 3) := dk_183 0 148 (dk_at dksX9_know_2 17 rfl rfl)
theorem dX9_know_66 : decode cX9_know 66 = .ok (.invokevirtual 151, 3) := dk_182 0 151 (dk_at dksX9_know_2 20 rfl rfl)
theorem dX9_know_69 : decode cX9_know 69 = .ok (.lastore, 1) := dk_80 (dk_at dksX9_know_2 23 rfl rfl)
theorem dX9_know_70 : decode cX9_know 70 = .ok (.goto 28, 3) := dk_167 0 28 (dk_at dksX9_know_3 0 rfl rfl)
theorem dX9_know_73 : decode cX9_know 73 = .ok (.astore_n 3, 1) := dk_78 (dk_at dksX9_know_3 3 rfl rfl)
theorem dX9_know_74 : decode cX9_know 74 = .ok (.aload_n 0, 1) := dk_42 (dk_at dksX9_know_3 4 rfl rfl)
theorem dX9_know_75 : decode cX9_know 75 = .ok (.getfield 56, 3) := dk_180 0 56 (dk_at dksX9_know_3 5 rfl rfl)
theorem dX9_know_78 : decode cX9_know 78 = .ok (.iload_n 1, 1) := dk_27 (dk_at dksX9_know_3 8 rfl rfl)
theorem dX9_know_79 : decode cX9_know 79 = .ok (.aload_n 3, 1) := dk_45 (dk_at dksX9_know_3 9 rfl rfl)
theorem dX9_know_80 : decode cX9_know 80 = .ok (.getfield 157, 3) := dk_180 0 157 (dk_at dksX9_know_3 10 rfl rfl)
theorem dX9_know_83 : decode cX9_know 83 = .ok (.iastore, 1) := dk_79 (dk_at dksX9_know_3 13 rfl rfl)
theorem dX9_know_84 : decode cX9_know 84 = .ok (.goto 14, 3) := dk_167 0 14 (dk_at dksX9_know_3 14 rfl rfl)
theorem dX9_know_87 : decode cX9_know 87 = .ok (.aload_n 0, 1) := dk_42 (dk_at dksX9_know_3 17 rfl rfl)
theorem dX9_know_88 : decode cX9_know 88 = .ok (.getfield 52, 3) := dk_180 0 52 (dk_at dksX9_know_3 18 rfl rfl)
theorem dX9_know_91 : decode cX9_know 91 = .ok (.iload_n 1, 1) := dk_27 (dk_at dksX9_know_3 21 rfl rfl)
theorem dX9_know_92 : decode cX9_know 92 = .ok (.aload_n 2, 1) := dk_44 (dk_at dksX9_know_3 22 rfl rfl)
theorem dX9_know_93 : decode cX9_know 93 = .ok (.getfield 160, 3) := dk_180 0 160 (dk_at dksX9_know_4 0 rfl rfl)
theorem dX9_know_96 : decode cX9_know 96 = .ok (.i2l, 1) := dk_133 (dk_at dksX9_know_4 3 rfl rfl)
theorem dX9_know_97 : decode cX9_know 97 = .ok (.lastore, 1) := dk_80 (dk_at dksX9_know_4 4 rfl rfl)
theorem dX9_know_98 : decode cX9_know 98 = .ok (.return_, 1) := dk_177 (dk_at dksX9_know_4 5 rfl rfl)
abbrev cX9_operand : ByteArray := prog_13_method_16_code
def yX9_operand : MethodName := ⟨RX9, "operand", "(I)J"⟩
def dkwX9_operand_1 : List UInt8 := [187, 0, 155, 89, 42, 27, 182, 0, 170, 183, 0, 168, 191, 42, 27, 182, 0, 173, 173]
abbrev dktX9_operand_1 : List UInt8 := dkwX9_operand_1 ++ []
def dkwX9_operand_0 : List UInt8 := [27, 2, 160, 0, 12, 187, 0, 155, 89, 5, 183, 0, 168, 191, 42, 27, 182, 0, 170, 158, 0, 16]
abbrev dktX9_operand_0 : List UInt8 := dkwX9_operand_0 ++ dktX9_operand_1
theorem dksX9_operand_0 : cX9_operand.data.toList.drop 0 = dktX9_operand_0 := by decide +kernel
theorem dksX9_operand_1 : cX9_operand.data.toList.drop 22 = dktX9_operand_1 := dk_seg dksX9_operand_0 22 rfl rfl
theorem dX9_operand_0 : decode cX9_operand 0 = .ok (.iload_n 1, 1) := dk_27 (dk_at dksX9_operand_0 0 rfl rfl)
theorem dX9_operand_1 : decode cX9_operand 1 = .ok (.iconst (-1), 1) := dk_2 (dk_at dksX9_operand_0 1 rfl rfl)
theorem dX9_operand_2 : decode cX9_operand 2 = .ok (.if_icmp .ne 12, 3) := dk_160 0 12 (dk_at dksX9_operand_0 2 rfl rfl)
theorem dX9_operand_5 : decode cX9_operand 5 = .ok (.new 155, 3) := dk_187 0 155 (dk_at dksX9_operand_0 5 rfl rfl)
theorem dX9_operand_8 : decode cX9_operand 8 = .ok (.dup, 1) := dk_89 (dk_at dksX9_operand_0 8 rfl rfl)
theorem dX9_operand_9 : decode cX9_operand 9 = .ok (.iconst 2, 1) := dk_5 (dk_at dksX9_operand_0 9 rfl rfl)
theorem dX9_operand_10 : decode cX9_operand 10 = .ok (.invokespecial 168, 3) := dk_183 0 168 (dk_at dksX9_operand_0 10 rfl rfl)
theorem dX9_operand_13 : decode cX9_operand 13 = .ok (.athrow, 1) := dk_191 (dk_at dksX9_operand_0 13 rfl rfl)
theorem dX9_operand_14 : decode cX9_operand 14 = .ok (.aload_n 0, 1) := dk_42 (dk_at dksX9_operand_0 14 rfl rfl)
theorem dX9_operand_15 : decode cX9_operand 15 = .ok (.iload_n 1, 1) := dk_27 (dk_at dksX9_operand_0 15 rfl rfl)
theorem dX9_operand_16 : decode cX9_operand 16 = .ok (.invokevirtual 170, 3) := dk_182 0 170 (dk_at dksX9_operand_0 16 rfl rfl)
theorem dX9_operand_19 : decode cX9_operand 19 = .ok (.ifCond .le 16, 3) := dk_158 0 16 (dk_at dksX9_operand_0 19 rfl rfl)
theorem dX9_operand_22 : decode cX9_operand 22 = .ok (.new 155, 3) := dk_187 0 155 (dk_at dksX9_operand_1 0 rfl rfl)
theorem dX9_operand_25 : decode cX9_operand 25 = .ok (.dup, 1) := dk_89 (dk_at dksX9_operand_1 3 rfl rfl)
theorem dX9_operand_26 : decode cX9_operand 26 = .ok (.aload_n 0, 1) := dk_42 (dk_at dksX9_operand_1 4 rfl rfl)
theorem dX9_operand_27 : decode cX9_operand 27 = .ok (.iload_n 1, 1) := dk_27 (dk_at dksX9_operand_1 5 rfl rfl)
theorem dX9_operand_28 : decode cX9_operand 28 = .ok (.invokevirtual 170, 3) := dk_182 0 170 (dk_at dksX9_operand_1 6 rfl rfl)
theorem dX9_operand_31 : decode cX9_operand 31 = .ok (.invokespecial 168, 3) := dk_183 0 168 (dk_at dksX9_operand_1 9 rfl rfl)
theorem dX9_operand_34 : decode cX9_operand 34 = .ok (.athrow, 1) := dk_191 (dk_at dksX9_operand_1 12 rfl rfl)
theorem dX9_operand_35 : decode cX9_operand 35 = .ok (.aload_n 0, 1) := dk_42 (dk_at dksX9_operand_1 13 rfl rfl)
theorem dX9_operand_36 : decode cX9_operand 36 = .ok (.iload_n 1, 1) := dk_27 (dk_at dksX9_operand_1 14 rfl rfl)
theorem dX9_operand_37 : decode cX9_operand 37 = .ok (.invokevirtual 173, 3) := dk_182 0 173 (dk_at dksX9_operand_1 15 rfl rfl)
theorem dX9_operand_40 : decode cX9_operand 40 = .ok (.lreturn, 1) := dk_173 (dk_at dksX9_operand_1 18 rfl rfl)
abbrev cX9_error : ByteArray := prog_13_method_14_code
def yX9_error : MethodName := ⟨RX9, "error", "(I)I"⟩
def dkwX9_error_0 : List UInt8 := [42, 27, 182, 0, 161, 42, 180, 0, 56, 27, 46, 172]
abbrev dktX9_error_0 : List UInt8 := dkwX9_error_0 ++ []
theorem dksX9_error_0 : cX9_error.data.toList.drop 0 = dktX9_error_0 := by decide +kernel
theorem dX9_error_0 : decode cX9_error 0 = .ok (.aload_n 0, 1) := dk_42 (dk_at dksX9_error_0 0 rfl rfl)
theorem dX9_error_1 : decode cX9_error 1 = .ok (.iload_n 1, 1) := dk_27 (dk_at dksX9_error_0 1 rfl rfl)
theorem dX9_error_2 : decode cX9_error 2 = .ok (.invokevirtual 161, 3) := dk_182 0 161 (dk_at dksX9_error_0 2 rfl rfl)
theorem dX9_error_5 : decode cX9_error 5 = .ok (.aload_n 0, 1) := dk_42 (dk_at dksX9_error_0 5 rfl rfl)
theorem dX9_error_6 : decode cX9_error 6 = .ok (.getfield 56, 3) := dk_180 0 56 (dk_at dksX9_error_0 6 rfl rfl)
theorem dX9_error_9 : decode cX9_error 9 = .ok (.iload_n 1, 1) := dk_27 (dk_at dksX9_error_0 9 rfl rfl)
theorem dX9_error_10 : decode cX9_error 10 = .ok (.iaload, 1) := dk_46 (dk_at dksX9_error_0 10 rfl rfl)
theorem dX9_error_11 : decode cX9_error 11 = .ok (.ireturn, 1) := dk_172 (dk_at dksX9_error_0 11 rfl rfl)
abbrev cX9_rectangle : ByteArray := prog_13_method_17_code
def yX9_rectangle : MethodName := ⟨RX9, "rectangle", "(II)J"⟩
def dkwX9_rectangle_2 : List UInt8 := [182, 0, 177, 97, 184, 0, 180, 167, 0, 4, 33, 66, 132, 5, 1, 167, 255, 217, 33, 173]
abbrev dktX9_rectangle_2 : List UInt8 := dkwX9_rectangle_2 ++ []
def dkwX9_rectangle_1 : List UInt8 := [21, 5, 42, 180, 0, 38, 162, 0, 36, 42, 21, 5, 27, 28, 182, 0, 122, 153, 0, 17, 33, 42, 21, 5]
abbrev dktX9_rectangle_1 : List UInt8 := dkwX9_rectangle_1 ++ dktX9_rectangle_2
def dkwX9_rectangle_0 : List UInt8 := [27, 2, 159, 0, 8, 28, 2, 160, 0, 12, 187, 0, 155, 89, 5, 183, 0, 168, 191, 9, 66, 3, 54, 5]
abbrev dktX9_rectangle_0 : List UInt8 := dkwX9_rectangle_0 ++ dktX9_rectangle_1
theorem dksX9_rectangle_0 : cX9_rectangle.data.toList.drop 0 = dktX9_rectangle_0 := by decide +kernel
theorem dksX9_rectangle_1 : cX9_rectangle.data.toList.drop 24 = dktX9_rectangle_1 := dk_seg dksX9_rectangle_0 24 rfl rfl
theorem dksX9_rectangle_2 : cX9_rectangle.data.toList.drop 48 = dktX9_rectangle_2 := dk_seg dksX9_rectangle_1 24 rfl rfl
theorem dX9_rectangle_0 : decode cX9_rectangle 0 = .ok (.iload_n 1, 1) := dk_27 (dk_at dksX9_rectangle_0 0 rfl rfl)
theorem dX9_rectangle_1 : decode cX9_rectangle 1 = .ok (.iconst (-1), 1) := dk_2 (dk_at dksX9_rectangle_0 1 rfl rfl)
theorem dX9_rectangle_2 : decode cX9_rectangle 2 = .ok (.if_icmp .eq 8, 3) := dk_159 0 8 (dk_at dksX9_rectangle_0 2 rfl rfl)
theorem dX9_rectangle_5 : decode cX9_rectangle 5 = .ok (.iload_n 2, 1) := dk_28 (dk_at dksX9_rectangle_0 5 rfl rfl)
theorem dX9_rectangle_6 : decode cX9_rectangle 6 = .ok (.iconst (-1), 1) := dk_2 (dk_at dksX9_rectangle_0 6 rfl rfl)
theorem dX9_rectangle_7 : decode cX9_rectangle 7 = .ok (.if_icmp .ne 12, 3) := dk_160 0 12 (dk_at dksX9_rectangle_0 7 rfl rfl)
theorem dX9_rectangle_10 : decode cX9_rectangle 10 = .ok (.new 155, 3) := dk_187 0 155 (dk_at dksX9_rectangle_0 10 rfl rfl)
theorem dX9_rectangle_13 : decode cX9_rectangle 13 = .ok (.dup, 1) := dk_89 (dk_at dksX9_rectangle_0 13 rfl rfl)
theorem dX9_rectangle_14 : decode cX9_rectangle 14 = .ok (.iconst 2, 1) := dk_5 (dk_at dksX9_rectangle_0 14 rfl rfl)
theorem dX9_rectangle_15 : decode cX9_rectangle 15 = .ok (.invokespecial 168, 3) := dk_183 0 168 (dk_at dksX9_rectangle_0 15 rfl rfl)
theorem dX9_rectangle_18 : decode cX9_rectangle 18 = .ok (.athrow, 1) := dk_191 (dk_at dksX9_rectangle_0 18 rfl rfl)
theorem dX9_rectangle_19 : decode cX9_rectangle 19 = .ok (.lconst 0, 1) := dk_9 (dk_at dksX9_rectangle_0 19 rfl rfl)
theorem dX9_rectangle_20 : decode cX9_rectangle 20 = .ok (.lstore_n 3, 1) := dk_66 (dk_at dksX9_rectangle_0 20 rfl rfl)
theorem dX9_rectangle_21 : decode cX9_rectangle 21 = .ok (.iconst 0, 1) := dk_3 (dk_at dksX9_rectangle_0 21 rfl rfl)
theorem dX9_rectangle_22 : decode cX9_rectangle 22 = .ok (.istore 5, 2) := dk_54 5 (dk_at dksX9_rectangle_0 22 rfl rfl)
theorem dX9_rectangle_24 : decode cX9_rectangle 24 = .ok (.iload 5, 2) := dk_21 5 (dk_at dksX9_rectangle_1 0 rfl rfl)
theorem dX9_rectangle_26 : decode cX9_rectangle 26 = .ok (.aload_n 0, 1) := dk_42 (dk_at dksX9_rectangle_1 2 rfl rfl)
theorem dX9_rectangle_27 : decode cX9_rectangle 27 = .ok (.getfield 38, 3) := dk_180 0 38 (dk_at dksX9_rectangle_1 3 rfl rfl)
theorem dX9_rectangle_30 : decode cX9_rectangle 30 = .ok (.if_icmp .ge 36, 3) := dk_162 0 36 (dk_at dksX9_rectangle_1 6 rfl rfl)
theorem dX9_rectangle_33 : decode cX9_rectangle 33 = .ok (.aload_n 0, 1) := dk_42 (dk_at dksX9_rectangle_1 9 rfl rfl)
theorem dX9_rectangle_34 : decode cX9_rectangle 34 = .ok (.iload 5, 2) := dk_21 5 (dk_at dksX9_rectangle_1 10 rfl rfl)
theorem dX9_rectangle_36 : decode cX9_rectangle 36 = .ok (.iload_n 1, 1) := dk_27 (dk_at dksX9_rectangle_1 12 rfl rfl)
theorem dX9_rectangle_37 : decode cX9_rectangle 37 = .ok (.iload_n 2, 1) := dk_28 (dk_at dksX9_rectangle_1 13 rfl rfl)
theorem dX9_rectangle_38 : decode cX9_rectangle 38 = .ok (.invokevirtual 122, 3) := dk_182 0 122 (dk_at dksX9_rectangle_1 14 rfl rfl)
theorem dX9_rectangle_41 : decode cX9_rectangle 41 = .ok (.ifCond .eq 17, 3) := dk_153 0 17 (dk_at dksX9_rectangle_1 17 rfl rfl)
theorem dX9_rectangle_44 : decode cX9_rectangle 44 = .ok (.lload_n 3, 1) := dk_33 (dk_at dksX9_rectangle_1 20 rfl rfl)
theorem dX9_rectangle_45 : decode cX9_rectangle 45 = .ok (.aload_n 0, 1) := dk_42 (dk_at dksX9_rectangle_1 21 rfl rfl)
theorem dX9_rectangle_46 : decode cX9_rectangle 46 = .ok (.iload 5, 2) := dk_21 5 (dk_at dksX9_rectangle_1 22 rfl rfl)
theorem dX9_rectangle_48 : decode cX9_rectangle 48 = .ok (.invokevirtual 177, 3) := dk_182 0 177 (dk_at dksX9_rectangle_2 0 rfl rfl)
theorem dX9_rectangle_51 : decode cX9_rectangle 51 = .ok (.ladd, 1) := dk_97 (dk_at dksX9_rectangle_2 3 rfl rfl)
theorem dX9_rectangle_52 : decode cX9_rectangle 52 = .ok (.invokestatic 180, 3) := dk_184 0 180 (dk_at dksX9_rectangle_2 4 rfl rfl)
theorem dX9_rectangle_55 : decode cX9_rectangle 55 = .ok (.goto 4, 3) := dk_167 0 4 (dk_at dksX9_rectangle_2 7 rfl rfl)
theorem dX9_rectangle_58 : decode cX9_rectangle 58 = .ok (.lload_n 3, 1) := dk_33 (dk_at dksX9_rectangle_2 10 rfl rfl)
theorem dX9_rectangle_59 : decode cX9_rectangle 59 = .ok (.lstore_n 3, 1) := dk_66 (dk_at dksX9_rectangle_2 11 rfl rfl)
theorem dX9_rectangle_60 : decode cX9_rectangle 60 = .ok (.iinc 5 1, 3) := dk_132 5 1 (dk_at dksX9_rectangle_2 12 rfl rfl)
theorem dX9_rectangle_63 : decode cX9_rectangle 63 = .ok (.goto (-39), 3) := dk_167 255 217 (dk_at dksX9_rectangle_2 15 rfl rfl)
theorem dX9_rectangle_66 : decode cX9_rectangle 66 = .ok (.lload_n 3, 1) := dk_33 (dk_at dksX9_rectangle_2 18 rfl rfl)
theorem dX9_rectangle_67 : decode cX9_rectangle 67 = .ok (.lreturn, 1) := dk_173 (dk_at dksX9_rectangle_2 19 rfl rfl)
abbrev cX9_checked : ByteArray := prog_13_method_15_code
def yX9_checked : MethodName := ⟨RX9, "checked", "(J)J"⟩
def dkwX9_checked_1 : List UInt8 := [191, 30, 173]
abbrev dktX9_checked_1 : List UInt8 := dkwX9_checked_1 ++ []
def dkwX9_checked_0 : List UInt8 := [30, 20, 0, 164, 148, 155, 0, 11, 30, 20, 0, 166, 148, 158, 0, 12, 187, 0, 155, 89, 6, 183, 0, 168]
abbrev dktX9_checked_0 : List UInt8 := dkwX9_checked_0 ++ dktX9_checked_1
theorem dksX9_checked_0 : cX9_checked.data.toList.drop 0 = dktX9_checked_0 := by decide +kernel
theorem dksX9_checked_1 : cX9_checked.data.toList.drop 24 = dktX9_checked_1 := dk_seg dksX9_checked_0 24 rfl rfl
theorem dX9_checked_0 : decode cX9_checked 0 = .ok (.lload_n 0, 1) := dk_30 (dk_at dksX9_checked_0 0 rfl rfl)
theorem dX9_checked_1 : decode cX9_checked 1 = .ok (.ldc2_w 164, 3) := dk_20 0 164 (dk_at dksX9_checked_0 1 rfl rfl)
theorem dX9_checked_4 : decode cX9_checked 4 = .ok (.lcmp, 1) := dk_148 (dk_at dksX9_checked_0 4 rfl rfl)
theorem dX9_checked_5 : decode cX9_checked 5 = .ok (.ifCond .lt 11, 3) := dk_155 0 11 (dk_at dksX9_checked_0 5 rfl rfl)
theorem dX9_checked_8 : decode cX9_checked 8 = .ok (.lload_n 0, 1) := dk_30 (dk_at dksX9_checked_0 8 rfl rfl)
theorem dX9_checked_9 : decode cX9_checked 9 = .ok (.ldc2_w 166, 3) := dk_20 0 166 (dk_at dksX9_checked_0 9 rfl rfl)
theorem dX9_checked_12 : decode cX9_checked 12 = .ok (.lcmp, 1) := dk_148 (dk_at dksX9_checked_0 12 rfl rfl)
theorem dX9_checked_13 : decode cX9_checked 13 = .ok (.ifCond .le 12, 3) := dk_158 0 12 (dk_at dksX9_checked_0 13 rfl rfl)
theorem dX9_checked_16 : decode cX9_checked 16 = .ok (.new 155, 3) := dk_187 0 155 (dk_at dksX9_checked_0 16 rfl rfl)
theorem dX9_checked_19 : decode cX9_checked 19 = .ok (.dup, 1) := dk_89 (dk_at dksX9_checked_0 19 rfl rfl)
theorem dX9_checked_20 : decode cX9_checked 20 = .ok (.iconst 3, 1) := dk_6 (dk_at dksX9_checked_0 20 rfl rfl)
theorem dX9_checked_21 : decode cX9_checked 21 = .ok (.invokespecial 168, 3) := dk_183 0 168 (dk_at dksX9_checked_0 21 rfl rfl)
theorem dX9_checked_24 : decode cX9_checked 24 = .ok (.athrow, 1) := dk_191 (dk_at dksX9_checked_1 0 rfl rfl)
theorem dX9_checked_25 : decode cX9_checked 25 = .ok (.lload_n 0, 1) := dk_30 (dk_at dksX9_checked_1 1 rfl rfl)
theorem dX9_checked_26 : decode cX9_checked 26 = .ok (.lreturn, 1) := dk_173 (dk_at dksX9_checked_1 2 rfl rfl)
abbrev cX9_order : ByteArray := prog_13_method_20_code
def yX9_order : MethodName := ⟨RX9, "order", "()Ljava/util/List;"⟩
def dkwX9_order_2 : List UInt8 := [43, 29, 184, 0, 194, 185, 0, 200, 2, 0, 87, 3, 62, 167, 255, 214, 132, 3, 1, 167, 255, 208, 43, 176]
abbrev dktX9_order_2 : List UInt8 := dkwX9_order_2 ++ []
def dkwX9_order_1 : List UInt8 := [162, 0, 46, 42, 29, 182, 0, 187, 153, 0, 32, 42, 29, 44, 182, 0, 190, 153, 0, 23, 44, 29, 4, 84]
abbrev dktX9_order_1 : List UInt8 := dkwX9_order_1 ++ dktX9_order_2
def dkwX9_order_0 : List UInt8 := [187, 0, 184, 89, 183, 0, 186, 76, 42, 180, 0, 38, 188, 4, 77, 3, 62, 29, 42, 180, 0, 38]
abbrev dktX9_order_0 : List UInt8 := dkwX9_order_0 ++ dktX9_order_1
theorem dksX9_order_0 : cX9_order.data.toList.drop 0 = dktX9_order_0 := by decide +kernel
theorem dksX9_order_1 : cX9_order.data.toList.drop 22 = dktX9_order_1 := dk_seg dksX9_order_0 22 rfl rfl
theorem dksX9_order_2 : cX9_order.data.toList.drop 46 = dktX9_order_2 := dk_seg dksX9_order_1 24 rfl rfl
theorem dX9_order_0 : decode cX9_order 0 = .ok (.new 184, 3) := dk_187 0 184 (dk_at dksX9_order_0 0 rfl rfl)
theorem dX9_order_3 : decode cX9_order 3 = .ok (.dup, 1) := dk_89 (dk_at dksX9_order_0 3 rfl rfl)
theorem dX9_order_4 : decode cX9_order 4 = .ok (.invokespecial 186, 3) := dk_183 0 186 (dk_at dksX9_order_0 4 rfl rfl)
theorem dX9_order_7 : decode cX9_order 7 = .ok (.astore_n 1, 1) := dk_76 (dk_at dksX9_order_0 7 rfl rfl)
theorem dX9_order_8 : decode cX9_order 8 = .ok (.aload_n 0, 1) := dk_42 (dk_at dksX9_order_0 8 rfl rfl)
theorem dX9_order_9 : decode cX9_order 9 = .ok (.getfield 38, 3) := dk_180 0 38 (dk_at dksX9_order_0 9 rfl rfl)
theorem dX9_order_12 : decode cX9_order 12 = .ok (.newarray .boolean, 2) := dk_188_4 (dk_at dksX9_order_0 12 rfl rfl)
theorem dX9_order_14 : decode cX9_order 14 = .ok (.astore_n 2, 1) := dk_77 (dk_at dksX9_order_0 14 rfl rfl)
theorem dX9_order_15 : decode cX9_order 15 = .ok (.iconst 0, 1) := dk_3 (dk_at dksX9_order_0 15 rfl rfl)
theorem dX9_order_16 : decode cX9_order 16 = .ok (.istore_n 3, 1) := dk_62 (dk_at dksX9_order_0 16 rfl rfl)
theorem dX9_order_17 : decode cX9_order 17 = .ok (.iload_n 3, 1) := dk_29 (dk_at dksX9_order_0 17 rfl rfl)
theorem dX9_order_18 : decode cX9_order 18 = .ok (.aload_n 0, 1) := dk_42 (dk_at dksX9_order_0 18 rfl rfl)
theorem dX9_order_19 : decode cX9_order 19 = .ok (.getfield 38, 3) := dk_180 0 38 (dk_at dksX9_order_0 19 rfl rfl)
theorem dX9_order_22 : decode cX9_order 22 = .ok (.if_icmp .ge 46, 3) := dk_162 0 46 (dk_at dksX9_order_1 0 rfl rfl)
theorem dX9_order_25 : decode cX9_order 25 = .ok (.aload_n 0, 1) := dk_42 (dk_at dksX9_order_1 3 rfl rfl)
theorem dX9_order_26 : decode cX9_order 26 = .ok (.iload_n 3, 1) := dk_29 (dk_at dksX9_order_1 4 rfl rfl)
theorem dX9_order_27 : decode cX9_order 27 = .ok (.invokevirtual 187, 3) := dk_182 0 187 (dk_at dksX9_order_1 5 rfl rfl)
theorem dX9_order_30 : decode cX9_order 30 = .ok (.ifCond .eq 32, 3) := dk_153 0 32 (dk_at dksX9_order_1 8 rfl rfl)
theorem dX9_order_33 : decode cX9_order 33 = .ok (.aload_n 0, 1) := dk_42 (dk_at dksX9_order_1 11 rfl rfl)
theorem dX9_order_34 : decode cX9_order 34 = .ok (.iload_n 3, 1) := dk_29 (dk_at dksX9_order_1 12 rfl rfl)
theorem dX9_order_35 : decode cX9_order 35 = .ok (.aload_n 2, 1) := dk_44 (dk_at dksX9_order_1 13 rfl rfl)
theorem dX9_order_36 : decode cX9_order 36 = .ok (.invokevirtual 190, 3) := dk_182 0 190 (dk_at dksX9_order_1 14 rfl rfl)
theorem dX9_order_39 : decode cX9_order 39 = .ok (.ifCond .eq 23, 3) := dk_153 0 23 (dk_at dksX9_order_1 17 rfl rfl)
theorem dX9_order_42 : decode cX9_order 42 = .ok (.aload_n 2, 1) := dk_44 (dk_at dksX9_order_1 20 rfl rfl)
theorem dX9_order_43 : decode cX9_order 43 = .ok (.iload_n 3, 1) := dk_29 (dk_at dksX9_order_1 21 rfl rfl)
theorem dX9_order_44 : decode cX9_order 44 = .ok (.iconst 1, 1) := dk_4 (dk_at dksX9_order_1 22 rfl rfl)
theorem dX9_order_45 : decode cX9_order 45 = .ok (.bastore, 1) := dk_84 (dk_at dksX9_order_1 23 rfl rfl)
theorem dX9_order_46 : decode cX9_order 46 = .ok (.aload_n 1, 1) := dk_43 (dk_at dksX9_order_2 0 rfl rfl)
theorem dX9_order_47 : decode cX9_order 47 = .ok (.iload_n 3, 1) := dk_29 (dk_at dksX9_order_2 1 rfl rfl)
theorem dX9_order_48 : decode cX9_order 48 = .ok (.invokestatic 194, 3) := dk_184 0 194 (dk_at dksX9_order_2 2 rfl rfl)
theorem dX9_order_51 : decode cX9_order 51 = .ok (.invokeinterface 200 2, 5) := by decide +kernel
theorem dX9_order_56 : decode cX9_order 56 = .ok (.pop, 1) := dk_87 (dk_at dksX9_order_2 10 rfl rfl)
theorem dX9_order_57 : decode cX9_order 57 = .ok (.iconst 0, 1) := dk_3 (dk_at dksX9_order_2 11 rfl rfl)
theorem dX9_order_58 : decode cX9_order 58 = .ok (.istore_n 3, 1) := dk_62 (dk_at dksX9_order_2 12 rfl rfl)
theorem dX9_order_59 : decode cX9_order 59 = .ok (.goto (-42), 3) := dk_167 255 214 (dk_at dksX9_order_2 13 rfl rfl)
theorem dX9_order_62 : decode cX9_order 62 = .ok (.iinc 3 1, 3) := dk_132 3 1 (dk_at dksX9_order_2 16 rfl rfl)
theorem dX9_order_65 : decode cX9_order 65 = .ok (.goto (-48), 3) := dk_167 255 208 (dk_at dksX9_order_2 19 rfl rfl)
theorem dX9_order_68 : decode cX9_order 68 = .ok (.aload_n 1, 1) := dk_43 (dk_at dksX9_order_2 22 rfl rfl)
theorem dX9_order_69 : decode cX9_order 69 = .ok (.areturn, 1) := dk_176 (dk_at dksX9_order_2 23 rfl rfl)
abbrev cX9_isFree : ByteArray := prog_13_method_18_code
def yX9_isFree : MethodName := ⟨RX9, "isFree", "(I)Z"⟩
def dkwX9_isFree_2 : List UInt8 := [29, 182, 0, 143, 154, 0, 7, 4, 167, 0, 4, 3, 61, 132, 3, 1, 167, 255, 216, 28, 172]
abbrev dktX9_isFree_2 : List UInt8 := dkwX9_isFree_2 ++ []
def dkwX9_isFree_1 : List UInt8 := [28, 153, 0, 42, 29, 42, 180, 0, 38, 162, 0, 34, 42, 180, 0, 45, 27, 50, 29, 51, 153, 0, 11, 42]
abbrev dktX9_isFree_1 : List UInt8 := dkwX9_isFree_1 ++ dktX9_isFree_2
def dkwX9_isFree_0 : List UInt8 := [42, 27, 182, 0, 139, 153, 0, 15, 42, 27, 182, 0, 143, 154, 0, 7, 4, 167, 0, 4, 3, 61, 3, 62]
abbrev dktX9_isFree_0 : List UInt8 := dkwX9_isFree_0 ++ dktX9_isFree_1
theorem dksX9_isFree_0 : cX9_isFree.data.toList.drop 0 = dktX9_isFree_0 := by decide +kernel
theorem dksX9_isFree_1 : cX9_isFree.data.toList.drop 24 = dktX9_isFree_1 := dk_seg dksX9_isFree_0 24 rfl rfl
theorem dksX9_isFree_2 : cX9_isFree.data.toList.drop 48 = dktX9_isFree_2 := dk_seg dksX9_isFree_1 24 rfl rfl
theorem dX9_isFree_0 : decode cX9_isFree 0 = .ok (.aload_n 0, 1) := dk_42 (dk_at dksX9_isFree_0 0 rfl rfl)
theorem dX9_isFree_1 : decode cX9_isFree 1 = .ok (.iload_n 1, 1) := dk_27 (dk_at dksX9_isFree_0 1 rfl rfl)
theorem dX9_isFree_2 : decode cX9_isFree 2 = .ok (.invokevirtual 139, 3) := dk_182 0 139 (dk_at dksX9_isFree_0 2 rfl rfl)
theorem dX9_isFree_5 : decode cX9_isFree 5 = .ok (.ifCond .eq 15, 3) := dk_153 0 15 (dk_at dksX9_isFree_0 5 rfl rfl)
theorem dX9_isFree_8 : decode cX9_isFree 8 = .ok (.aload_n 0, 1) := dk_42 (dk_at dksX9_isFree_0 8 rfl rfl)
theorem dX9_isFree_9 : decode cX9_isFree 9 = .ok (.iload_n 1, 1) := dk_27 (dk_at dksX9_isFree_0 9 rfl rfl)
theorem dX9_isFree_10 : decode cX9_isFree 10 = .ok (.invokevirtual 143, 3) := dk_182 0 143 (dk_at dksX9_isFree_0 10 rfl rfl)
theorem dX9_isFree_13 : decode cX9_isFree 13 = .ok (.ifCond .ne 7, 3) := dk_154 0 7 (dk_at dksX9_isFree_0 13 rfl rfl)
theorem dX9_isFree_16 : decode cX9_isFree 16 = .ok (.iconst 1, 1) := dk_4 (dk_at dksX9_isFree_0 16 rfl rfl)
theorem dX9_isFree_17 : decode cX9_isFree 17 = .ok (.goto 4, 3) := dk_167 0 4 (dk_at dksX9_isFree_0 17 rfl rfl)
theorem dX9_isFree_20 : decode cX9_isFree 20 = .ok (.iconst 0, 1) := dk_3 (dk_at dksX9_isFree_0 20 rfl rfl)
theorem dX9_isFree_21 : decode cX9_isFree 21 = .ok (.istore_n 2, 1) := dk_61 (dk_at dksX9_isFree_0 21 rfl rfl)
theorem dX9_isFree_22 : decode cX9_isFree 22 = .ok (.iconst 0, 1) := dk_3 (dk_at dksX9_isFree_0 22 rfl rfl)
theorem dX9_isFree_23 : decode cX9_isFree 23 = .ok (.istore_n 3, 1) := dk_62 (dk_at dksX9_isFree_0 23 rfl rfl)
theorem dX9_isFree_24 : decode cX9_isFree 24 = .ok (.iload_n 2, 1) := dk_28 (dk_at dksX9_isFree_1 0 rfl rfl)
theorem dX9_isFree_25 : decode cX9_isFree 25 = .ok (.ifCond .eq 42, 3) := dk_153 0 42 (dk_at dksX9_isFree_1 1 rfl rfl)
theorem dX9_isFree_28 : decode cX9_isFree 28 = .ok (.iload_n 3, 1) := dk_29 (dk_at dksX9_isFree_1 4 rfl rfl)
theorem dX9_isFree_29 : decode cX9_isFree 29 = .ok (.aload_n 0, 1) := dk_42 (dk_at dksX9_isFree_1 5 rfl rfl)
theorem dX9_isFree_30 : decode cX9_isFree 30 = .ok (.getfield 38, 3) := dk_180 0 38 (dk_at dksX9_isFree_1 6 rfl rfl)
theorem dX9_isFree_33 : decode cX9_isFree 33 = .ok (.if_icmp .ge 34, 3) := dk_162 0 34 (dk_at dksX9_isFree_1 9 rfl rfl)
theorem dX9_isFree_36 : decode cX9_isFree 36 = .ok (.aload_n 0, 1) := dk_42 (dk_at dksX9_isFree_1 12 rfl rfl)
theorem dX9_isFree_37 : decode cX9_isFree 37 = .ok (.getfield 45, 3) := dk_180 0 45 (dk_at dksX9_isFree_1 13 rfl rfl)
theorem dX9_isFree_40 : decode cX9_isFree 40 = .ok (.iload_n 1, 1) := dk_27 (dk_at dksX9_isFree_1 16 rfl rfl)
theorem dX9_isFree_41 : decode cX9_isFree 41 = .ok (.aaload, 1) := dk_50 (dk_at dksX9_isFree_1 17 rfl rfl)
theorem dX9_isFree_42 : decode cX9_isFree 42 = .ok (.iload_n 3, 1) := dk_29 (dk_at dksX9_isFree_1 18 rfl rfl)
theorem dX9_isFree_43 : decode cX9_isFree 43 = .ok (.baload, 1) := dk_51 (dk_at dksX9_isFree_1 19 rfl rfl)
theorem dX9_isFree_44 : decode cX9_isFree 44 = .ok (.ifCond .eq 11, 3) := dk_153 0 11 (dk_at dksX9_isFree_1 20 rfl rfl)
theorem dX9_isFree_47 : decode cX9_isFree 47 = .ok (.aload_n 0, 1) := dk_42 (dk_at dksX9_isFree_1 23 rfl rfl)
theorem dX9_isFree_48 : decode cX9_isFree 48 = .ok (.iload_n 3, 1) := dk_29 (dk_at dksX9_isFree_2 0 rfl rfl)
theorem dX9_isFree_49 : decode cX9_isFree 49 = .ok (.invokevirtual 143, 3) := dk_182 0 143 (dk_at dksX9_isFree_2 1 rfl rfl)
theorem dX9_isFree_52 : decode cX9_isFree 52 = .ok (.ifCond .ne 7, 3) := dk_154 0 7 (dk_at dksX9_isFree_2 4 rfl rfl)
theorem dX9_isFree_55 : decode cX9_isFree 55 = .ok (.iconst 1, 1) := dk_4 (dk_at dksX9_isFree_2 7 rfl rfl)
theorem dX9_isFree_56 : decode cX9_isFree 56 = .ok (.goto 4, 3) := dk_167 0 4 (dk_at dksX9_isFree_2 8 rfl rfl)
theorem dX9_isFree_59 : decode cX9_isFree 59 = .ok (.iconst 0, 1) := dk_3 (dk_at dksX9_isFree_2 11 rfl rfl)
theorem dX9_isFree_60 : decode cX9_isFree 60 = .ok (.istore_n 2, 1) := dk_61 (dk_at dksX9_isFree_2 12 rfl rfl)
theorem dX9_isFree_61 : decode cX9_isFree 61 = .ok (.iinc 3 1, 3) := dk_132 3 1 (dk_at dksX9_isFree_2 13 rfl rfl)
theorem dX9_isFree_64 : decode cX9_isFree 64 = .ok (.goto (-40), 3) := dk_167 255 216 (dk_at dksX9_isFree_2 16 rfl rfl)
theorem dX9_isFree_67 : decode cX9_isFree 67 = .ok (.iload_n 2, 1) := dk_28 (dk_at dksX9_isFree_2 19 rfl rfl)
theorem dX9_isFree_68 : decode cX9_isFree 68 = .ok (.ireturn, 1) := dk_172 (dk_at dksX9_isFree_2 20 rfl rfl)
abbrev cX9_isReady : ByteArray := prog_13_method_19_code
def yX9_isReady : MethodName := ⟨RX9, "isReady", "(I[Z)Z"⟩
def dkwX9_isReady_2 : List UInt8 := [153, 0, 10, 44, 21, 4, 51, 153, 0, 7, 4, 167, 0, 4, 3, 62, 132, 4, 1, 167, 255, 206, 29, 172]
abbrev dktX9_isReady_2 : List UInt8 := dkwX9_isReady_2 ++ []
def dkwX9_isReady_1 : List UInt8 := [180, 0, 38, 162, 0, 43, 42, 180, 0, 42, 27, 50, 21, 4, 51, 153, 0, 19, 42, 21, 4, 182, 0, 139]
abbrev dktX9_isReady_1 : List UInt8 := dkwX9_isReady_1 ++ dktX9_isReady_2
def dkwX9_isReady_0 : List UInt8 := [44, 27, 51, 154, 0, 7, 4, 167, 0, 4, 3, 62, 3, 54, 4, 29, 153, 0, 52, 21, 4, 42]
abbrev dktX9_isReady_0 : List UInt8 := dkwX9_isReady_0 ++ dktX9_isReady_1
theorem dksX9_isReady_0 : cX9_isReady.data.toList.drop 0 = dktX9_isReady_0 := by decide +kernel
theorem dksX9_isReady_1 : cX9_isReady.data.toList.drop 22 = dktX9_isReady_1 := dk_seg dksX9_isReady_0 22 rfl rfl
theorem dksX9_isReady_2 : cX9_isReady.data.toList.drop 46 = dktX9_isReady_2 := dk_seg dksX9_isReady_1 24 rfl rfl
theorem dX9_isReady_0 : decode cX9_isReady 0 = .ok (.aload_n 2, 1) := dk_44 (dk_at dksX9_isReady_0 0 rfl rfl)
theorem dX9_isReady_1 : decode cX9_isReady 1 = .ok (.iload_n 1, 1) := dk_27 (dk_at dksX9_isReady_0 1 rfl rfl)
theorem dX9_isReady_2 : decode cX9_isReady 2 = .ok (.baload, 1) := dk_51 (dk_at dksX9_isReady_0 2 rfl rfl)
theorem dX9_isReady_3 : decode cX9_isReady 3 = .ok (.ifCond .ne 7, 3) := dk_154 0 7 (dk_at dksX9_isReady_0 3 rfl rfl)
theorem dX9_isReady_6 : decode cX9_isReady 6 = .ok (.iconst 1, 1) := dk_4 (dk_at dksX9_isReady_0 6 rfl rfl)
theorem dX9_isReady_7 : decode cX9_isReady 7 = .ok (.goto 4, 3) := dk_167 0 4 (dk_at dksX9_isReady_0 7 rfl rfl)
theorem dX9_isReady_10 : decode cX9_isReady 10 = .ok (.iconst 0, 1) := dk_3 (dk_at dksX9_isReady_0 10 rfl rfl)
theorem dX9_isReady_11 : decode cX9_isReady 11 = .ok (.istore_n 3, 1) := dk_62 (dk_at dksX9_isReady_0 11 rfl rfl)
theorem dX9_isReady_12 : decode cX9_isReady 12 = .ok (.iconst 0, 1) := dk_3 (dk_at dksX9_isReady_0 12 rfl rfl)
theorem dX9_isReady_13 : decode cX9_isReady 13 = .ok (.istore 4, 2) := dk_54 4 (dk_at dksX9_isReady_0 13 rfl rfl)
theorem dX9_isReady_15 : decode cX9_isReady 15 = .ok (.iload_n 3, 1) := dk_29 (dk_at dksX9_isReady_0 15 rfl rfl)
theorem dX9_isReady_16 : decode cX9_isReady 16 = .ok (.ifCond .eq 52, 3) := dk_153 0 52 (dk_at dksX9_isReady_0 16 rfl rfl)
theorem dX9_isReady_19 : decode cX9_isReady 19 = .ok (.iload 4, 2) := dk_21 4 (dk_at dksX9_isReady_0 19 rfl rfl)
theorem dX9_isReady_21 : decode cX9_isReady 21 = .ok (.aload_n 0, 1) := dk_42 (dk_at dksX9_isReady_0 21 rfl rfl)
theorem dX9_isReady_22 : decode cX9_isReady 22 = .ok (.getfield 38, 3) := dk_180 0 38 (dk_at dksX9_isReady_1 0 rfl rfl)
theorem dX9_isReady_25 : decode cX9_isReady 25 = .ok (.if_icmp .ge 43, 3) := dk_162 0 43 (dk_at dksX9_isReady_1 3 rfl rfl)
theorem dX9_isReady_28 : decode cX9_isReady 28 = .ok (.aload_n 0, 1) := dk_42 (dk_at dksX9_isReady_1 6 rfl rfl)
theorem dX9_isReady_29 : decode cX9_isReady 29 = .ok (.getfield 42, 3) := dk_180 0 42 (dk_at dksX9_isReady_1 7 rfl rfl)
theorem dX9_isReady_32 : decode cX9_isReady 32 = .ok (.iload_n 1, 1) := dk_27 (dk_at dksX9_isReady_1 10 rfl rfl)
theorem dX9_isReady_33 : decode cX9_isReady 33 = .ok (.aaload, 1) := dk_50 (dk_at dksX9_isReady_1 11 rfl rfl)
theorem dX9_isReady_34 : decode cX9_isReady 34 = .ok (.iload 4, 2) := dk_21 4 (dk_at dksX9_isReady_1 12 rfl rfl)
theorem dX9_isReady_36 : decode cX9_isReady 36 = .ok (.baload, 1) := dk_51 (dk_at dksX9_isReady_1 14 rfl rfl)
theorem dX9_isReady_37 : decode cX9_isReady 37 = .ok (.ifCond .eq 19, 3) := dk_153 0 19 (dk_at dksX9_isReady_1 15 rfl rfl)
theorem dX9_isReady_40 : decode cX9_isReady 40 = .ok (.aload_n 0, 1) := dk_42 (dk_at dksX9_isReady_1 18 rfl rfl)
theorem dX9_isReady_41 : decode cX9_isReady 41 = .ok (.iload 4, 2) := dk_21 4 (dk_at dksX9_isReady_1 19 rfl rfl)
theorem dX9_isReady_43 : decode cX9_isReady 43 = .ok (.invokevirtual 139, 3) := dk_182 0 139 (dk_at dksX9_isReady_1 21 rfl rfl)
theorem dX9_isReady_46 : decode cX9_isReady 46 = .ok (.ifCond .eq 10, 3) := dk_153 0 10 (dk_at dksX9_isReady_2 0 rfl rfl)
theorem dX9_isReady_49 : decode cX9_isReady 49 = .ok (.aload_n 2, 1) := dk_44 (dk_at dksX9_isReady_2 3 rfl rfl)
theorem dX9_isReady_50 : decode cX9_isReady 50 = .ok (.iload 4, 2) := dk_21 4 (dk_at dksX9_isReady_2 4 rfl rfl)
theorem dX9_isReady_52 : decode cX9_isReady 52 = .ok (.baload, 1) := dk_51 (dk_at dksX9_isReady_2 6 rfl rfl)
theorem dX9_isReady_53 : decode cX9_isReady 53 = .ok (.ifCond .eq 7, 3) := dk_153 0 7 (dk_at dksX9_isReady_2 7 rfl rfl)
theorem dX9_isReady_56 : decode cX9_isReady 56 = .ok (.iconst 1, 1) := dk_4 (dk_at dksX9_isReady_2 10 rfl rfl)
theorem dX9_isReady_57 : decode cX9_isReady 57 = .ok (.goto 4, 3) := dk_167 0 4 (dk_at dksX9_isReady_2 11 rfl rfl)
theorem dX9_isReady_60 : decode cX9_isReady 60 = .ok (.iconst 0, 1) := dk_3 (dk_at dksX9_isReady_2 14 rfl rfl)
theorem dX9_isReady_61 : decode cX9_isReady 61 = .ok (.istore_n 3, 1) := dk_62 (dk_at dksX9_isReady_2 15 rfl rfl)
theorem dX9_isReady_62 : decode cX9_isReady 62 = .ok (.iinc 4 1, 3) := dk_132 4 1 (dk_at dksX9_isReady_2 16 rfl rfl)
theorem dX9_isReady_65 : decode cX9_isReady 65 = .ok (.goto (-50), 3) := dk_167 255 206 (dk_at dksX9_isReady_2 19 rfl rfl)
theorem dX9_isReady_68 : decode cX9_isReady 68 = .ok (.iload_n 3, 1) := dk_29 (dk_at dksX9_isReady_2 22 rfl rfl)
theorem dX9_isReady_69 : decode cX9_isReady 69 = .ok (.ireturn, 1) := dk_172 (dk_at dksX9_isReady_2 23 rfl rfl)
abbrev cX9_write : ByteArray := prog_13_method_22_code
def yX9_write : MethodName := ⟨RX9, "write", "(Ljava/lang/StringBuilder;Ljava/util/List;)V"⟩
def dkwX9_write_6 : List UInt8 := [132, 3, 1, 167, 255, 119, 177]
abbrev dktX9_write_6 : List UInt8 := dkwX9_write_6 ++ []
def dkwX9_write_5 : List UInt8 := [182, 0, 214, 43, 16, 41, 182, 0, 204, 87, 167, 0, 13, 43, 25, 4, 180, 0, 104, 182, 0, 204, 87]
abbrev dktX9_write_5 : List UInt8 := dkwX9_write_5 ++ dktX9_write_6
def dkwX9_write_4 : List UInt8 := [132, 3, 1, 43, 16, 58, 182, 0, 204, 87, 42, 43, 44, 29, 185, 0, 67, 2, 0, 192, 0, 102]
abbrev dktX9_write_4 : List UInt8 := dkwX9_write_4 ++ dktX9_write_5
def dkwX9_write_3 : List UInt8 := [180, 0, 104, 16, 83, 160, 0, 52, 43, 18, 218, 182, 0, 220, 87, 42, 43, 25, 4, 182, 0, 214]
abbrev dktX9_write_3 : List UInt8 := dkwX9_write_3 ++ dktX9_write_4
def dkwX9_write_2 : List UInt8 := [25, 4, 180, 0, 104, 16, 64, 160, 0, 13, 42, 43, 25, 4, 182, 0, 214, 167, 0, 72, 25, 4]
abbrev dktX9_write_2 : List UInt8 := dkwX9_write_2 ++ dktX9_write_3
def dkwX9_write_1 : List UInt8 := [25, 4, 180, 0, 104, 16, 35, 160, 0, 16, 43, 25, 4, 180, 0, 213, 182, 0, 210, 87, 167, 0, 92]
abbrev dktX9_write_1 : List UInt8 := dkwX9_write_1 ++ dktX9_write_2
def dkwX9_write_0 : List UInt8 := [3, 62, 29, 44, 185, 0, 28, 1, 0, 162, 0, 133, 44, 29, 185, 0, 67, 2, 0, 192, 0, 102, 58, 4]
abbrev dktX9_write_0 : List UInt8 := dkwX9_write_0 ++ dktX9_write_1
theorem dksX9_write_0 : cX9_write.data.toList.drop 0 = dktX9_write_0 := by decide +kernel
theorem dksX9_write_1 : cX9_write.data.toList.drop 24 = dktX9_write_1 := dk_seg dksX9_write_0 24 rfl rfl
theorem dksX9_write_2 : cX9_write.data.toList.drop 47 = dktX9_write_2 := dk_seg dksX9_write_1 23 rfl rfl
theorem dksX9_write_3 : cX9_write.data.toList.drop 69 = dktX9_write_3 := dk_seg dksX9_write_2 22 rfl rfl
theorem dksX9_write_4 : cX9_write.data.toList.drop 91 = dktX9_write_4 := dk_seg dksX9_write_3 22 rfl rfl
theorem dksX9_write_5 : cX9_write.data.toList.drop 113 = dktX9_write_5 := dk_seg dksX9_write_4 22 rfl rfl
theorem dksX9_write_6 : cX9_write.data.toList.drop 136 = dktX9_write_6 := dk_seg dksX9_write_5 23 rfl rfl
theorem dX9_write_0 : decode cX9_write 0 = .ok (.iconst 0, 1) := dk_3 (dk_at dksX9_write_0 0 rfl rfl)
theorem dX9_write_1 : decode cX9_write 1 = .ok (.istore_n 3, 1) := dk_62 (dk_at dksX9_write_0 1 rfl rfl)
theorem dX9_write_2 : decode cX9_write 2 = .ok (.iload_n 3, 1) := dk_29 (dk_at dksX9_write_0 2 rfl rfl)
theorem dX9_write_3 : decode cX9_write 3 = .ok (.aload_n 2, 1) := dk_44 (dk_at dksX9_write_0 3 rfl rfl)
theorem dX9_write_4 : decode cX9_write 4 = .ok (.invokeinterface 28 1, 5) := by decide +kernel
theorem dX9_write_9 : decode cX9_write 9 = .ok (.if_icmp .ge 133, 3) := dk_162 0 133 (dk_at dksX9_write_0 9 rfl rfl)
theorem dX9_write_12 : decode cX9_write 12 = .ok (.aload_n 2, 1) := dk_44 (dk_at dksX9_write_0 12 rfl rfl)
theorem dX9_write_13 : decode cX9_write 13 = .ok (.iload_n 3, 1) := dk_29 (dk_at dksX9_write_0 13 rfl rfl)
theorem dX9_write_14 : decode cX9_write 14 = .ok (.invokeinterface 67 2, 5) := by decide +kernel
theorem dX9_write_19 : decode cX9_write 19 = .ok (.checkcast 102, 3) := dk_192 0 102 (dk_at dksX9_write_0 19 rfl rfl)
theorem dX9_write_22 : decode cX9_write 22 = .ok (.astore 4, 2) := dk_58 4 (dk_at dksX9_write_0 22 rfl rfl)
theorem dX9_write_24 : decode cX9_write 24 = .ok (.aload 4, 2) := dk_25 4 (dk_at dksX9_write_1 0 rfl rfl)
theorem dX9_write_26 : decode cX9_write 26 = .ok (.getfield 104, 3) := dk_180 0 104 (dk_at dksX9_write_1 2 rfl rfl)
theorem dX9_write_29 : decode cX9_write 29 = .ok (.bipush 35, 2) := dk_16 35 (dk_at dksX9_write_1 5 rfl rfl)
theorem dX9_write_31 : decode cX9_write 31 = .ok (.if_icmp .ne 16, 3) := dk_160 0 16 (dk_at dksX9_write_1 7 rfl rfl)
theorem dX9_write_34 : decode cX9_write 34 = .ok (.aload_n 1, 1) := dk_43 (dk_at dksX9_write_1 10 rfl rfl)
theorem dX9_write_35 : decode cX9_write 35 = .ok (.aload 4, 2) := dk_25 4 (dk_at dksX9_write_1 11 rfl rfl)
theorem dX9_write_37 : decode cX9_write 37 = .ok (.getfield 213, 3) := dk_180 0 213 (dk_at dksX9_write_1 13 rfl rfl)
theorem dX9_write_40 : decode cX9_write 40 = .ok (.invokevirtual 210, 3) := dk_182 0 210 (dk_at dksX9_write_1 16 rfl rfl)
theorem dX9_write_43 : decode cX9_write 43 = .ok (.pop, 1) := dk_87 (dk_at dksX9_write_1 19 rfl rfl)
theorem dX9_write_44 : decode cX9_write 44 = .ok (.goto 92, 3) := dk_167 0 92 (dk_at dksX9_write_1 20 rfl rfl)
theorem dX9_write_47 : decode cX9_write 47 = .ok (.aload 4, 2) := dk_25 4 (dk_at dksX9_write_2 0 rfl rfl)
theorem dX9_write_49 : decode cX9_write 49 = .ok (.getfield 104, 3) := dk_180 0 104 (dk_at dksX9_write_2 2 rfl rfl)
theorem dX9_write_52 : decode cX9_write 52 = .ok (.bipush 64, 2) := dk_16 64 (dk_at dksX9_write_2 5 rfl rfl)
theorem dX9_write_54 : decode cX9_write 54 = .ok (.if_icmp .ne 13, 3) := dk_160 0 13 (dk_at dksX9_write_2 7 rfl rfl)
theorem dX9_write_57 : decode cX9_write 57 = .ok (.aload_n 0, 1) := dk_42 (dk_at dksX9_write_2 10 rfl rfl)
theorem dX9_write_58 : decode cX9_write 58 = .ok (.aload_n 1, 1) := dk_43 (dk_at dksX9_write_2 11 rfl rfl)
theorem dX9_write_59 : decode cX9_write 59 = .ok (.aload 4, 2) := dk_25 4 (dk_at dksX9_write_2 12 rfl rfl)
theorem dX9_write_61 : decode cX9_write 61 = .ok (.invokevirtual 214, 3) := dk_182 0 214 (dk_at dksX9_write_2 14 rfl rfl)
theorem dX9_write_64 : decode cX9_write 64 = .ok (.goto 72, 3) := dk_167 0 72 (dk_at dksX9_write_2 17 rfl rfl)
theorem dX9_write_67 : decode cX9_write 67 = .ok (.aload 4, 2) := dk_25 4 (dk_at dksX9_write_2 20 rfl rfl)
theorem dX9_write_69 : decode cX9_write 69 = .ok (.getfield 104, 3) := dk_180 0 104 (dk_at dksX9_write_3 0 rfl rfl)
theorem dX9_write_72 : decode cX9_write 72 = .ok (.bipush 83, 2) := dk_16 83 (dk_at dksX9_write_3 3 rfl rfl)
theorem dX9_write_74 : decode cX9_write 74 = .ok (.if_icmp .ne 52, 3) := dk_160 0 52 (dk_at dksX9_write_3 5 rfl rfl)
theorem dX9_write_77 : decode cX9_write 77 = .ok (.aload_n 1, 1) := dk_43 (dk_at dksX9_write_3 8 rfl rfl)
theorem dX9_write_78 : decode cX9_write 78 = .ok (.ldc 218, 2) := dk_18 218 (dk_at dksX9_write_3 9 rfl rfl)
theorem dX9_write_80 : decode cX9_write 80 = .ok (.invokevirtual 220, 3) := dk_182 0 220 (dk_at dksX9_write_3 11 rfl rfl)
theorem dX9_write_83 : decode cX9_write 83 = .ok (.pop, 1) := dk_87 (dk_at dksX9_write_3 14 rfl rfl)
theorem dX9_write_84 : decode cX9_write 84 = .ok (.aload_n 0, 1) := dk_42 (dk_at dksX9_write_3 15 rfl rfl)
theorem dX9_write_85 : decode cX9_write 85 = .ok (.aload_n 1, 1) := dk_43 (dk_at dksX9_write_3 16 rfl rfl)
theorem dX9_write_86 : decode cX9_write 86 = .ok (.aload 4, 2) := dk_25 4 (dk_at dksX9_write_3 17 rfl rfl)
theorem dX9_write_88 : decode cX9_write 88 = .ok (.invokevirtual 214, 3) := dk_182 0 214 (dk_at dksX9_write_3 19 rfl rfl)
theorem dX9_write_91 : decode cX9_write 91 = .ok (.iinc 3 1, 3) := dk_132 3 1 (dk_at dksX9_write_4 0 rfl rfl)
theorem dX9_write_94 : decode cX9_write 94 = .ok (.aload_n 1, 1) := dk_43 (dk_at dksX9_write_4 3 rfl rfl)
theorem dX9_write_95 : decode cX9_write 95 = .ok (.bipush 58, 2) := dk_16 58 (dk_at dksX9_write_4 4 rfl rfl)
theorem dX9_write_97 : decode cX9_write 97 = .ok (.invokevirtual 204, 3) := dk_182 0 204 (dk_at dksX9_write_4 6 rfl rfl)
theorem dX9_write_100 : decode cX9_write 100 = .ok (.pop, 1) := dk_87 (dk_at dksX9_write_4 9 rfl rfl)
theorem dX9_write_101 : decode cX9_write 101 = .ok (.aload_n 0, 1) := dk_42 (dk_at dksX9_write_4 10 rfl rfl)
theorem dX9_write_102 : decode cX9_write 102 = .ok (.aload_n 1, 1) := dk_43 (dk_at dksX9_write_4 11 rfl rfl)
theorem dX9_write_103 : decode cX9_write 103 = .ok (.aload_n 2, 1) := dk_44 (dk_at dksX9_write_4 12 rfl rfl)
theorem dX9_write_104 : decode cX9_write 104 = .ok (.iload_n 3, 1) := dk_29 (dk_at dksX9_write_4 13 rfl rfl)
theorem dX9_write_105 : decode cX9_write 105 = .ok (.invokeinterface 67 2, 5) := by decide +kernel
theorem dX9_write_110 : decode cX9_write 110 = .ok (.checkcast 102, 3) := dk_192 0 102 (dk_at dksX9_write_4 19 rfl rfl)
theorem dX9_write_113 : decode cX9_write 113 = .ok (.invokevirtual 214, 3) := dk_182 0 214 (dk_at dksX9_write_5 0 rfl rfl)
theorem dX9_write_116 : decode cX9_write 116 = .ok (.aload_n 1, 1) := dk_43 (dk_at dksX9_write_5 3 rfl rfl)
theorem dX9_write_117 : decode cX9_write 117 = .ok (.bipush 41, 2) := dk_16 41 (dk_at dksX9_write_5 4 rfl rfl)
theorem dX9_write_119 : decode cX9_write 119 = .ok (.invokevirtual 204, 3) := dk_182 0 204 (dk_at dksX9_write_5 6 rfl rfl)
theorem dX9_write_122 : decode cX9_write 122 = .ok (.pop, 1) := dk_87 (dk_at dksX9_write_5 9 rfl rfl)
theorem dX9_write_123 : decode cX9_write 123 = .ok (.goto 13, 3) := dk_167 0 13 (dk_at dksX9_write_5 10 rfl rfl)
theorem dX9_write_126 : decode cX9_write 126 = .ok (.aload_n 1, 1) := dk_43 (dk_at dksX9_write_5 13 rfl rfl)
theorem dX9_write_127 : decode cX9_write 127 = .ok (.aload 4, 2) := dk_25 4 (dk_at dksX9_write_5 14 rfl rfl)
theorem dX9_write_129 : decode cX9_write 129 = .ok (.getfield 104, 3) := dk_180 0 104 (dk_at dksX9_write_5 16 rfl rfl)
theorem dX9_write_132 : decode cX9_write 132 = .ok (.invokevirtual 204, 3) := dk_182 0 204 (dk_at dksX9_write_5 19 rfl rfl)
theorem dX9_write_135 : decode cX9_write 135 = .ok (.pop, 1) := dk_87 (dk_at dksX9_write_5 22 rfl rfl)
theorem dX9_write_136 : decode cX9_write 136 = .ok (.iinc 3 1, 3) := dk_132 3 1 (dk_at dksX9_write_6 0 rfl rfl)
theorem dX9_write_139 : decode cX9_write 139 = .ok (.goto (-137), 3) := dk_167 255 119 (dk_at dksX9_write_6 3 rfl rfl)
theorem dX9_write_142 : decode cX9_write 142 = .ok (.return_, 1) := dk_177 (dk_at dksX9_write_6 6 rfl rfl)
abbrev cX9_name : ByteArray := prog_13_method_21_code
def yX9_name : MethodName := ⟨RX9, "name", "(Ljava/lang/StringBuilder;LSharedSheet$Part;)V"⟩
def dkwX9_name_2 : List UInt8 := [167, 0, 20, 43, 16, 65, 21, 4, 96, 146, 182, 0, 204, 29, 4, 96, 182, 0, 210, 87, 177]
abbrev dktX9_name_2 : List UInt8 := dkwX9_name_2 ++ []
def dkwX9_name_1 : List UInt8 := [54, 4, 29, 3, 16, 8, 184, 0, 134, 153, 0, 8, 21, 4, 156, 0, 13, 43, 16, 35, 182, 0, 204, 87]
abbrev dktX9_name_1 : List UInt8 := dkwX9_name_1 ++ dktX9_name_2
def dkwX9_name_0 : List UInt8 := [42, 180, 0, 21, 44, 180, 0, 108, 184, 0, 92, 62, 42, 180, 0, 25, 44, 180, 0, 111, 184, 0, 92]
abbrev dktX9_name_0 : List UInt8 := dkwX9_name_0 ++ dktX9_name_1
theorem dksX9_name_0 : cX9_name.data.toList.drop 0 = dktX9_name_0 := by decide +kernel
theorem dksX9_name_1 : cX9_name.data.toList.drop 23 = dktX9_name_1 := dk_seg dksX9_name_0 23 rfl rfl
theorem dksX9_name_2 : cX9_name.data.toList.drop 47 = dktX9_name_2 := dk_seg dksX9_name_1 24 rfl rfl
theorem dX9_name_0 : decode cX9_name 0 = .ok (.aload_n 0, 1) := dk_42 (dk_at dksX9_name_0 0 rfl rfl)
theorem dX9_name_1 : decode cX9_name 1 = .ok (.getfield 21, 3) := dk_180 0 21 (dk_at dksX9_name_0 1 rfl rfl)
theorem dX9_name_4 : decode cX9_name 4 = .ok (.aload_n 2, 1) := dk_44 (dk_at dksX9_name_0 4 rfl rfl)
theorem dX9_name_5 : decode cX9_name 5 = .ok (.getfield 108, 3) := dk_180 0 108 (dk_at dksX9_name_0 5 rfl rfl)
theorem dX9_name_8 : decode cX9_name 8 = .ok (.invokestatic 92, 3) := dk_184 0 92 (dk_at dksX9_name_0 8 rfl rfl)
theorem dX9_name_11 : decode cX9_name 11 = .ok (.istore_n 3, 1) := dk_62 (dk_at dksX9_name_0 11 rfl rfl)
theorem dX9_name_12 : decode cX9_name 12 = .ok (.aload_n 0, 1) := dk_42 (dk_at dksX9_name_0 12 rfl rfl)
theorem dX9_name_13 : decode cX9_name 13 = .ok (.getfield 25, 3) := dk_180 0 25 (dk_at dksX9_name_0 13 rfl rfl)
theorem dX9_name_16 : decode cX9_name 16 = .ok (.aload_n 2, 1) := dk_44 (dk_at dksX9_name_0 16 rfl rfl)
theorem dX9_name_17 : decode cX9_name 17 = .ok (.getfield 111, 3) := dk_180 0 111 (dk_at dksX9_name_0 17 rfl rfl)
theorem dX9_name_20 : decode cX9_name 20 = .ok (.invokestatic 92, 3) := dk_184 0 92 (dk_at dksX9_name_0 20 rfl rfl)
theorem dX9_name_23 : decode cX9_name 23 = .ok (.istore 4, 2) := dk_54 4 (dk_at dksX9_name_1 0 rfl rfl)
theorem dX9_name_25 : decode cX9_name 25 = .ok (.iload_n 3, 1) := dk_29 (dk_at dksX9_name_1 2 rfl rfl)
theorem dX9_name_26 : decode cX9_name 26 = .ok (.iconst 0, 1) := dk_3 (dk_at dksX9_name_1 3 rfl rfl)
theorem dX9_name_27 : decode cX9_name 27 = .ok (.bipush 8, 2) := dk_16 8 (dk_at dksX9_name_1 4 rfl rfl)
theorem dX9_name_29 : decode cX9_name 29 = .ok (.invokestatic 134, 3) := dk_184 0 134 (dk_at dksX9_name_1 6 rfl rfl)
theorem dX9_name_32 : decode cX9_name 32 = .ok (.ifCond .eq 8, 3) := dk_153 0 8 (dk_at dksX9_name_1 9 rfl rfl)
theorem dX9_name_35 : decode cX9_name 35 = .ok (.iload 4, 2) := dk_21 4 (dk_at dksX9_name_1 12 rfl rfl)
theorem dX9_name_37 : decode cX9_name 37 = .ok (.ifCond .ge 13, 3) := dk_156 0 13 (dk_at dksX9_name_1 14 rfl rfl)
theorem dX9_name_40 : decode cX9_name 40 = .ok (.aload_n 1, 1) := dk_43 (dk_at dksX9_name_1 17 rfl rfl)
theorem dX9_name_41 : decode cX9_name 41 = .ok (.bipush 35, 2) := dk_16 35 (dk_at dksX9_name_1 18 rfl rfl)
theorem dX9_name_43 : decode cX9_name 43 = .ok (.invokevirtual 204, 3) := dk_182 0 204 (dk_at dksX9_name_1 20 rfl rfl)
theorem dX9_name_46 : decode cX9_name 46 = .ok (.pop, 1) := dk_87 (dk_at dksX9_name_1 23 rfl rfl)
theorem dX9_name_47 : decode cX9_name 47 = .ok (.goto 20, 3) := dk_167 0 20 (dk_at dksX9_name_2 0 rfl rfl)
theorem dX9_name_50 : decode cX9_name 50 = .ok (.aload_n 1, 1) := dk_43 (dk_at dksX9_name_2 3 rfl rfl)
theorem dX9_name_51 : decode cX9_name 51 = .ok (.bipush 65, 2) := dk_16 65 (dk_at dksX9_name_2 4 rfl rfl)
theorem dX9_name_53 : decode cX9_name 53 = .ok (.iload 4, 2) := dk_21 4 (dk_at dksX9_name_2 6 rfl rfl)
theorem dX9_name_55 : decode cX9_name 55 = .ok (.iadd, 1) := dk_96 (dk_at dksX9_name_2 8 rfl rfl)
theorem dX9_name_56 : decode cX9_name 56 = .ok (.i2c, 1) := dk_146 (dk_at dksX9_name_2 9 rfl rfl)
theorem dX9_name_57 : decode cX9_name 57 = .ok (.invokevirtual 204, 3) := dk_182 0 204 (dk_at dksX9_name_2 10 rfl rfl)
theorem dX9_name_60 : decode cX9_name 60 = .ok (.iload_n 3, 1) := dk_29 (dk_at dksX9_name_2 13 rfl rfl)
theorem dX9_name_61 : decode cX9_name 61 = .ok (.iconst 1, 1) := dk_4 (dk_at dksX9_name_2 14 rfl rfl)
theorem dX9_name_62 : decode cX9_name 62 = .ok (.iadd, 1) := dk_96 (dk_at dksX9_name_2 15 rfl rfl)
theorem dX9_name_63 : decode cX9_name 63 = .ok (.invokevirtual 210, 3) := dk_182 0 210 (dk_at dksX9_name_2 16 rfl rfl)
theorem dX9_name_66 : decode cX9_name 66 = .ok (.pop, 1) := dk_87 (dk_at dksX9_name_2 19 rfl rfl)
theorem dX9_name_67 : decode cX9_name 67 = .ok (.return_, 1) := dk_177 (dk_at dksX9_name_2 20 rfl rfl)
theorem q122 : (Jvm.Cond.initialized "SharedSheet$View") ∈ lw_all := lw_g (lw_at lw_m1 37 rfl) rfl
theorem q264 : (Jvm.Cond.fieldLinkNest "SharedSheet$View" (84 : Nat) "SharedSheet$Register" "content" "Ljava/lang/Object;" "SharedSheet") ∈ lw_tbl := lw_at lw_m1 179 rfl
theorem q274 : (Jvm.Cond.fieldLinkNest "SharedSheet$View" (73 : Nat) "SharedSheet$Line" "number" "I" "SharedSheet") ∈ lw_tbl := lw_at lw_m1 189 rfl
theorem q305 : (Jvm.Cond.fieldLinkNest "SharedSheet$View" (137 : Nat) "SharedSheet$Content" "kind" "I" "SharedSheet") ∈ lw_tbl := lw_at lw_m1 220 rfl
theorem q308 : (Jvm.Cond.fieldLinkNest "SharedSheet$View" (160 : Nat) "SharedSheet$Content" "number" "I" "SharedSheet") ∈ lw_tbl := lw_at lw_m1 223 rfl
theorem q311 : (Jvm.Cond.fieldLinkNest "SharedSheet$View" (99 : Nat) "SharedSheet$Content" "parts" "Ljava/util/List;" "SharedSheet") ∈ lw_tbl := lw_at lw_m1 226 rfl
theorem q373 : (Jvm.Cond.selects "SharedSheet$View" ({ cls := "java/lang/Object", name := "getClass", desc := "()Ljava/lang/Class;" } : Jvm.MethodName) ({ cls := "java/lang/Object", name := "getClass", desc := "()Ljava/lang/Class;" } : Jvm.MethodName)) ∈ lw_all := lw_g (lw_at lw_m2 48 rfl) rfl
theorem q1144 : (Jvm.Cond.instantiable "SharedSheet$View" (10 : Nat)) ∈ lw_all := lw_g (lw_at lw_m5 99 rfl) rfl
theorem q1146 : (Jvm.Cond.instanceMethod ({ cls := "SharedSheet$View", name := "<init>", desc := "(LSharedSheet$Replica;)V" } : Jvm.MethodName)) ∈ lw_all := lw_g (lw_at lw_m5 101 rfl) rfl
theorem q1147 : (Jvm.Cond.code ({ cls := "SharedSheet$View", name := "<init>", desc := "(LSharedSheet$Replica;)V" } : Jvm.MethodName) prog_13_method_1_code (3 : Nat) (Option.none : Option Jvm.ClassFile.FieldType)) ∈ lw_all := lw_g (lw_at lw_m5 102 rfl) rfl
theorem q1148 : (Jvm.Cond.methodLink "SharedSheet$View" (3 : Nat) ({ cls := "java/lang/Object", name := "<init>", desc := "()V" } : Jvm.MethodName)) ∈ lw_all := lw_g (lw_at lw_m5 103 rfl) rfl
theorem q1149 : (Jvm.Cond.methodLink "SharedSheet$View" (15 : Nat) ({ cls := "SharedSheet$Replica", name := "shown", desc := "(I)Ljava/util/List;" } : Jvm.MethodName)) ∈ lw_all := lw_g (lw_at lw_m5 104 rfl) rfl
theorem q1200 : (Jvm.Cond.interfaceEntry "SharedSheet$View" (28 : Nat)) ∈ lw_tbl := lw_at lw_m5 155 rfl
theorem q1201 : (Jvm.Cond.methodLink "SharedSheet$View" (28 : Nat) ({ cls := "java/util/List", name := "size", desc := "()I" } : Jvm.MethodName)) ∈ lw_all := lw_g (lw_at lw_m5 156 rfl) rfl
theorem q1202 : (Jvm.Cond.classLink "SharedSheet$View" (40 : Nat) "[[Z") ∈ lw_all := lw_g (lw_at lw_m5 157 rfl) rfl
theorem q1204 : (Jvm.Cond.methodLink "SharedSheet$View" (60 : Nat) ({ cls := "SharedSheet$View", name := "refer", desc := "(I)V" } : Jvm.MethodName)) ∈ lw_all := lw_g (lw_at lw_m5 159 rfl) rfl
theorem q1205 : (Jvm.Cond.privateMethod ({ cls := "SharedSheet$View", name := "refer", desc := "(I)V" } : Jvm.MethodName)) ∈ lw_tbl := lw_at lw_m5 160 rfl
theorem q1206 : (Jvm.Cond.instanceMethod ({ cls := "SharedSheet$View", name := "refer", desc := "(I)V" } : Jvm.MethodName)) ∈ lw_all := lw_g (lw_at lw_m5 161 rfl) rfl
theorem q1207 : (Jvm.Cond.code ({ cls := "SharedSheet$View", name := "refer", desc := "(I)V" } : Jvm.MethodName) prog_13_method_6_code (7 : Nat) (Option.none : Option Jvm.ClassFile.FieldType)) ∈ lw_all := lw_g (lw_at lw_m5 162 rfl) rfl
theorem q1208 : (Jvm.Cond.methodLink "SharedSheet$View" (96 : Nat) ({ cls := "SharedSheet$View", name := "content", desc := "(I)LSharedSheet$Content;" } : Jvm.MethodName)) ∈ lw_all := lw_g (lw_at lw_m5 163 rfl) rfl
theorem q1209 : (Jvm.Cond.instanceMethod ({ cls := "SharedSheet$View", name := "content", desc := "(I)LSharedSheet$Content;" } : Jvm.MethodName)) ∈ lw_all := lw_g (lw_at lw_m5 164 rfl) rfl
theorem q1210 : (Jvm.Cond.selects "SharedSheet$View" ({ cls := "SharedSheet$View", name := "content", desc := "(I)LSharedSheet$Content;" } : Jvm.MethodName) ({ cls := "SharedSheet$View", name := "content", desc := "(I)LSharedSheet$Content;" } : Jvm.MethodName)) ∈ lw_all := lw_g (lw_at lw_m5 165 rfl) rfl
theorem q1211 : (Jvm.Cond.code ({ cls := "SharedSheet$View", name := "content", desc := "(I)LSharedSheet$Content;" } : Jvm.MethodName) prog_13_method_3_code (2 : Nat) (Option.some (Jvm.ClassFile.FieldType.object "SharedSheet$Content"))) ∈ lw_all := lw_g (lw_at lw_m5 166 rfl) rfl
theorem q1212 : (Jvm.Cond.methodLink "SharedSheet$View" (80 : Nat) ({ cls := "SharedSheet$View", name := "at", desc := "(I)LSharedSheet$Register;" } : Jvm.MethodName)) ∈ lw_all := lw_g (lw_at lw_m5 167 rfl) rfl
theorem q1213 : (Jvm.Cond.instanceMethod ({ cls := "SharedSheet$View", name := "at", desc := "(I)LSharedSheet$Register;" } : Jvm.MethodName)) ∈ lw_all := lw_g (lw_at lw_m5 168 rfl) rfl
theorem q1214 : (Jvm.Cond.selects "SharedSheet$View" ({ cls := "SharedSheet$View", name := "at", desc := "(I)LSharedSheet$Register;" } : Jvm.MethodName) ({ cls := "SharedSheet$View", name := "at", desc := "(I)LSharedSheet$Register;" } : Jvm.MethodName)) ∈ lw_all := lw_g (lw_at lw_m5 169 rfl) rfl
theorem q1215 : (Jvm.Cond.code ({ cls := "SharedSheet$View", name := "at", desc := "(I)LSharedSheet$Register;" } : Jvm.MethodName) prog_13_method_2_code (2 : Nat) (Option.some (Jvm.ClassFile.FieldType.object "SharedSheet$Register"))) ∈ lw_all := lw_g (lw_at lw_m5 170 rfl) rfl
theorem q1216 : (Jvm.Cond.interfaceEntry "SharedSheet$View" (67 : Nat)) ∈ lw_tbl := lw_at lw_m5 171 rfl
theorem q1217 : (Jvm.Cond.methodLink "SharedSheet$View" (67 : Nat) ({ cls := "java/util/List", name := "get", desc := "(I)Ljava/lang/Object;" } : Jvm.MethodName)) ∈ lw_all := lw_g (lw_at lw_m5 172 rfl) rfl
theorem q1218 : (Jvm.Cond.classLink "SharedSheet$View" (71 : Nat) "SharedSheet$Line") ∈ lw_all := lw_g (lw_at lw_m5 173 rfl) rfl
theorem q1219 : (Jvm.Cond.methodLink "SharedSheet$View" (76 : Nat) ({ cls := "SharedSheet$Replica", name := "cell", desc := "(II)LSharedSheet$Register;" } : Jvm.MethodName)) ∈ lw_all := lw_g (lw_at lw_m5 174 rfl) rfl
theorem q1220 : (Jvm.Cond.classLink "SharedSheet$View" (90 : Nat) "SharedSheet$Content") ∈ lw_all := lw_g (lw_at lw_m5 175 rfl) rfl
theorem q1221 : (Jvm.Cond.classLink "SharedSheet$View" (102 : Nat) "SharedSheet$Part") ∈ lw_all := lw_g (lw_at lw_m5 176 rfl) rfl
theorem q1222 : (Jvm.Cond.methodLink "SharedSheet$View" (114 : Nat) ({ cls := "SharedSheet$View", name := "find", desc := "(II)I" } : Jvm.MethodName)) ∈ lw_all := lw_g (lw_at lw_m5 177 rfl) rfl
theorem q1223 : (Jvm.Cond.instanceMethod ({ cls := "SharedSheet$View", name := "find", desc := "(II)I" } : Jvm.MethodName)) ∈ lw_all := lw_g (lw_at lw_m5 178 rfl) rfl
theorem q1224 : (Jvm.Cond.selects "SharedSheet$View" ({ cls := "SharedSheet$View", name := "find", desc := "(II)I" } : Jvm.MethodName) ({ cls := "SharedSheet$View", name := "find", desc := "(II)I" } : Jvm.MethodName)) ∈ lw_all := lw_g (lw_at lw_m5 179 rfl) rfl
theorem q1225 : (Jvm.Cond.code ({ cls := "SharedSheet$View", name := "find", desc := "(II)I" } : Jvm.MethodName) prog_13_method_5_code (5 : Nat) (Option.some Jvm.ClassFile.FieldType.int)) ∈ lw_all := lw_g (lw_at lw_m5 180 rfl) rfl
theorem q1226 : (Jvm.Cond.methodLink "SharedSheet$View" (92 : Nat) ({ cls := "SharedSheet$View", name := "positionOf", desc := "(Ljava/util/List;I)I" } : Jvm.MethodName)) ∈ lw_all := lw_g (lw_at lw_m5 181 rfl) rfl
theorem q1227 : (Jvm.Cond.static ({ cls := "SharedSheet$View", name := "positionOf", desc := "(Ljava/util/List;I)I" } : Jvm.MethodName)) ∈ lw_all := lw_g (lw_at lw_m5 182 rfl) rfl
theorem q1228 : (Jvm.Cond.code ({ cls := "SharedSheet$View", name := "positionOf", desc := "(Ljava/util/List;I)I" } : Jvm.MethodName) prog_13_method_4_code (3 : Nat) (Option.some Jvm.ClassFile.FieldType.int)) ∈ lw_all := lw_g (lw_at lw_m5 183 rfl) rfl
theorem q1229 : (Jvm.Cond.methodLink "SharedSheet$View" (118 : Nat) ({ cls := "SharedSheet$View", name := "referAll", desc := "(III)V" } : Jvm.MethodName)) ∈ lw_all := lw_g (lw_at lw_m5 184 rfl) rfl
theorem q1230 : (Jvm.Cond.privateMethod ({ cls := "SharedSheet$View", name := "referAll", desc := "(III)V" } : Jvm.MethodName)) ∈ lw_tbl := lw_at lw_m5 185 rfl
theorem q1231 : (Jvm.Cond.instanceMethod ({ cls := "SharedSheet$View", name := "referAll", desc := "(III)V" } : Jvm.MethodName)) ∈ lw_all := lw_g (lw_at lw_m5 186 rfl) rfl
theorem q1232 : (Jvm.Cond.code ({ cls := "SharedSheet$View", name := "referAll", desc := "(III)V" } : Jvm.MethodName) prog_13_method_7_code (5 : Nat) (Option.none : Option Jvm.ClassFile.FieldType)) ∈ lw_all := lw_g (lw_at lw_m5 187 rfl) rfl
theorem q1233 : (Jvm.Cond.methodLink "SharedSheet$View" (122 : Nat) ({ cls := "SharedSheet$View", name := "isBetween", desc := "(III)Z" } : Jvm.MethodName)) ∈ lw_all := lw_g (lw_at lw_m5 188 rfl) rfl
theorem q1234 : (Jvm.Cond.privateMethod ({ cls := "SharedSheet$View", name := "isBetween", desc := "(III)Z" } : Jvm.MethodName)) ∈ lw_tbl := lw_at lw_m5 189 rfl
theorem q1235 : (Jvm.Cond.instanceMethod ({ cls := "SharedSheet$View", name := "isBetween", desc := "(III)Z" } : Jvm.MethodName)) ∈ lw_all := lw_g (lw_at lw_m5 190 rfl) rfl
theorem q1236 : (Jvm.Cond.code ({ cls := "SharedSheet$View", name := "isBetween", desc := "(III)Z" } : Jvm.MethodName) prog_13_method_8_code (8 : Nat) (Option.some Jvm.ClassFile.FieldType.boolean)) ∈ lw_all := lw_g (lw_at lw_m5 191 rfl) rfl
theorem q1237 : (Jvm.Cond.methodLink "SharedSheet$View" (126 : Nat) ({ cls := "java/lang/Math", name := "min", desc := "(II)I" } : Jvm.MethodName)) ∈ lw_all := lw_g (lw_at lw_m5 192 rfl) rfl
theorem q1238 : (Jvm.Cond.methodLink "SharedSheet$View" (131 : Nat) ({ cls := "java/lang/Math", name := "max", desc := "(II)I" } : Jvm.MethodName)) ∈ lw_all := lw_g (lw_at lw_m5 193 rfl) rfl
theorem q1239 : (Jvm.Cond.methodLinkNest "SharedSheet$View" (134 : Nat) ({ cls := "SharedSheet", name := "isIn", desc := "(III)Z" } : Jvm.MethodName) "SharedSheet") ∈ lw_tbl := lw_at lw_m5 194 rfl
theorem q1240 : (Jvm.Cond.methodLink "SharedSheet$View" (64 : Nat) ({ cls := "SharedSheet$View", name := "close", desc := "()V" } : Jvm.MethodName)) ∈ lw_all := lw_g (lw_at lw_m5 195 rfl) rfl
theorem q1241 : (Jvm.Cond.privateMethod ({ cls := "SharedSheet$View", name := "close", desc := "()V" } : Jvm.MethodName)) ∈ lw_tbl := lw_at lw_m5 196 rfl
theorem q1242 : (Jvm.Cond.instanceMethod ({ cls := "SharedSheet$View", name := "close", desc := "()V" } : Jvm.MethodName)) ∈ lw_all := lw_g (lw_at lw_m5 197 rfl) rfl
theorem q1243 : (Jvm.Cond.code ({ cls := "SharedSheet$View", name := "close", desc := "()V" } : Jvm.MethodName) prog_13_method_10_code (4 : Nat) (Option.none : Option Jvm.ClassFile.FieldType)) ∈ lw_all := lw_g (lw_at lw_m5 198 rfl) rfl
theorem q1244 : (Jvm.Cond.methodLink "SharedSheet$View" (139 : Nat) ({ cls := "SharedSheet$View", name := "isFormula", desc := "(I)Z" } : Jvm.MethodName)) ∈ lw_all := lw_g (lw_at lw_m5 199 rfl) rfl
theorem q1245 : (Jvm.Cond.instanceMethod ({ cls := "SharedSheet$View", name := "isFormula", desc := "(I)Z" } : Jvm.MethodName)) ∈ lw_all := lw_g (lw_at lw_m5 200 rfl) rfl
theorem q1246 : (Jvm.Cond.selects "SharedSheet$View" ({ cls := "SharedSheet$View", name := "isFormula", desc := "(I)Z" } : Jvm.MethodName) ({ cls := "SharedSheet$View", name := "isFormula", desc := "(I)Z" } : Jvm.MethodName)) ∈ lw_all := lw_g (lw_at lw_m5 201 rfl) rfl
theorem q1247 : (Jvm.Cond.code ({ cls := "SharedSheet$View", name := "isFormula", desc := "(I)Z" } : Jvm.MethodName) prog_13_method_9_code (2 : Nat) (Option.some Jvm.ClassFile.FieldType.boolean)) ∈ lw_all := lw_g (lw_at lw_m5 202 rfl) rfl
theorem q1248 : (Jvm.Cond.fieldLink "SharedSheet$View" (9 : Nat) "SharedSheet$View" "replica" "LSharedSheet$Replica;") ∈ lw_all := lw_g (lw_at lw_m5 203 rfl) rfl
theorem q1249 : (Jvm.Cond.fieldLink "SharedSheet$View" (21 : Nat) "SharedSheet$View" "rows" "Ljava/util/List;") ∈ lw_all := lw_g (lw_at lw_m5 204 rfl) rfl
theorem q1251 : (Jvm.Cond.fieldLink "SharedSheet$View" (25 : Nat) "SharedSheet$View" "columns" "Ljava/util/List;") ∈ lw_all := lw_g (lw_at lw_m5 206 rfl) rfl
theorem q1253 : (Jvm.Cond.fieldLink "SharedSheet$View" (34 : Nat) "SharedSheet$View" "wide" "I") ∈ lw_all := lw_g (lw_at lw_m5 208 rfl) rfl
theorem q1255 : (Jvm.Cond.fieldLink "SharedSheet$View" (38 : Nat) "SharedSheet$View" "size" "I") ∈ lw_all := lw_g (lw_at lw_m5 210 rfl) rfl
theorem q1257 : (Jvm.Cond.fieldLink "SharedSheet$View" (42 : Nat) "SharedSheet$View" "refers" "[[Z") ∈ lw_all := lw_g (lw_at lw_m5 212 rfl) rfl
theorem q1259 : (Jvm.Cond.fieldLink "SharedSheet$View" (45 : Nat) "SharedSheet$View" "reaches" "[[Z") ∈ lw_all := lw_g (lw_at lw_m5 214 rfl) rfl
theorem q1260 : (Jvm.Cond.fieldLink "SharedSheet$View" (48 : Nat) "SharedSheet$View" "isKnown" "[Z") ∈ lw_all := lw_g (lw_at lw_m5 215 rfl) rfl
theorem q1261 : (Jvm.Cond.fieldLink "SharedSheet$View" (52 : Nat) "SharedSheet$View" "values" "[J") ∈ lw_all := lw_g (lw_at lw_m5 216 rfl) rfl
theorem q1262 : (Jvm.Cond.fieldLink "SharedSheet$View" (56 : Nat) "SharedSheet$View" "errors" "[I") ∈ lw_all := lw_g (lw_at lw_m5 217 rfl) rfl
theorem q1263 : (Jvm.Cond.laysFinal "SharedSheet$View" "SharedSheet$View" "replica" "LSharedSheet$Replica;") ∈ lw_all := lw_g (lw_at lw_m5 218 rfl) rfl
theorem q1264 : (Jvm.Cond.soleField "SharedSheet$View" "replica") ∈ lw_all := lw_g (lw_at lw_m5 219 rfl) rfl
theorem q1265 : (Jvm.Cond.laysFinal "SharedSheet$View" "SharedSheet$View" "rows" "Ljava/util/List;") ∈ lw_all := lw_g (lw_at lw_m5 220 rfl) rfl
theorem q1266 : (Jvm.Cond.soleField "SharedSheet$View" "rows") ∈ lw_all := lw_g (lw_at lw_m5 221 rfl) rfl
theorem q1267 : (Jvm.Cond.laysFinal "SharedSheet$View" "SharedSheet$View" "columns" "Ljava/util/List;") ∈ lw_all := lw_g (lw_at lw_m5 222 rfl) rfl
theorem q1268 : (Jvm.Cond.soleField "SharedSheet$View" "columns") ∈ lw_all := lw_g (lw_at lw_m5 223 rfl) rfl
theorem q1269 : (Jvm.Cond.laysFinal "SharedSheet$View" "SharedSheet$View" "wide" "I") ∈ lw_all := lw_g (lw_at lw_m5 224 rfl) rfl
theorem q1270 : (Jvm.Cond.soleField "SharedSheet$View" "wide") ∈ lw_all := lw_g (lw_at lw_m5 225 rfl) rfl
theorem q1271 : (Jvm.Cond.laysFinal "SharedSheet$View" "SharedSheet$View" "size" "I") ∈ lw_all := lw_g (lw_at lw_m5 226 rfl) rfl
theorem q1272 : (Jvm.Cond.soleField "SharedSheet$View" "size") ∈ lw_all := lw_g (lw_at lw_m5 227 rfl) rfl
theorem q1273 : (Jvm.Cond.laysFinal "SharedSheet$View" "SharedSheet$View" "refers" "[[Z") ∈ lw_all := lw_g (lw_at lw_m5 228 rfl) rfl
theorem q1274 : (Jvm.Cond.soleField "SharedSheet$View" "refers") ∈ lw_all := lw_g (lw_at lw_m5 229 rfl) rfl
theorem q1275 : (Jvm.Cond.laysFinal "SharedSheet$View" "SharedSheet$View" "reaches" "[[Z") ∈ lw_all := lw_g (lw_at lw_m5 230 rfl) rfl
theorem q1276 : (Jvm.Cond.soleField "SharedSheet$View" "reaches") ∈ lw_all := lw_g (lw_at lw_m5 231 rfl) rfl
theorem q1277 : (Jvm.Cond.laysFinal "SharedSheet$View" "SharedSheet$View" "isKnown" "[Z") ∈ lw_all := lw_g (lw_at lw_m5 232 rfl) rfl
theorem q1278 : (Jvm.Cond.soleField "SharedSheet$View" "isKnown") ∈ lw_all := lw_g (lw_at lw_m5 233 rfl) rfl
theorem q1279 : (Jvm.Cond.laysFinal "SharedSheet$View" "SharedSheet$View" "values" "[J") ∈ lw_all := lw_g (lw_at lw_m5 234 rfl) rfl
theorem q1280 : (Jvm.Cond.soleField "SharedSheet$View" "values") ∈ lw_all := lw_g (lw_at lw_m5 235 rfl) rfl
theorem q1281 : (Jvm.Cond.laysFinal "SharedSheet$View" "SharedSheet$View" "errors" "[I") ∈ lw_all := lw_g (lw_at lw_m5 236 rfl) rfl
theorem q1282 : (Jvm.Cond.soleField "SharedSheet$View" "errors") ∈ lw_all := lw_g (lw_at lw_m5 237 rfl) rfl
theorem q1283 : (Jvm.Cond.superclass "SharedSheet$View" "java/lang/Object") ∈ lw_all := lw_g (lw_at lw_m5 238 rfl) rfl
theorem q1307 : (Jvm.Cond.instanceMethod ({ cls := "SharedSheet$View", name := "isOnCycle", desc := "(I)Z" } : Jvm.MethodName)) ∈ lw_all := lw_g (lw_at lw_m6 22 rfl) rfl
theorem q1308 : (Jvm.Cond.selects "SharedSheet$View" ({ cls := "SharedSheet$View", name := "isOnCycle", desc := "(I)Z" } : Jvm.MethodName) ({ cls := "SharedSheet$View", name := "isOnCycle", desc := "(I)Z" } : Jvm.MethodName)) ∈ lw_all := lw_g (lw_at lw_m6 23 rfl) rfl
theorem q1309 : (Jvm.Cond.code ({ cls := "SharedSheet$View", name := "isOnCycle", desc := "(I)Z" } : Jvm.MethodName) prog_13_method_11_code (2 : Nat) (Option.some Jvm.ClassFile.FieldType.boolean)) ∈ lw_all := lw_g (lw_at lw_m6 24 rfl) rfl
theorem q1311 : (Jvm.Cond.instanceMethod ({ cls := "SharedSheet$View", name := "value", desc := "(I)J" } : Jvm.MethodName)) ∈ lw_all := lw_g (lw_at lw_m6 26 rfl) rfl
theorem q1312 : (Jvm.Cond.selects "SharedSheet$View" ({ cls := "SharedSheet$View", name := "value", desc := "(I)J" } : Jvm.MethodName) ({ cls := "SharedSheet$View", name := "value", desc := "(I)J" } : Jvm.MethodName)) ∈ lw_all := lw_g (lw_at lw_m6 27 rfl) rfl
theorem q1313 : (Jvm.Cond.code ({ cls := "SharedSheet$View", name := "value", desc := "(I)J" } : Jvm.MethodName) prog_13_method_13_code (2 : Nat) (Option.some Jvm.ClassFile.FieldType.long)) ∈ lw_all := lw_g (lw_at lw_m6 28 rfl) rfl
theorem q1314 : (Jvm.Cond.methodLink "SharedSheet$View" (161 : Nat) ({ cls := "SharedSheet$View", name := "know", desc := "(I)V" } : Jvm.MethodName)) ∈ lw_all := lw_g (lw_at lw_m6 29 rfl) rfl
theorem q1315 : (Jvm.Cond.privateMethod ({ cls := "SharedSheet$View", name := "know", desc := "(I)V" } : Jvm.MethodName)) ∈ lw_tbl := lw_at lw_m6 30 rfl
theorem q1316 : (Jvm.Cond.instanceMethod ({ cls := "SharedSheet$View", name := "know", desc := "(I)V" } : Jvm.MethodName)) ∈ lw_all := lw_g (lw_at lw_m6 31 rfl) rfl
theorem q1317 : (Jvm.Cond.codeWith ({ cls := "SharedSheet$View", name := "know", desc := "(I)V" } : Jvm.MethodName) prog_13_method_12_code (4 : Nat) (Option.none : Option Jvm.ClassFile.FieldType) [((49 : Nat), (70 : Nat), (73 : Nat), (155 : Nat))]) ∈ lw_all := lw_g (lw_at lw_m6 32 rfl) rfl
theorem q1318 : (Jvm.Cond.classLink "SharedSheet$View" (155 : Nat) "SharedSheet$Failure") ∈ lw_all := lw_g (lw_at lw_m6 33 rfl) rfl
theorem q1319 : (Jvm.Cond.methodLink "SharedSheet$View" (143 : Nat) ({ cls := "SharedSheet$View", name := "isOnCycle", desc := "(I)Z" } : Jvm.MethodName)) ∈ lw_all := lw_g (lw_at lw_m6 34 rfl) rfl
theorem q1320 : (Jvm.Cond.classLink "SharedSheet$View" (146 : Nat) "SharedSheet$Calculation") ∈ lw_all := lw_g (lw_at lw_m6 35 rfl) rfl
theorem q1322 : (Jvm.Cond.methodLink "SharedSheet$View" (148 : Nat) ({ cls := "SharedSheet$Calculation", name := "<init>", desc := "(LSharedSheet$View;Ljava/util/List;)V" } : Jvm.MethodName)) ∈ lw_all := lw_g (lw_at lw_m6 37 rfl) rfl
theorem q1336 : (Jvm.Cond.methodLink "SharedSheet$View" (151 : Nat) ({ cls := "SharedSheet$Calculation", name := "sum", desc := "()J" } : Jvm.MethodName)) ∈ lw_all := lw_g (lw_at lw_m6 51 rfl) rfl
theorem q1353 : (Jvm.Cond.privateMethod ({ cls := "SharedSheet$View", name := "operand", desc := "(I)J" } : Jvm.MethodName)) ∈ lw_tbl := lw_at lw_m6 68 rfl
theorem q1354 : (Jvm.Cond.instanceMethod ({ cls := "SharedSheet$View", name := "operand", desc := "(I)J" } : Jvm.MethodName)) ∈ lw_all := lw_g (lw_at lw_m6 69 rfl) rfl
theorem q1355 : (Jvm.Cond.code ({ cls := "SharedSheet$View", name := "operand", desc := "(I)J" } : Jvm.MethodName) prog_13_method_16_code (2 : Nat) (Option.some Jvm.ClassFile.FieldType.long)) ∈ lw_all := lw_g (lw_at lw_m6 70 rfl) rfl
theorem q1364 : (Jvm.Cond.methodLink "SharedSheet$View" (168 : Nat) ({ cls := "SharedSheet$Failure", name := "<init>", desc := "(I)V" } : Jvm.MethodName)) ∈ lw_all := lw_g (lw_at lw_m6 79 rfl) rfl
theorem q1375 : (Jvm.Cond.fieldLinkNest "SharedSheet$View" (157 : Nat) "SharedSheet$Failure" "error" "I" "SharedSheet") ∈ lw_tbl := lw_at lw_m6 90 rfl
theorem q1380 : (Jvm.Cond.methodLink "SharedSheet$View" (170 : Nat) ({ cls := "SharedSheet$View", name := "error", desc := "(I)I" } : Jvm.MethodName)) ∈ lw_all := lw_g (lw_at lw_m6 95 rfl) rfl
theorem q1381 : (Jvm.Cond.instanceMethod ({ cls := "SharedSheet$View", name := "error", desc := "(I)I" } : Jvm.MethodName)) ∈ lw_all := lw_g (lw_at lw_m6 96 rfl) rfl
theorem q1382 : (Jvm.Cond.selects "SharedSheet$View" ({ cls := "SharedSheet$View", name := "error", desc := "(I)I" } : Jvm.MethodName) ({ cls := "SharedSheet$View", name := "error", desc := "(I)I" } : Jvm.MethodName)) ∈ lw_all := lw_g (lw_at lw_m6 97 rfl) rfl
theorem q1383 : (Jvm.Cond.code ({ cls := "SharedSheet$View", name := "error", desc := "(I)I" } : Jvm.MethodName) prog_13_method_14_code (2 : Nat) (Option.some Jvm.ClassFile.FieldType.int)) ∈ lw_all := lw_g (lw_at lw_m6 98 rfl) rfl
theorem q1384 : (Jvm.Cond.methodLink "SharedSheet$View" (173 : Nat) ({ cls := "SharedSheet$View", name := "value", desc := "(I)J" } : Jvm.MethodName)) ∈ lw_all := lw_g (lw_at lw_m6 99 rfl) rfl
theorem q1386 : (Jvm.Cond.privateMethod ({ cls := "SharedSheet$View", name := "rectangle", desc := "(II)J" } : Jvm.MethodName)) ∈ lw_tbl := lw_at lw_m6 101 rfl
theorem q1387 : (Jvm.Cond.instanceMethod ({ cls := "SharedSheet$View", name := "rectangle", desc := "(II)J" } : Jvm.MethodName)) ∈ lw_all := lw_g (lw_at lw_m6 102 rfl) rfl
theorem q1388 : (Jvm.Cond.code ({ cls := "SharedSheet$View", name := "rectangle", desc := "(II)J" } : Jvm.MethodName) prog_13_method_17_code (6 : Nat) (Option.some Jvm.ClassFile.FieldType.long)) ∈ lw_all := lw_g (lw_at lw_m6 103 rfl) rfl
theorem q1389 : (Jvm.Cond.methodLink "SharedSheet$View" (177 : Nat) ({ cls := "SharedSheet$View", name := "operand", desc := "(I)J" } : Jvm.MethodName)) ∈ lw_all := lw_g (lw_at lw_m6 104 rfl) rfl
theorem q1390 : (Jvm.Cond.methodLink "SharedSheet$View" (180 : Nat) ({ cls := "SharedSheet$View", name := "checked", desc := "(J)J" } : Jvm.MethodName)) ∈ lw_all := lw_g (lw_at lw_m6 105 rfl) rfl
theorem q1391 : (Jvm.Cond.static ({ cls := "SharedSheet$View", name := "checked", desc := "(J)J" } : Jvm.MethodName)) ∈ lw_all := lw_g (lw_at lw_m6 106 rfl) rfl
theorem q1392 : (Jvm.Cond.code ({ cls := "SharedSheet$View", name := "checked", desc := "(J)J" } : Jvm.MethodName) prog_13_method_15_code (2 : Nat) (Option.some Jvm.ClassFile.FieldType.long)) ∈ lw_all := lw_g (lw_at lw_m6 107 rfl) rfl
theorem q1393 : (Jvm.Cond.constantLong "SharedSheet$View" (164 : Nat) (-1000000000 : Int64)) ∈ lw_all := lw_g (lw_at lw_m6 108 rfl) rfl
theorem q1394 : (Jvm.Cond.constantLong "SharedSheet$View" (166 : Nat) (1000000000 : Int64)) ∈ lw_all := lw_g (lw_at lw_m6 109 rfl) rfl
theorem q1407 : (Jvm.Cond.instanceMethod ({ cls := "SharedSheet$View", name := "order", desc := "()Ljava/util/List;" } : Jvm.MethodName)) ∈ lw_all := lw_g (lw_at lw_m6 122 rfl) rfl
theorem q1408 : (Jvm.Cond.selects "SharedSheet$View" ({ cls := "SharedSheet$View", name := "order", desc := "()Ljava/util/List;" } : Jvm.MethodName) ({ cls := "SharedSheet$View", name := "order", desc := "()Ljava/util/List;" } : Jvm.MethodName)) ∈ lw_all := lw_g (lw_at lw_m6 123 rfl) rfl
theorem q1409 : (Jvm.Cond.code ({ cls := "SharedSheet$View", name := "order", desc := "()Ljava/util/List;" } : Jvm.MethodName) prog_13_method_20_code (4 : Nat) (Option.some (Jvm.ClassFile.FieldType.object "java/util/List"))) ∈ lw_all := lw_g (lw_at lw_m6 124 rfl) rfl
theorem q1410 : (Jvm.Cond.classLink "SharedSheet$View" (184 : Nat) "java/util/ArrayList") ∈ lw_all := lw_g (lw_at lw_m6 125 rfl) rfl
theorem q1411 : (Jvm.Cond.methodLink "SharedSheet$View" (186 : Nat) ({ cls := "java/util/ArrayList", name := "<init>", desc := "()V" } : Jvm.MethodName)) ∈ lw_all := lw_g (lw_at lw_m6 126 rfl) rfl
theorem q1412 : (Jvm.Cond.methodLink "SharedSheet$View" (187 : Nat) ({ cls := "SharedSheet$View", name := "isFree", desc := "(I)Z" } : Jvm.MethodName)) ∈ lw_all := lw_g (lw_at lw_m6 127 rfl) rfl
theorem q1413 : (Jvm.Cond.privateMethod ({ cls := "SharedSheet$View", name := "isFree", desc := "(I)Z" } : Jvm.MethodName)) ∈ lw_tbl := lw_at lw_m6 128 rfl
theorem q1414 : (Jvm.Cond.instanceMethod ({ cls := "SharedSheet$View", name := "isFree", desc := "(I)Z" } : Jvm.MethodName)) ∈ lw_all := lw_g (lw_at lw_m6 129 rfl) rfl
theorem q1415 : (Jvm.Cond.code ({ cls := "SharedSheet$View", name := "isFree", desc := "(I)Z" } : Jvm.MethodName) prog_13_method_18_code (4 : Nat) (Option.some Jvm.ClassFile.FieldType.boolean)) ∈ lw_all := lw_g (lw_at lw_m6 130 rfl) rfl
theorem q1416 : (Jvm.Cond.methodLink "SharedSheet$View" (190 : Nat) ({ cls := "SharedSheet$View", name := "isReady", desc := "(I[Z)Z" } : Jvm.MethodName)) ∈ lw_all := lw_g (lw_at lw_m6 131 rfl) rfl
theorem q1417 : (Jvm.Cond.privateMethod ({ cls := "SharedSheet$View", name := "isReady", desc := "(I[Z)Z" } : Jvm.MethodName)) ∈ lw_tbl := lw_at lw_m6 132 rfl
theorem q1418 : (Jvm.Cond.instanceMethod ({ cls := "SharedSheet$View", name := "isReady", desc := "(I[Z)Z" } : Jvm.MethodName)) ∈ lw_all := lw_g (lw_at lw_m6 133 rfl) rfl
theorem q1419 : (Jvm.Cond.code ({ cls := "SharedSheet$View", name := "isReady", desc := "(I[Z)Z" } : Jvm.MethodName) prog_13_method_19_code (5 : Nat) (Option.some Jvm.ClassFile.FieldType.boolean)) ∈ lw_all := lw_g (lw_at lw_m6 134 rfl) rfl
theorem q1420 : (Jvm.Cond.methodLink "SharedSheet$View" (194 : Nat) ({ cls := "java/lang/Integer", name := "valueOf", desc := "(I)Ljava/lang/Integer;" } : Jvm.MethodName)) ∈ lw_all := lw_g (lw_at lw_m6 135 rfl) rfl
theorem q1421 : (Jvm.Cond.interfaceEntry "SharedSheet$View" (200 : Nat)) ∈ lw_tbl := lw_at lw_m6 136 rfl
theorem q1422 : (Jvm.Cond.methodLink "SharedSheet$View" (200 : Nat) ({ cls := "java/util/List", name := "add", desc := "(Ljava/lang/Object;)Z" } : Jvm.MethodName)) ∈ lw_all := lw_g (lw_at lw_m6 137 rfl) rfl
theorem q1742 : (Jvm.Cond.fieldLinkNest "SharedSheet$View" (104 : Nat) "SharedSheet$Part" "kind" "C" "SharedSheet") ∈ lw_tbl := lw_at lw_m7 217 rfl
theorem q1745 : (Jvm.Cond.fieldLinkNest "SharedSheet$View" (213 : Nat) "SharedSheet$Part" "number" "I" "SharedSheet") ∈ lw_tbl := lw_at lw_m7 220 rfl
theorem q1748 : (Jvm.Cond.fieldLinkNest "SharedSheet$View" (108 : Nat) "SharedSheet$Part" "row" "I" "SharedSheet") ∈ lw_tbl := lw_at lw_m7 223 rfl
theorem q1751 : (Jvm.Cond.fieldLinkNest "SharedSheet$View" (111 : Nat) "SharedSheet$Part" "column" "I" "SharedSheet") ∈ lw_tbl := lw_at lw_m7 226 rfl
theorem q1802 : (Jvm.Cond.instanceMethod ({ cls := "SharedSheet$View", name := "write", desc := "(Ljava/lang/StringBuilder;Ljava/util/List;)V" } : Jvm.MethodName)) ∈ lw_all := lw_g (lw_at lw_m8 37 rfl) rfl
theorem q1803 : (Jvm.Cond.selects "SharedSheet$View" ({ cls := "SharedSheet$View", name := "write", desc := "(Ljava/lang/StringBuilder;Ljava/util/List;)V" } : Jvm.MethodName) ({ cls := "SharedSheet$View", name := "write", desc := "(Ljava/lang/StringBuilder;Ljava/util/List;)V" } : Jvm.MethodName)) ∈ lw_all := lw_g (lw_at lw_m8 38 rfl) rfl
theorem q1804 : (Jvm.Cond.code ({ cls := "SharedSheet$View", name := "write", desc := "(Ljava/lang/StringBuilder;Ljava/util/List;)V" } : Jvm.MethodName) prog_13_method_22_code (5 : Nat) (Option.none : Option Jvm.ClassFile.FieldType)) ∈ lw_all := lw_g (lw_at lw_m8 39 rfl) rfl
theorem q1805 : (Jvm.Cond.methodLink "SharedSheet$View" (210 : Nat) ({ cls := "java/lang/StringBuilder", name := "append", desc := "(I)Ljava/lang/StringBuilder;" } : Jvm.MethodName)) ∈ lw_all := lw_g (lw_at lw_m8 40 rfl) rfl
theorem q1806 : (Jvm.Cond.methodLink "SharedSheet$View" (214 : Nat) ({ cls := "SharedSheet$View", name := "name", desc := "(Ljava/lang/StringBuilder;LSharedSheet$Part;)V" } : Jvm.MethodName)) ∈ lw_all := lw_g (lw_at lw_m8 41 rfl) rfl
theorem q1807 : (Jvm.Cond.privateMethod ({ cls := "SharedSheet$View", name := "name", desc := "(Ljava/lang/StringBuilder;LSharedSheet$Part;)V" } : Jvm.MethodName)) ∈ lw_tbl := lw_at lw_m8 42 rfl
theorem q1808 : (Jvm.Cond.instanceMethod ({ cls := "SharedSheet$View", name := "name", desc := "(Ljava/lang/StringBuilder;LSharedSheet$Part;)V" } : Jvm.MethodName)) ∈ lw_all := lw_g (lw_at lw_m8 43 rfl) rfl
theorem q1809 : (Jvm.Cond.code ({ cls := "SharedSheet$View", name := "name", desc := "(Ljava/lang/StringBuilder;LSharedSheet$Part;)V" } : Jvm.MethodName) prog_13_method_21_code (5 : Nat) (Option.none : Option Jvm.ClassFile.FieldType)) ∈ lw_all := lw_g (lw_at lw_m8 44 rfl) rfl
theorem q1810 : (Jvm.Cond.methodLink "SharedSheet$View" (204 : Nat) ({ cls := "java/lang/StringBuilder", name := "append", desc := "(C)Ljava/lang/StringBuilder;" } : Jvm.MethodName)) ∈ lw_all := lw_g (lw_at lw_m8 45 rfl) rfl
theorem q1823 : (Jvm.Cond.stringRef "SharedSheet$View" (218 : Nat) "S(") ∈ lw_tbl := lw_at lw_m8 58 rfl
theorem q1824 : (Jvm.Cond.methodLink "SharedSheet$View" (220 : Nat) ({ cls := "java/lang/StringBuilder", name := "append", desc := "(Ljava/lang/String;)Ljava/lang/StringBuilder;" } : Jvm.MethodName)) ∈ lw_all := lw_g (lw_at lw_m8 59 rfl) rfl
theorem q2418 : (Jvm.Cond.castable "SharedSheet$View" "java/lang/Object") ∈ lw_tbl := lw_at lw_m10 173 rfl
theorem in_X9 : ∀ w ∈ wsX90, w ∈ lw_all := lw_in wsX90 [1263, 1265, 1267, 1269, 1271, 1273, 1275, 1277, 1279, 1281] (by decide +kernel) (by decide +kernel)
/-! SharedSheet$Reader -/
set_option maxRecDepth 100000
def RX10 : String := "SharedSheet$Reader"
def TX10 : u_T := fun k => match k with
  | 0 => ("SharedSheet$Reader", "from", "Ljava/lang/CharSequence;", true)
  | 1 => ("SharedSheet$Reader", "rows", "Ljava/util/List;", true)
  | 2 => ("SharedSheet$Reader", "columns", "Ljava/util/List;", true)
  | 3 => ("SharedSheet$Reader", "parts", "Ljava/util/List;", true)
  | _ => ("SharedSheet$Reader", "at", "I", false)
def tyX10 : Nat → FieldType := fun k => match k with
  | 0 => .object "java/lang/CharSequence"
  | 1 => .object "java/util/List"
  | 2 => .object "java/util/List"
  | 3 => .object "java/util/List"
  | _ => .int
abbrev wsX100 : List Cond := u_ws RX10 TX10 5
theorem nmX10 : ∀ a, a < 5 → ∀ b, b < 5 → a ≠ b → (TX10 a).2.1 ≠ (TX10 b).2.1 := by decide +kernel
theorem tyX10_ok : ∀ k, k < 5 → parseFieldDescriptor (TX10 k).2.2.1 = some (tyX10 k) := by decide +kernel
abbrev cX10_init : ByteArray := prog_9_method_1_code
def yX10_init : MethodName := ⟨RX10, "<init>", "(Ljava/lang/CharSequence;LSharedSheet$Replica;)V"⟩
def dkwX10_init_1 : List UInt8 := [182, 0, 22, 181, 0, 28, 42, 44, 4, 182, 0, 22, 181, 0, 31, 177]
abbrev dktX10_init_1 : List UInt8 := dkwX10_init_1 ++ []
def dkwX10_init_0 : List UInt8 := [42, 183, 0, 3, 42, 187, 0, 9, 89, 183, 0, 11, 181, 0, 12, 42, 43, 181, 0, 18, 42, 44, 3]
abbrev dktX10_init_0 : List UInt8 := dkwX10_init_0 ++ dktX10_init_1
theorem dksX10_init_0 : cX10_init.data.toList.drop 0 = dktX10_init_0 := by decide +kernel
theorem dksX10_init_1 : cX10_init.data.toList.drop 23 = dktX10_init_1 := dk_seg dksX10_init_0 23 rfl rfl
theorem dX10_init_0 : decode cX10_init 0 = .ok (.aload_n 0, 1) := dk_42 (dk_at dksX10_init_0 0 rfl rfl)
theorem dX10_init_1 : decode cX10_init 1 = .ok (.invokespecial 3, 3) := dk_183 0 3 (dk_at dksX10_init_0 1 rfl rfl)
theorem dX10_init_4 : decode cX10_init 4 = .ok (.aload_n 0, 1) := dk_42 (dk_at dksX10_init_0 4 rfl rfl)
theorem dX10_init_5 : decode cX10_init 5 = .ok (.new 9, 3) := dk_187 0 9 (dk_at dksX10_init_0 5 rfl rfl)
theorem dX10_init_8 : decode cX10_init 8 = .ok (.dup, 1) := dk_89 (dk_at dksX10_init_0 8 rfl rfl)
theorem dX10_init_9 : decode cX10_init 9 = .ok (.invokespecial 11, 3) := dk_183 0 11 (dk_at dksX10_init_0 9 rfl rfl)
theorem dX10_init_12 : decode cX10_init 12 = .ok (.putfield 12, 3) := dk_181 0 12 (dk_at dksX10_init_0 12 rfl rfl)
theorem dX10_init_15 : decode cX10_init 15 = .ok (.aload_n 0, 1) := dk_42 (dk_at dksX10_init_0 15 rfl rfl)
theorem dX10_init_16 : decode cX10_init 16 = .ok (.aload_n 1, 1) := dk_43 (dk_at dksX10_init_0 16 rfl rfl)
theorem dX10_init_17 : decode cX10_init 17 = .ok (.putfield 18, 3) := dk_181 0 18 (dk_at dksX10_init_0 17 rfl rfl)
theorem dX10_init_20 : decode cX10_init 20 = .ok (.aload_n 0, 1) := dk_42 (dk_at dksX10_init_0 20 rfl rfl)
theorem dX10_init_21 : decode cX10_init 21 = .ok (.aload_n 2, 1) := dk_44 (dk_at dksX10_init_0 21 rfl rfl)
theorem dX10_init_22 : decode cX10_init 22 = .ok (.iconst 0, 1) := dk_3 (dk_at dksX10_init_0 22 rfl rfl)
theorem dX10_init_23 : decode cX10_init 23 = .ok (.invokevirtual 22, 3) := dk_182 0 22 (dk_at dksX10_init_1 0 rfl rfl)
theorem dX10_init_26 : decode cX10_init 26 = .ok (.putfield 28, 3) := dk_181 0 28 (dk_at dksX10_init_1 3 rfl rfl)
theorem dX10_init_29 : decode cX10_init 29 = .ok (.aload_n 0, 1) := dk_42 (dk_at dksX10_init_1 6 rfl rfl)
theorem dX10_init_30 : decode cX10_init 30 = .ok (.aload_n 2, 1) := dk_44 (dk_at dksX10_init_1 7 rfl rfl)
theorem dX10_init_31 : decode cX10_init 31 = .ok (.iconst 1, 1) := dk_4 (dk_at dksX10_init_1 8 rfl rfl)
theorem dX10_init_32 : decode cX10_init 32 = .ok (.invokevirtual 22, 3) := dk_182 0 22 (dk_at dksX10_init_1 9 rfl rfl)
theorem dX10_init_35 : decode cX10_init 35 = .ok (.putfield 31, 3) := dk_181 0 31 (dk_at dksX10_init_1 12 rfl rfl)
theorem dX10_init_38 : decode cX10_init 38 = .ok (.return_, 1) := dk_177 (dk_at dksX10_init_1 15 rfl rfl)
abbrev cX10_formula : ByteArray := prog_9_method_8_code
def yX10_formula : MethodName := ⟨RX10, "formula", "()Ljava/util/List;"⟩
def dkwX10_formula_2 : List UInt8 := [182, 0, 74, 182, 0, 96, 42, 182, 0, 93, 167, 255, 203, 42, 180, 0, 12, 176]
abbrev dktX10_formula_2 : List UInt8 := dkwX10_formula_2 ++ []
def dkwX10_formula_1 : List UInt8 := [42, 182, 0, 64, 16, 45, 159, 0, 12, 42, 182, 0, 64, 16, 42, 160, 0, 7, 4, 167, 0, 4, 3]
abbrev dktX10_formula_1 : List UInt8 := dkwX10_formula_1 ++ dktX10_formula_2
def dkwX10_formula_0 : List UInt8 := [42, 182, 0, 93, 42, 182, 0, 64, 16, 254, 159, 0, 50, 42, 42, 42, 182, 0, 64, 16, 43, 159, 0, 21]
abbrev dktX10_formula_0 : List UInt8 := dkwX10_formula_0 ++ dktX10_formula_1
theorem dksX10_formula_0 : cX10_formula.data.toList.drop 0 = dktX10_formula_0 := by decide +kernel
theorem dksX10_formula_1 : cX10_formula.data.toList.drop 24 = dktX10_formula_1 := dk_seg dksX10_formula_0 24 rfl rfl
theorem dksX10_formula_2 : cX10_formula.data.toList.drop 47 = dktX10_formula_2 := dk_seg dksX10_formula_1 23 rfl rfl
theorem dX10_formula_0 : decode cX10_formula 0 = .ok (.aload_n 0, 1) := dk_42 (dk_at dksX10_formula_0 0 rfl rfl)
theorem dX10_formula_1 : decode cX10_formula 1 = .ok (.invokevirtual 93, 3) := dk_182 0 93 (dk_at dksX10_formula_0 1 rfl rfl)
theorem dX10_formula_4 : decode cX10_formula 4 = .ok (.aload_n 0, 1) := dk_42 (dk_at dksX10_formula_0 4 rfl rfl)
theorem dX10_formula_5 : decode cX10_formula 5 = .ok (.invokevirtual 64, 3) := dk_182 0 64 (dk_at dksX10_formula_0 5 rfl rfl)
theorem dX10_formula_8 : decode cX10_formula 8 = .ok (.bipush (-2), 2) := dk_16 254 (dk_at dksX10_formula_0 8 rfl rfl)
theorem dX10_formula_10 : decode cX10_formula 10 = .ok (.if_icmp .eq 50, 3) := dk_159 0 50 (dk_at dksX10_formula_0 10 rfl rfl)
theorem dX10_formula_13 : decode cX10_formula 13 = .ok (.aload_n 0, 1) := dk_42 (dk_at dksX10_formula_0 13 rfl rfl)
theorem dX10_formula_14 : decode cX10_formula 14 = .ok (.aload_n 0, 1) := dk_42 (dk_at dksX10_formula_0 14 rfl rfl)
theorem dX10_formula_15 : decode cX10_formula 15 = .ok (.aload_n 0, 1) := dk_42 (dk_at dksX10_formula_0 15 rfl rfl)
theorem dX10_formula_16 : decode cX10_formula 16 = .ok (.invokevirtual 64, 3) := dk_182 0 64 (dk_at dksX10_formula_0 16 rfl rfl)
theorem dX10_formula_19 : decode cX10_formula 19 = .ok (.bipush 43, 2) := dk_16 43 (dk_at dksX10_formula_0 19 rfl rfl)
theorem dX10_formula_21 : decode cX10_formula 21 = .ok (.if_icmp .eq 21, 3) := dk_159 0 21 (dk_at dksX10_formula_0 21 rfl rfl)
theorem dX10_formula_24 : decode cX10_formula 24 = .ok (.aload_n 0, 1) := dk_42 (dk_at dksX10_formula_1 0 rfl rfl)
theorem dX10_formula_25 : decode cX10_formula 25 = .ok (.invokevirtual 64, 3) := dk_182 0 64 (dk_at dksX10_formula_1 1 rfl rfl)
theorem dX10_formula_28 : decode cX10_formula 28 = .ok (.bipush 45, 2) := dk_16 45 (dk_at dksX10_formula_1 4 rfl rfl)
theorem dX10_formula_30 : decode cX10_formula 30 = .ok (.if_icmp .eq 12, 3) := dk_159 0 12 (dk_at dksX10_formula_1 6 rfl rfl)
theorem dX10_formula_33 : decode cX10_formula 33 = .ok (.aload_n 0, 1) := dk_42 (dk_at dksX10_formula_1 9 rfl rfl)
theorem dX10_formula_34 : decode cX10_formula 34 = .ok (.invokevirtual 64, 3) := dk_182 0 64 (dk_at dksX10_formula_1 10 rfl rfl)
theorem dX10_formula_37 : decode cX10_formula 37 = .ok (.bipush 42, 2) := dk_16 42 (dk_at dksX10_formula_1 13 rfl rfl)
theorem dX10_formula_39 : decode cX10_formula 39 = .ok (.if_icmp .ne 7, 3) := dk_160 0 7 (dk_at dksX10_formula_1 15 rfl rfl)
theorem dX10_formula_42 : decode cX10_formula 42 = .ok (.iconst 1, 1) := dk_4 (dk_at dksX10_formula_1 18 rfl rfl)
theorem dX10_formula_43 : decode cX10_formula 43 = .ok (.goto 4, 3) := dk_167 0 4 (dk_at dksX10_formula_1 19 rfl rfl)
theorem dX10_formula_46 : decode cX10_formula 46 = .ok (.iconst 0, 1) := dk_3 (dk_at dksX10_formula_1 22 rfl rfl)
theorem dX10_formula_47 : decode cX10_formula 47 = .ok (.invokevirtual 74, 3) := dk_182 0 74 (dk_at dksX10_formula_2 0 rfl rfl)
theorem dX10_formula_50 : decode cX10_formula 50 = .ok (.invokevirtual 96, 3) := dk_182 0 96 (dk_at dksX10_formula_2 3 rfl rfl)
theorem dX10_formula_53 : decode cX10_formula 53 = .ok (.aload_n 0, 1) := dk_42 (dk_at dksX10_formula_2 6 rfl rfl)
theorem dX10_formula_54 : decode cX10_formula 54 = .ok (.invokevirtual 93, 3) := dk_182 0 93 (dk_at dksX10_formula_2 7 rfl rfl)
theorem dX10_formula_57 : decode cX10_formula 57 = .ok (.goto (-53), 3) := dk_167 255 203 (dk_at dksX10_formula_2 10 rfl rfl)
theorem dX10_formula_60 : decode cX10_formula 60 = .ok (.aload_n 0, 1) := dk_42 (dk_at dksX10_formula_2 13 rfl rfl)
theorem dX10_formula_61 : decode cX10_formula 61 = .ok (.getfield 12, 3) := dk_180 0 12 (dk_at dksX10_formula_2 14 rfl rfl)
theorem dX10_formula_64 : decode cX10_formula 64 = .ok (.areturn, 1) := dk_176 (dk_at dksX10_formula_2 17 rfl rfl)
abbrev cX10_factor : ByteArray := prog_9_method_7_code
def yX10_factor : MethodName := ⟨RX10, "factor", "()V"⟩
def dkwX10_factor_5 : List UInt8 := [182, 0, 91, 177]
abbrev dktX10_factor_5 : List UInt8 := dkwX10_factor_5 ++ []
def dkwX10_factor_4 : List UInt8 := [182, 0, 64, 16, 65, 16, 90, 184, 0, 70, 153, 0, 12, 42, 16, 64, 182, 0, 87, 167, 0, 7, 42]
abbrev dktX10_factor_4 : List UInt8 := dkwX10_factor_4 ++ dktX10_factor_5
def dkwX10_factor_3 : List UInt8 := [42, 182, 0, 64, 16, 41, 160, 0, 7, 4, 167, 0, 4, 3, 182, 0, 74, 87, 167, 0, 30, 42]
abbrev dktX10_factor_3 : List UInt8 := dkwX10_factor_3 ++ dktX10_factor_4
def dkwX10_factor_2 : List UInt8 := [182, 0, 64, 16, 58, 160, 0, 7, 4, 167, 0, 4, 3, 182, 0, 74, 87, 42, 16, 64, 182, 0, 87, 42]
abbrev dktX10_factor_2 : List UInt8 := dkwX10_factor_2 ++ dktX10_factor_3
def dkwX10_factor_1 : List UInt8 := [16, 40, 160, 0, 7, 4, 167, 0, 4, 3, 182, 0, 74, 87, 42, 16, 83, 182, 0, 87, 42, 42]
abbrev dktX10_factor_1 : List UInt8 := dkwX10_factor_1 ++ dktX10_factor_2
def dkwX10_factor_0 : List UInt8 := [42, 182, 0, 64, 16, 83, 160, 0, 85, 42, 89, 180, 0, 34, 4, 96, 181, 0, 34, 42, 42, 182, 0, 64]
abbrev dktX10_factor_0 : List UInt8 := dkwX10_factor_0 ++ dktX10_factor_1
theorem dksX10_factor_0 : cX10_factor.data.toList.drop 0 = dktX10_factor_0 := by decide +kernel
theorem dksX10_factor_1 : cX10_factor.data.toList.drop 24 = dktX10_factor_1 := dk_seg dksX10_factor_0 24 rfl rfl
theorem dksX10_factor_2 : cX10_factor.data.toList.drop 46 = dktX10_factor_2 := dk_seg dksX10_factor_1 22 rfl rfl
theorem dksX10_factor_3 : cX10_factor.data.toList.drop 70 = dktX10_factor_3 := dk_seg dksX10_factor_2 24 rfl rfl
theorem dksX10_factor_4 : cX10_factor.data.toList.drop 92 = dktX10_factor_4 := dk_seg dksX10_factor_3 22 rfl rfl
theorem dksX10_factor_5 : cX10_factor.data.toList.drop 115 = dktX10_factor_5 := dk_seg dksX10_factor_4 23 rfl rfl
theorem dX10_factor_0 : decode cX10_factor 0 = .ok (.aload_n 0, 1) := dk_42 (dk_at dksX10_factor_0 0 rfl rfl)
theorem dX10_factor_1 : decode cX10_factor 1 = .ok (.invokevirtual 64, 3) := dk_182 0 64 (dk_at dksX10_factor_0 1 rfl rfl)
theorem dX10_factor_4 : decode cX10_factor 4 = .ok (.bipush 83, 2) := dk_16 83 (dk_at dksX10_factor_0 4 rfl rfl)
theorem dX10_factor_6 : decode cX10_factor 6 = .ok (.if_icmp .ne 85, 3) := dk_160 0 85 (dk_at dksX10_factor_0 6 rfl rfl)
theorem dX10_factor_9 : decode cX10_factor 9 = .ok (.aload_n 0, 1) := dk_42 (dk_at dksX10_factor_0 9 rfl rfl)
theorem dX10_factor_10 : decode cX10_factor 10 = .ok (.dup, 1) := dk_89 (dk_at dksX10_factor_0 10 rfl rfl)
theorem dX10_factor_11 : decode cX10_factor 11 = .ok (.getfield 34, 3) := dk_180 0 34 (dk_at dksX10_factor_0 11 rfl rfl)
theorem dX10_factor_14 : decode cX10_factor 14 = .ok (.iconst 1, 1) := dk_4 (dk_at dksX10_factor_0 14 rfl rfl)
theorem dX10_factor_15 : decode cX10_factor 15 = .ok (.iadd, 1) := dk_96 (dk_at dksX10_factor_0 15 rfl rfl)
theorem dX10_factor_16 : decode cX10_factor 16 = .ok (.putfield 34, 3) := dk_181 0 34 (dk_at dksX10_factor_0 16 rfl rfl)
theorem dX10_factor_19 : decode cX10_factor 19 = .ok (.aload_n 0, 1) := dk_42 (dk_at dksX10_factor_0 19 rfl rfl)
theorem dX10_factor_20 : decode cX10_factor 20 = .ok (.aload_n 0, 1) := dk_42 (dk_at dksX10_factor_0 20 rfl rfl)
theorem dX10_factor_21 : decode cX10_factor 21 = .ok (.invokevirtual 64, 3) := dk_182 0 64 (dk_at dksX10_factor_0 21 rfl rfl)
theorem dX10_factor_24 : decode cX10_factor 24 = .ok (.bipush 40, 2) := dk_16 40 (dk_at dksX10_factor_1 0 rfl rfl)
theorem dX10_factor_26 : decode cX10_factor 26 = .ok (.if_icmp .ne 7, 3) := dk_160 0 7 (dk_at dksX10_factor_1 2 rfl rfl)
theorem dX10_factor_29 : decode cX10_factor 29 = .ok (.iconst 1, 1) := dk_4 (dk_at dksX10_factor_1 5 rfl rfl)
theorem dX10_factor_30 : decode cX10_factor 30 = .ok (.goto 4, 3) := dk_167 0 4 (dk_at dksX10_factor_1 6 rfl rfl)
theorem dX10_factor_33 : decode cX10_factor 33 = .ok (.iconst 0, 1) := dk_3 (dk_at dksX10_factor_1 9 rfl rfl)
theorem dX10_factor_34 : decode cX10_factor 34 = .ok (.invokevirtual 74, 3) := dk_182 0 74 (dk_at dksX10_factor_1 10 rfl rfl)
theorem dX10_factor_37 : decode cX10_factor 37 = .ok (.pop, 1) := dk_87 (dk_at dksX10_factor_1 13 rfl rfl)
theorem dX10_factor_38 : decode cX10_factor 38 = .ok (.aload_n 0, 1) := dk_42 (dk_at dksX10_factor_1 14 rfl rfl)
theorem dX10_factor_39 : decode cX10_factor 39 = .ok (.bipush 83, 2) := dk_16 83 (dk_at dksX10_factor_1 15 rfl rfl)
theorem dX10_factor_41 : decode cX10_factor 41 = .ok (.invokevirtual 87, 3) := dk_182 0 87 (dk_at dksX10_factor_1 17 rfl rfl)
theorem dX10_factor_44 : decode cX10_factor 44 = .ok (.aload_n 0, 1) := dk_42 (dk_at dksX10_factor_1 20 rfl rfl)
theorem dX10_factor_45 : decode cX10_factor 45 = .ok (.aload_n 0, 1) := dk_42 (dk_at dksX10_factor_1 21 rfl rfl)
theorem dX10_factor_46 : decode cX10_factor 46 = .ok (.invokevirtual 64, 3) := dk_182 0 64 (dk_at dksX10_factor_2 0 rfl rfl)
theorem dX10_factor_49 : decode cX10_factor 49 = .ok (.bipush 58, 2) := dk_16 58 (dk_at dksX10_factor_2 3 rfl rfl)
theorem dX10_factor_51 : decode cX10_factor 51 = .ok (.if_icmp .ne 7, 3) := dk_160 0 7 (dk_at dksX10_factor_2 5 rfl rfl)
theorem dX10_factor_54 : decode cX10_factor 54 = .ok (.iconst 1, 1) := dk_4 (dk_at dksX10_factor_2 8 rfl rfl)
theorem dX10_factor_55 : decode cX10_factor 55 = .ok (.goto 4, 3) := dk_167 0 4 (dk_at dksX10_factor_2 9 rfl rfl)
theorem dX10_factor_58 : decode cX10_factor 58 = .ok (.iconst 0, 1) := dk_3 (dk_at dksX10_factor_2 12 rfl rfl)
theorem dX10_factor_59 : decode cX10_factor 59 = .ok (.invokevirtual 74, 3) := dk_182 0 74 (dk_at dksX10_factor_2 13 rfl rfl)
theorem dX10_factor_62 : decode cX10_factor 62 = .ok (.pop, 1) := dk_87 (dk_at dksX10_factor_2 16 rfl rfl)
theorem dX10_factor_63 : decode cX10_factor 63 = .ok (.aload_n 0, 1) := dk_42 (dk_at dksX10_factor_2 17 rfl rfl)
theorem dX10_factor_64 : decode cX10_factor 64 = .ok (.bipush 64, 2) := dk_16 64 (dk_at dksX10_factor_2 18 rfl rfl)
theorem dX10_factor_66 : decode cX10_factor 66 = .ok (.invokevirtual 87, 3) := dk_182 0 87 (dk_at dksX10_factor_2 20 rfl rfl)
theorem dX10_factor_69 : decode cX10_factor 69 = .ok (.aload_n 0, 1) := dk_42 (dk_at dksX10_factor_2 23 rfl rfl)
theorem dX10_factor_70 : decode cX10_factor 70 = .ok (.aload_n 0, 1) := dk_42 (dk_at dksX10_factor_3 0 rfl rfl)
theorem dX10_factor_71 : decode cX10_factor 71 = .ok (.invokevirtual 64, 3) := dk_182 0 64 (dk_at dksX10_factor_3 1 rfl rfl)
theorem dX10_factor_74 : decode cX10_factor 74 = .ok (.bipush 41, 2) := dk_16 41 (dk_at dksX10_factor_3 4 rfl rfl)
theorem dX10_factor_76 : decode cX10_factor 76 = .ok (.if_icmp .ne 7, 3) := dk_160 0 7 (dk_at dksX10_factor_3 6 rfl rfl)
theorem dX10_factor_79 : decode cX10_factor 79 = .ok (.iconst 1, 1) := dk_4 (dk_at dksX10_factor_3 9 rfl rfl)
theorem dX10_factor_80 : decode cX10_factor 80 = .ok (.goto 4, 3) := dk_167 0 4 (dk_at dksX10_factor_3 10 rfl rfl)
theorem dX10_factor_83 : decode cX10_factor 83 = .ok (.iconst 0, 1) := dk_3 (dk_at dksX10_factor_3 13 rfl rfl)
theorem dX10_factor_84 : decode cX10_factor 84 = .ok (.invokevirtual 74, 3) := dk_182 0 74 (dk_at dksX10_factor_3 14 rfl rfl)
theorem dX10_factor_87 : decode cX10_factor 87 = .ok (.pop, 1) := dk_87 (dk_at dksX10_factor_3 17 rfl rfl)
theorem dX10_factor_88 : decode cX10_factor 88 = .ok (.goto 30, 3) := dk_167 0 30 (dk_at dksX10_factor_3 18 rfl rfl)
theorem dX10_factor_91 : decode cX10_factor 91 = .ok (.aload_n 0, 1) := dk_42 (dk_at dksX10_factor_3 21 rfl rfl)
theorem dX10_factor_92 : decode cX10_factor 92 = .ok (.invokevirtual 64, 3) := dk_182 0 64 (dk_at dksX10_factor_4 0 rfl rfl)
theorem dX10_factor_95 : decode cX10_factor 95 = .ok (.bipush 65, 2) := dk_16 65 (dk_at dksX10_factor_4 3 rfl rfl)
theorem dX10_factor_97 : decode cX10_factor 97 = .ok (.bipush 90, 2) := dk_16 90 (dk_at dksX10_factor_4 5 rfl rfl)
theorem dX10_factor_99 : decode cX10_factor 99 = .ok (.invokestatic 70, 3) := dk_184 0 70 (dk_at dksX10_factor_4 7 rfl rfl)
theorem dX10_factor_102 : decode cX10_factor 102 = .ok (.ifCond .eq 12, 3) := dk_153 0 12 (dk_at dksX10_factor_4 10 rfl rfl)
theorem dX10_factor_105 : decode cX10_factor 105 = .ok (.aload_n 0, 1) := dk_42 (dk_at dksX10_factor_4 13 rfl rfl)
theorem dX10_factor_106 : decode cX10_factor 106 = .ok (.bipush 64, 2) := dk_16 64 (dk_at dksX10_factor_4 14 rfl rfl)
theorem dX10_factor_108 : decode cX10_factor 108 = .ok (.invokevirtual 87, 3) := dk_182 0 87 (dk_at dksX10_factor_4 16 rfl rfl)
theorem dX10_factor_111 : decode cX10_factor 111 = .ok (.goto 7, 3) := dk_167 0 7 (dk_at dksX10_factor_4 19 rfl rfl)
theorem dX10_factor_114 : decode cX10_factor 114 = .ok (.aload_n 0, 1) := dk_42 (dk_at dksX10_factor_4 22 rfl rfl)
theorem dX10_factor_115 : decode cX10_factor 115 = .ok (.invokevirtual 91, 3) := dk_182 0 91 (dk_at dksX10_factor_5 0 rfl rfl)
theorem dX10_factor_118 : decode cX10_factor 118 = .ok (.return_, 1) := dk_177 (dk_at dksX10_factor_5 3 rfl rfl)
abbrev cX10_next : ByteArray := prog_9_method_2_code
def yX10_next : MethodName := ⟨RX10, "next", "()I"⟩
def dkwX10_next_1 : List UInt8 := [185, 0, 44, 2, 0, 167, 0, 5, 16, 254, 172]
abbrev dktX10_next_1 : List UInt8 := dkwX10_next_1 ++ []
def dkwX10_next_0 : List UInt8 := [42, 180, 0, 34, 42, 180, 0, 18, 185, 0, 38, 1, 0, 162, 0, 19, 42, 180, 0, 18, 42, 180, 0, 34]
abbrev dktX10_next_0 : List UInt8 := dkwX10_next_0 ++ dktX10_next_1
theorem dksX10_next_0 : cX10_next.data.toList.drop 0 = dktX10_next_0 := by decide +kernel
theorem dksX10_next_1 : cX10_next.data.toList.drop 24 = dktX10_next_1 := dk_seg dksX10_next_0 24 rfl rfl
theorem dX10_next_0 : decode cX10_next 0 = .ok (.aload_n 0, 1) := dk_42 (dk_at dksX10_next_0 0 rfl rfl)
theorem dX10_next_1 : decode cX10_next 1 = .ok (.getfield 34, 3) := dk_180 0 34 (dk_at dksX10_next_0 1 rfl rfl)
theorem dX10_next_4 : decode cX10_next 4 = .ok (.aload_n 0, 1) := dk_42 (dk_at dksX10_next_0 4 rfl rfl)
theorem dX10_next_5 : decode cX10_next 5 = .ok (.getfield 18, 3) := dk_180 0 18 (dk_at dksX10_next_0 5 rfl rfl)
theorem dX10_next_8 : decode cX10_next 8 = .ok (.invokeinterface 38 1, 5) := by decide +kernel
theorem dX10_next_13 : decode cX10_next 13 = .ok (.if_icmp .ge 19, 3) := dk_162 0 19 (dk_at dksX10_next_0 13 rfl rfl)
theorem dX10_next_16 : decode cX10_next 16 = .ok (.aload_n 0, 1) := dk_42 (dk_at dksX10_next_0 16 rfl rfl)
theorem dX10_next_17 : decode cX10_next 17 = .ok (.getfield 18, 3) := dk_180 0 18 (dk_at dksX10_next_0 17 rfl rfl)
theorem dX10_next_20 : decode cX10_next 20 = .ok (.aload_n 0, 1) := dk_42 (dk_at dksX10_next_0 20 rfl rfl)
theorem dX10_next_21 : decode cX10_next 21 = .ok (.getfield 34, 3) := dk_180 0 34 (dk_at dksX10_next_0 21 rfl rfl)
theorem dX10_next_24 : decode cX10_next 24 = .ok (.invokeinterface 44 2, 5) := by decide +kernel
theorem dX10_next_29 : decode cX10_next 29 = .ok (.goto 5, 3) := dk_167 0 5 (dk_at dksX10_next_1 5 rfl rfl)
theorem dX10_next_32 : decode cX10_next 32 = .ok (.bipush (-2), 2) := dk_16 254 (dk_at dksX10_next_1 8 rfl rfl)
theorem dX10_next_34 : decode cX10_next 34 = .ok (.ireturn, 1) := dk_172 (dk_at dksX10_next_1 10 rfl rfl)
abbrev cX10_take : ByteArray := prog_9_method_3_code
def yX10_take : MethodName := ⟨RX10, "take", "(Z)I"⟩
def dkwX10_take_1 : List UInt8 := [181, 0, 34, 42, 180, 0, 18, 42, 180, 0, 34, 4, 100, 185, 0, 44, 2, 0, 172]
abbrev dktX10_take_1 : List UInt8 := dkwX10_take_1 ++ []
def dkwX10_take_0 : List UInt8 := [27, 154, 0, 15, 187, 0, 48, 89, 42, 180, 0, 34, 183, 0, 50, 191, 42, 89, 180, 0, 34, 4, 96]
abbrev dktX10_take_0 : List UInt8 := dkwX10_take_0 ++ dktX10_take_1
theorem dksX10_take_0 : cX10_take.data.toList.drop 0 = dktX10_take_0 := by decide +kernel
theorem dksX10_take_1 : cX10_take.data.toList.drop 23 = dktX10_take_1 := dk_seg dksX10_take_0 23 rfl rfl
theorem dX10_take_0 : decode cX10_take 0 = .ok (.iload_n 1, 1) := dk_27 (dk_at dksX10_take_0 0 rfl rfl)
theorem dX10_take_1 : decode cX10_take 1 = .ok (.ifCond .ne 15, 3) := dk_154 0 15 (dk_at dksX10_take_0 1 rfl rfl)
theorem dX10_take_4 : decode cX10_take 4 = .ok (.new 48, 3) := dk_187 0 48 (dk_at dksX10_take_0 4 rfl rfl)
theorem dX10_take_7 : decode cX10_take 7 = .ok (.dup, 1) := dk_89 (dk_at dksX10_take_0 7 rfl rfl)
theorem dX10_take_8 : decode cX10_take 8 = .ok (.aload_n 0, 1) := dk_42 (dk_at dksX10_take_0 8 rfl rfl)
theorem dX10_take_9 : decode cX10_take 9 = .ok (.getfield 34, 3) := dk_180 0 34 (dk_at dksX10_take_0 9 rfl rfl)
theorem dX10_take_12 : decode cX10_take 12 = .ok (.invokespecial 50, 3) := dk_183 0 50 (dk_at dksX10_take_0 12 rfl rfl)
theorem dX10_take_15 : decode cX10_take 15 = .ok (.athrow, 1) := dk_191 (dk_at dksX10_take_0 15 rfl rfl)
theorem dX10_take_16 : decode cX10_take 16 = .ok (.aload_n 0, 1) := dk_42 (dk_at dksX10_take_0 16 rfl rfl)
theorem dX10_take_17 : decode cX10_take 17 = .ok (.dup, 1) := dk_89 (dk_at dksX10_take_0 17 rfl rfl)
theorem dX10_take_18 : decode cX10_take 18 = .ok (.getfield 34, 3) := dk_180 0 34 (dk_at dksX10_take_0 18 rfl rfl)
theorem dX10_take_21 : decode cX10_take 21 = .ok (.iconst 1, 1) := dk_4 (dk_at dksX10_take_0 21 rfl rfl)
theorem dX10_take_22 : decode cX10_take 22 = .ok (.iadd, 1) := dk_96 (dk_at dksX10_take_0 22 rfl rfl)
theorem dX10_take_23 : decode cX10_take 23 = .ok (.putfield 34, 3) := dk_181 0 34 (dk_at dksX10_take_1 0 rfl rfl)
theorem dX10_take_26 : decode cX10_take 26 = .ok (.aload_n 0, 1) := dk_42 (dk_at dksX10_take_1 3 rfl rfl)
theorem dX10_take_27 : decode cX10_take 27 = .ok (.getfield 18, 3) := dk_180 0 18 (dk_at dksX10_take_1 4 rfl rfl)
theorem dX10_take_30 : decode cX10_take 30 = .ok (.aload_n 0, 1) := dk_42 (dk_at dksX10_take_1 7 rfl rfl)
theorem dX10_take_31 : decode cX10_take 31 = .ok (.getfield 34, 3) := dk_180 0 34 (dk_at dksX10_take_1 8 rfl rfl)
theorem dX10_take_34 : decode cX10_take 34 = .ok (.iconst 1, 1) := dk_4 (dk_at dksX10_take_1 11 rfl rfl)
theorem dX10_take_35 : decode cX10_take 35 = .ok (.isub, 1) := dk_100 (dk_at dksX10_take_1 12 rfl rfl)
theorem dX10_take_36 : decode cX10_take 36 = .ok (.invokeinterface 44 2, 5) := by decide +kernel
theorem dX10_take_41 : decode cX10_take 41 = .ok (.ireturn, 1) := dk_172 (dk_at dksX10_take_1 18 rfl rfl)
abbrev cX10_cell : ByteArray := prog_9_method_5_code
def yX10_cell : MethodName := ⟨RX10, "cell", "(C)V"⟩
def dkwX10_cell_5 : List UInt8 := [180, 0, 84, 183, 0, 55, 185, 0, 58, 2, 0, 87, 177]
abbrev dktX10_cell_5 : List UInt8 := dkwX10_cell_5 ++ []
def dkwX10_cell_4 : List UInt8 := [185, 0, 78, 2, 0, 192, 0, 82, 180, 0, 84, 42, 180, 0, 31, 28, 185, 0, 78, 2, 0, 192, 0, 82]
abbrev dktX10_cell_4 : List UInt8 := dkwX10_cell_4 ++ dktX10_cell_5
def dkwX10_cell_3 : List UInt8 := [182, 0, 74, 16, 49, 100, 62, 42, 180, 0, 12, 187, 0, 53, 89, 27, 3, 42, 180, 0, 28, 29]
abbrev dktX10_cell_3 : List UInt8 := dkwX10_cell_3 ++ dktX10_cell_4
def dkwX10_cell_2 : List UInt8 := [182, 0, 64, 16, 49, 100, 42, 180, 0, 28, 185, 0, 67, 1, 0, 162, 0, 7, 4, 167, 0, 4, 3]
abbrev dktX10_cell_2 : List UInt8 := dkwX10_cell_2 ++ dktX10_cell_3
def dkwX10_cell_1 : List UInt8 := [182, 0, 74, 16, 65, 100, 61, 42, 42, 182, 0, 64, 16, 49, 16, 57, 184, 0, 70, 153, 0, 26, 42]
abbrev dktX10_cell_1 : List UInt8 := dkwX10_cell_1 ++ dktX10_cell_2
def dkwX10_cell_0 : List UInt8 := [42, 42, 182, 0, 64, 16, 65, 16, 65, 42, 180, 0, 31, 185, 0, 67, 1, 0, 96, 4, 100, 184, 0, 70]
abbrev dktX10_cell_0 : List UInt8 := dkwX10_cell_0 ++ dktX10_cell_1
theorem dksX10_cell_0 : cX10_cell.data.toList.drop 0 = dktX10_cell_0 := by decide +kernel
theorem dksX10_cell_1 : cX10_cell.data.toList.drop 24 = dktX10_cell_1 := dk_seg dksX10_cell_0 24 rfl rfl
theorem dksX10_cell_2 : cX10_cell.data.toList.drop 47 = dktX10_cell_2 := dk_seg dksX10_cell_1 23 rfl rfl
theorem dksX10_cell_3 : cX10_cell.data.toList.drop 70 = dktX10_cell_3 := dk_seg dksX10_cell_2 23 rfl rfl
theorem dksX10_cell_4 : cX10_cell.data.toList.drop 92 = dktX10_cell_4 := dk_seg dksX10_cell_3 22 rfl rfl
theorem dksX10_cell_5 : cX10_cell.data.toList.drop 116 = dktX10_cell_5 := dk_seg dksX10_cell_4 24 rfl rfl
theorem dX10_cell_0 : decode cX10_cell 0 = .ok (.aload_n 0, 1) := dk_42 (dk_at dksX10_cell_0 0 rfl rfl)
theorem dX10_cell_1 : decode cX10_cell 1 = .ok (.aload_n 0, 1) := dk_42 (dk_at dksX10_cell_0 1 rfl rfl)
theorem dX10_cell_2 : decode cX10_cell 2 = .ok (.invokevirtual 64, 3) := dk_182 0 64 (dk_at dksX10_cell_0 2 rfl rfl)
theorem dX10_cell_5 : decode cX10_cell 5 = .ok (.bipush 65, 2) := dk_16 65 (dk_at dksX10_cell_0 5 rfl rfl)
theorem dX10_cell_7 : decode cX10_cell 7 = .ok (.bipush 65, 2) := dk_16 65 (dk_at dksX10_cell_0 7 rfl rfl)
theorem dX10_cell_9 : decode cX10_cell 9 = .ok (.aload_n 0, 1) := dk_42 (dk_at dksX10_cell_0 9 rfl rfl)
theorem dX10_cell_10 : decode cX10_cell 10 = .ok (.getfield 31, 3) := dk_180 0 31 (dk_at dksX10_cell_0 10 rfl rfl)
theorem dX10_cell_13 : decode cX10_cell 13 = .ok (.invokeinterface 67 1, 5) := by decide +kernel
theorem dX10_cell_18 : decode cX10_cell 18 = .ok (.iadd, 1) := dk_96 (dk_at dksX10_cell_0 18 rfl rfl)
theorem dX10_cell_19 : decode cX10_cell 19 = .ok (.iconst 1, 1) := dk_4 (dk_at dksX10_cell_0 19 rfl rfl)
theorem dX10_cell_20 : decode cX10_cell 20 = .ok (.isub, 1) := dk_100 (dk_at dksX10_cell_0 20 rfl rfl)
theorem dX10_cell_21 : decode cX10_cell 21 = .ok (.invokestatic 70, 3) := dk_184 0 70 (dk_at dksX10_cell_0 21 rfl rfl)
theorem dX10_cell_24 : decode cX10_cell 24 = .ok (.invokevirtual 74, 3) := dk_182 0 74 (dk_at dksX10_cell_1 0 rfl rfl)
theorem dX10_cell_27 : decode cX10_cell 27 = .ok (.bipush 65, 2) := dk_16 65 (dk_at dksX10_cell_1 3 rfl rfl)
theorem dX10_cell_29 : decode cX10_cell 29 = .ok (.isub, 1) := dk_100 (dk_at dksX10_cell_1 5 rfl rfl)
theorem dX10_cell_30 : decode cX10_cell 30 = .ok (.istore_n 2, 1) := dk_61 (dk_at dksX10_cell_1 6 rfl rfl)
theorem dX10_cell_31 : decode cX10_cell 31 = .ok (.aload_n 0, 1) := dk_42 (dk_at dksX10_cell_1 7 rfl rfl)
theorem dX10_cell_32 : decode cX10_cell 32 = .ok (.aload_n 0, 1) := dk_42 (dk_at dksX10_cell_1 8 rfl rfl)
theorem dX10_cell_33 : decode cX10_cell 33 = .ok (.invokevirtual 64, 3) := dk_182 0 64 (dk_at dksX10_cell_1 9 rfl rfl)
theorem dX10_cell_36 : decode cX10_cell 36 = .ok (.bipush 49, 2) := dk_16 49 (dk_at dksX10_cell_1 12 rfl rfl)
theorem dX10_cell_38 : decode cX10_cell 38 = .ok (.bipush 57, 2) := dk_16 57 (dk_at dksX10_cell_1 14 rfl rfl)
theorem dX10_cell_40 : decode cX10_cell 40 = .ok (.invokestatic 70, 3) := dk_184 0 70 (dk_at dksX10_cell_1 16 rfl rfl)
theorem dX10_cell_43 : decode cX10_cell 43 = .ok (.ifCond .eq 26, 3) := dk_153 0 26 (dk_at dksX10_cell_1 19 rfl rfl)
theorem dX10_cell_46 : decode cX10_cell 46 = .ok (.aload_n 0, 1) := dk_42 (dk_at dksX10_cell_1 22 rfl rfl)
theorem dX10_cell_47 : decode cX10_cell 47 = .ok (.invokevirtual 64, 3) := dk_182 0 64 (dk_at dksX10_cell_2 0 rfl rfl)
theorem dX10_cell_50 : decode cX10_cell 50 = .ok (.bipush 49, 2) := dk_16 49 (dk_at dksX10_cell_2 3 rfl rfl)
theorem dX10_cell_52 : decode cX10_cell 52 = .ok (.isub, 1) := dk_100 (dk_at dksX10_cell_2 5 rfl rfl)
theorem dX10_cell_53 : decode cX10_cell 53 = .ok (.aload_n 0, 1) := dk_42 (dk_at dksX10_cell_2 6 rfl rfl)
theorem dX10_cell_54 : decode cX10_cell 54 = .ok (.getfield 28, 3) := dk_180 0 28 (dk_at dksX10_cell_2 7 rfl rfl)
theorem dX10_cell_57 : decode cX10_cell 57 = .ok (.invokeinterface 67 1, 5) := by decide +kernel
theorem dX10_cell_62 : decode cX10_cell 62 = .ok (.if_icmp .ge 7, 3) := dk_162 0 7 (dk_at dksX10_cell_2 15 rfl rfl)
theorem dX10_cell_65 : decode cX10_cell 65 = .ok (.iconst 1, 1) := dk_4 (dk_at dksX10_cell_2 18 rfl rfl)
theorem dX10_cell_66 : decode cX10_cell 66 = .ok (.goto 4, 3) := dk_167 0 4 (dk_at dksX10_cell_2 19 rfl rfl)
theorem dX10_cell_69 : decode cX10_cell 69 = .ok (.iconst 0, 1) := dk_3 (dk_at dksX10_cell_2 22 rfl rfl)
theorem dX10_cell_70 : decode cX10_cell 70 = .ok (.invokevirtual 74, 3) := dk_182 0 74 (dk_at dksX10_cell_3 0 rfl rfl)
theorem dX10_cell_73 : decode cX10_cell 73 = .ok (.bipush 49, 2) := dk_16 49 (dk_at dksX10_cell_3 3 rfl rfl)
theorem dX10_cell_75 : decode cX10_cell 75 = .ok (.isub, 1) := dk_100 (dk_at dksX10_cell_3 5 rfl rfl)
theorem dX10_cell_76 : decode cX10_cell 76 = .ok (.istore_n 3, 1) := dk_62 (dk_at dksX10_cell_3 6 rfl rfl)
theorem dX10_cell_77 : decode cX10_cell 77 = .ok (.aload_n 0, 1) := dk_42 (dk_at dksX10_cell_3 7 rfl rfl)
theorem dX10_cell_78 : decode cX10_cell 78 = .ok (.getfield 12, 3) := dk_180 0 12 (dk_at dksX10_cell_3 8 rfl rfl)
theorem dX10_cell_81 : decode cX10_cell 81 = .ok (.new 53, 3) := dk_187 0 53 (dk_at dksX10_cell_3 11 rfl rfl)
theorem dX10_cell_84 : decode cX10_cell 84 = .ok (.dup, 1) := dk_89 (dk_at dksX10_cell_3 14 rfl rfl)
theorem dX10_cell_85 : decode cX10_cell 85 = .ok (.iload_n 1, 1) := dk_27 (dk_at dksX10_cell_3 15 rfl rfl)
theorem dX10_cell_86 : decode cX10_cell 86 = .ok (.iconst 0, 1) := dk_3 (dk_at dksX10_cell_3 16 rfl rfl)
theorem dX10_cell_87 : decode cX10_cell 87 = .ok (.aload_n 0, 1) := dk_42 (dk_at dksX10_cell_3 17 rfl rfl)
theorem dX10_cell_88 : decode cX10_cell 88 = .ok (.getfield 28, 3) := dk_180 0 28 (dk_at dksX10_cell_3 18 rfl rfl)
theorem dX10_cell_91 : decode cX10_cell 91 = .ok (.iload_n 3, 1) := dk_29 (dk_at dksX10_cell_3 21 rfl rfl)
theorem dX10_cell_92 : decode cX10_cell 92 = .ok (.invokeinterface 78 2, 5) := by decide +kernel
theorem dX10_cell_97 : decode cX10_cell 97 = .ok (.checkcast 82, 3) := dk_192 0 82 (dk_at dksX10_cell_4 5 rfl rfl)
theorem dX10_cell_100 : decode cX10_cell 100 = .ok (.getfield 84, 3) := dk_180 0 84 (dk_at dksX10_cell_4 8 rfl rfl)
theorem dX10_cell_103 : decode cX10_cell 103 = .ok (.aload_n 0, 1) := dk_42 (dk_at dksX10_cell_4 11 rfl rfl)
theorem dX10_cell_104 : decode cX10_cell 104 = .ok (.getfield 31, 3) := dk_180 0 31 (dk_at dksX10_cell_4 12 rfl rfl)
theorem dX10_cell_107 : decode cX10_cell 107 = .ok (.iload_n 2, 1) := dk_28 (dk_at dksX10_cell_4 15 rfl rfl)
theorem dX10_cell_108 : decode cX10_cell 108 = .ok (.invokeinterface 78 2, 5) := by decide +kernel
theorem dX10_cell_113 : decode cX10_cell 113 = .ok (.checkcast 82, 3) := dk_192 0 82 (dk_at dksX10_cell_4 21 rfl rfl)
theorem dX10_cell_116 : decode cX10_cell 116 = .ok (.getfield 84, 3) := dk_180 0 84 (dk_at dksX10_cell_5 0 rfl rfl)
theorem dX10_cell_119 : decode cX10_cell 119 = .ok (.invokespecial 55, 3) := dk_183 0 55 (dk_at dksX10_cell_5 3 rfl rfl)
theorem dX10_cell_122 : decode cX10_cell 122 = .ok (.invokeinterface 58 2, 5) := by decide +kernel
theorem dX10_cell_127 : decode cX10_cell 127 = .ok (.pop, 1) := dk_87 (dk_at dksX10_cell_5 11 rfl rfl)
theorem dX10_cell_128 : decode cX10_cell 128 = .ok (.return_, 1) := dk_177 (dk_at dksX10_cell_5 12 rfl rfl)
abbrev cX10_number : ByteArray := prog_9_method_6_code
def yX10_number : MethodName := ⟨RX10, "number", "()V"⟩
def dkwX10_number_3 : List UInt8 := [27, 3, 3, 183, 0, 55, 185, 0, 58, 2, 0, 87, 177]
abbrev dktX10_number_3 : List UInt8 := dkwX10_number_3 ++ []
def dkwX10_number_2 : List UInt8 := [182, 0, 74, 96, 16, 48, 100, 60, 132, 2, 1, 167, 255, 220, 42, 180, 0, 12, 187, 0, 53, 89, 16, 35]
abbrev dktX10_number_2 : List UInt8 := dkwX10_number_2 ++ dktX10_number_3
def dkwX10_number_1 : List UInt8 := [162, 0, 37, 42, 182, 0, 64, 16, 48, 16, 57, 184, 0, 70, 153, 0, 23, 16, 10, 27, 104, 42, 4]
abbrev dktX10_number_1 : List UInt8 := dkwX10_number_1 ++ dktX10_number_2
def dkwX10_number_0 : List UInt8 := [42, 42, 182, 0, 64, 16, 48, 16, 57, 184, 0, 70, 182, 0, 74, 16, 48, 100, 60, 4, 61, 28, 7]
abbrev dktX10_number_0 : List UInt8 := dkwX10_number_0 ++ dktX10_number_1
theorem dksX10_number_0 : cX10_number.data.toList.drop 0 = dktX10_number_0 := by decide +kernel
theorem dksX10_number_1 : cX10_number.data.toList.drop 23 = dktX10_number_1 := dk_seg dksX10_number_0 23 rfl rfl
theorem dksX10_number_2 : cX10_number.data.toList.drop 46 = dktX10_number_2 := dk_seg dksX10_number_1 23 rfl rfl
theorem dksX10_number_3 : cX10_number.data.toList.drop 70 = dktX10_number_3 := dk_seg dksX10_number_2 24 rfl rfl
theorem dX10_number_0 : decode cX10_number 0 = .ok (.aload_n 0, 1) := dk_42 (dk_at dksX10_number_0 0 rfl rfl)
theorem dX10_number_1 : decode cX10_number 1 = .ok (.aload_n 0, 1) := dk_42 (dk_at dksX10_number_0 1 rfl rfl)
theorem dX10_number_2 : decode cX10_number 2 = .ok (.invokevirtual 64, 3) := dk_182 0 64 (dk_at dksX10_number_0 2 rfl rfl)
theorem dX10_number_5 : decode cX10_number 5 = .ok (.bipush 48, 2) := dk_16 48 (dk_at dksX10_number_0 5 rfl rfl)
theorem dX10_number_7 : decode cX10_number 7 = .ok (.bipush 57, 2) := dk_16 57 (dk_at dksX10_number_0 7 rfl rfl)
theorem dX10_number_9 : decode cX10_number 9 = .ok (.invokestatic 70, 3) := dk_184 0 70 (dk_at dksX10_number_0 9 rfl rfl)
theorem dX10_number_12 : decode cX10_number 12 = .ok (.invokevirtual 74, 3) := dk_182 0 74 (dk_at dksX10_number_0 12 rfl rfl)
theorem dX10_number_15 : decode cX10_number 15 = .ok (.bipush 48, 2) := dk_16 48 (dk_at dksX10_number_0 15 rfl rfl)
theorem dX10_number_17 : decode cX10_number 17 = .ok (.isub, 1) := dk_100 (dk_at dksX10_number_0 17 rfl rfl)
theorem dX10_number_18 : decode cX10_number 18 = .ok (.istore_n 1, 1) := dk_60 (dk_at dksX10_number_0 18 rfl rfl)
theorem dX10_number_19 : decode cX10_number 19 = .ok (.iconst 1, 1) := dk_4 (dk_at dksX10_number_0 19 rfl rfl)
theorem dX10_number_20 : decode cX10_number 20 = .ok (.istore_n 2, 1) := dk_61 (dk_at dksX10_number_0 20 rfl rfl)
theorem dX10_number_21 : decode cX10_number 21 = .ok (.iload_n 2, 1) := dk_28 (dk_at dksX10_number_0 21 rfl rfl)
theorem dX10_number_22 : decode cX10_number 22 = .ok (.iconst 4, 1) := dk_7 (dk_at dksX10_number_0 22 rfl rfl)
theorem dX10_number_23 : decode cX10_number 23 = .ok (.if_icmp .ge 37, 3) := dk_162 0 37 (dk_at dksX10_number_1 0 rfl rfl)
theorem dX10_number_26 : decode cX10_number 26 = .ok (.aload_n 0, 1) := dk_42 (dk_at dksX10_number_1 3 rfl rfl)
theorem dX10_number_27 : decode cX10_number 27 = .ok (.invokevirtual 64, 3) := dk_182 0 64 (dk_at dksX10_number_1 4 rfl rfl)
theorem dX10_number_30 : decode cX10_number 30 = .ok (.bipush 48, 2) := dk_16 48 (dk_at dksX10_number_1 7 rfl rfl)
theorem dX10_number_32 : decode cX10_number 32 = .ok (.bipush 57, 2) := dk_16 57 (dk_at dksX10_number_1 9 rfl rfl)
theorem dX10_number_34 : decode cX10_number 34 = .ok (.invokestatic 70, 3) := dk_184 0 70 (dk_at dksX10_number_1 11 rfl rfl)
theorem dX10_number_37 : decode cX10_number 37 = .ok (.ifCond .eq 23, 3) := dk_153 0 23 (dk_at dksX10_number_1 14 rfl rfl)
theorem dX10_number_40 : decode cX10_number 40 = .ok (.bipush 10, 2) := dk_16 10 (dk_at dksX10_number_1 17 rfl rfl)
theorem dX10_number_42 : decode cX10_number 42 = .ok (.iload_n 1, 1) := dk_27 (dk_at dksX10_number_1 19 rfl rfl)
theorem dX10_number_43 : decode cX10_number 43 = .ok (.imul, 1) := dk_104 (dk_at dksX10_number_1 20 rfl rfl)
theorem dX10_number_44 : decode cX10_number 44 = .ok (.aload_n 0, 1) := dk_42 (dk_at dksX10_number_1 21 rfl rfl)
theorem dX10_number_45 : decode cX10_number 45 = .ok (.iconst 1, 1) := dk_4 (dk_at dksX10_number_1 22 rfl rfl)
theorem dX10_number_46 : decode cX10_number 46 = .ok (.invokevirtual 74, 3) := dk_182 0 74 (dk_at dksX10_number_2 0 rfl rfl)
theorem dX10_number_49 : decode cX10_number 49 = .ok (.iadd, 1) := dk_96 (dk_at dksX10_number_2 3 rfl rfl)
theorem dX10_number_50 : decode cX10_number 50 = .ok (.bipush 48, 2) := dk_16 48 (dk_at dksX10_number_2 4 rfl rfl)
theorem dX10_number_52 : decode cX10_number 52 = .ok (.isub, 1) := dk_100 (dk_at dksX10_number_2 6 rfl rfl)
theorem dX10_number_53 : decode cX10_number 53 = .ok (.istore_n 1, 1) := dk_60 (dk_at dksX10_number_2 7 rfl rfl)
theorem dX10_number_54 : decode cX10_number 54 = .ok (.iinc 2 1, 3) := dk_132 2 1 (dk_at dksX10_number_2 8 rfl rfl)
theorem dX10_number_57 : decode cX10_number 57 = .ok (.goto (-36), 3) := dk_167 255 220 (dk_at dksX10_number_2 11 rfl rfl)
theorem dX10_number_60 : decode cX10_number 60 = .ok (.aload_n 0, 1) := dk_42 (dk_at dksX10_number_2 14 rfl rfl)
theorem dX10_number_61 : decode cX10_number 61 = .ok (.getfield 12, 3) := dk_180 0 12 (dk_at dksX10_number_2 15 rfl rfl)
theorem dX10_number_64 : decode cX10_number 64 = .ok (.new 53, 3) := dk_187 0 53 (dk_at dksX10_number_2 18 rfl rfl)
theorem dX10_number_67 : decode cX10_number 67 = .ok (.dup, 1) := dk_89 (dk_at dksX10_number_2 21 rfl rfl)
theorem dX10_number_68 : decode cX10_number 68 = .ok (.bipush 35, 2) := dk_16 35 (dk_at dksX10_number_2 22 rfl rfl)
theorem dX10_number_70 : decode cX10_number 70 = .ok (.iload_n 1, 1) := dk_27 (dk_at dksX10_number_3 0 rfl rfl)
theorem dX10_number_71 : decode cX10_number 71 = .ok (.iconst 0, 1) := dk_3 (dk_at dksX10_number_3 1 rfl rfl)
theorem dX10_number_72 : decode cX10_number 72 = .ok (.iconst 0, 1) := dk_3 (dk_at dksX10_number_3 2 rfl rfl)
theorem dX10_number_73 : decode cX10_number 73 = .ok (.invokespecial 55, 3) := dk_183 0 55 (dk_at dksX10_number_3 3 rfl rfl)
theorem dX10_number_76 : decode cX10_number 76 = .ok (.invokeinterface 58 2, 5) := by decide +kernel
theorem dX10_number_81 : decode cX10_number 81 = .ok (.pop, 1) := dk_87 (dk_at dksX10_number_3 11 rfl rfl)
theorem dX10_number_82 : decode cX10_number 82 = .ok (.return_, 1) := dk_177 (dk_at dksX10_number_3 12 rfl rfl)
abbrev cX10_sign : ByteArray := prog_9_method_4_code
def yX10_sign : MethodName := ⟨RX10, "sign", "(I)V"⟩
def dkwX10_sign_0 : List UInt8 := [42, 180, 0, 12, 187, 0, 53, 89, 27, 146, 3, 3, 3, 183, 0, 55, 185, 0, 58, 2, 0, 87, 177]
abbrev dktX10_sign_0 : List UInt8 := dkwX10_sign_0 ++ []
theorem dksX10_sign_0 : cX10_sign.data.toList.drop 0 = dktX10_sign_0 := by decide +kernel
theorem dX10_sign_0 : decode cX10_sign 0 = .ok (.aload_n 0, 1) := dk_42 (dk_at dksX10_sign_0 0 rfl rfl)
theorem dX10_sign_1 : decode cX10_sign 1 = .ok (.getfield 12, 3) := dk_180 0 12 (dk_at dksX10_sign_0 1 rfl rfl)
theorem dX10_sign_4 : decode cX10_sign 4 = .ok (.new 53, 3) := dk_187 0 53 (dk_at dksX10_sign_0 4 rfl rfl)
theorem dX10_sign_7 : decode cX10_sign 7 = .ok (.dup, 1) := dk_89 (dk_at dksX10_sign_0 7 rfl rfl)
theorem dX10_sign_8 : decode cX10_sign 8 = .ok (.iload_n 1, 1) := dk_27 (dk_at dksX10_sign_0 8 rfl rfl)
theorem dX10_sign_9 : decode cX10_sign 9 = .ok (.i2c, 1) := dk_146 (dk_at dksX10_sign_0 9 rfl rfl)
theorem dX10_sign_10 : decode cX10_sign 10 = .ok (.iconst 0, 1) := dk_3 (dk_at dksX10_sign_0 10 rfl rfl)
theorem dX10_sign_11 : decode cX10_sign 11 = .ok (.iconst 0, 1) := dk_3 (dk_at dksX10_sign_0 11 rfl rfl)
theorem dX10_sign_12 : decode cX10_sign 12 = .ok (.iconst 0, 1) := dk_3 (dk_at dksX10_sign_0 12 rfl rfl)
theorem dX10_sign_13 : decode cX10_sign 13 = .ok (.invokespecial 55, 3) := dk_183 0 55 (dk_at dksX10_sign_0 13 rfl rfl)
theorem dX10_sign_16 : decode cX10_sign 16 = .ok (.invokeinterface 58 2, 5) := by decide +kernel
theorem dX10_sign_21 : decode cX10_sign 21 = .ok (.pop, 1) := dk_87 (dk_at dksX10_sign_0 21 rfl rfl)
theorem dX10_sign_22 : decode cX10_sign 22 = .ok (.return_, 1) := dk_177 (dk_at dksX10_sign_0 22 rfl rfl)
theorem q123 : (Jvm.Cond.initialized "SharedSheet$Reader") ∈ lw_all := lw_g (lw_at lw_m1 38 rfl) rfl
theorem q275 : (Jvm.Cond.fieldLinkNest "SharedSheet$Reader" (84 : Nat) "SharedSheet$Line" "number" "I" "SharedSheet") ∈ lw_tbl := lw_at lw_m1 190 rfl
theorem q369 : (Jvm.Cond.selects "SharedSheet$Reader" ({ cls := "java/lang/Object", name := "getClass", desc := "()Ljava/lang/Class;" } : Jvm.MethodName) ({ cls := "java/lang/Object", name := "getClass", desc := "()Ljava/lang/Class;" } : Jvm.MethodName)) ∈ lw_all := lw_g (lw_at lw_m2 44 rfl) rfl
theorem q1625 : (Jvm.Cond.instantiable "SharedSheet$Reader" (5 : Nat)) ∈ lw_all := lw_g (lw_at lw_m7 100 rfl) rfl
theorem q1627 : (Jvm.Cond.instanceMethod ({ cls := "SharedSheet$Reader", name := "<init>", desc := "(Ljava/lang/CharSequence;LSharedSheet$Replica;)V" } : Jvm.MethodName)) ∈ lw_all := lw_g (lw_at lw_m7 102 rfl) rfl
theorem q1628 : (Jvm.Cond.code ({ cls := "SharedSheet$Reader", name := "<init>", desc := "(Ljava/lang/CharSequence;LSharedSheet$Replica;)V" } : Jvm.MethodName) prog_9_method_1_code (3 : Nat) (Option.none : Option Jvm.ClassFile.FieldType)) ∈ lw_all := lw_g (lw_at lw_m7 103 rfl) rfl
theorem q1629 : (Jvm.Cond.methodLink "SharedSheet$Reader" (3 : Nat) ({ cls := "java/lang/Object", name := "<init>", desc := "()V" } : Jvm.MethodName)) ∈ lw_all := lw_g (lw_at lw_m7 104 rfl) rfl
theorem q1630 : (Jvm.Cond.classLink "SharedSheet$Reader" (9 : Nat) "java/util/ArrayList") ∈ lw_all := lw_g (lw_at lw_m7 105 rfl) rfl
theorem q1631 : (Jvm.Cond.methodLink "SharedSheet$Reader" (11 : Nat) ({ cls := "java/util/ArrayList", name := "<init>", desc := "()V" } : Jvm.MethodName)) ∈ lw_all := lw_g (lw_at lw_m7 106 rfl) rfl
theorem q1632 : (Jvm.Cond.methodLink "SharedSheet$Reader" (22 : Nat) ({ cls := "SharedSheet$Replica", name := "shown", desc := "(I)Ljava/util/List;" } : Jvm.MethodName)) ∈ lw_all := lw_g (lw_at lw_m7 107 rfl) rfl
theorem q1633 : (Jvm.Cond.fieldLink "SharedSheet$Reader" (18 : Nat) "SharedSheet$Reader" "from" "Ljava/lang/CharSequence;") ∈ lw_all := lw_g (lw_at lw_m7 108 rfl) rfl
theorem q1634 : (Jvm.Cond.fieldLink "SharedSheet$Reader" (28 : Nat) "SharedSheet$Reader" "rows" "Ljava/util/List;") ∈ lw_all := lw_g (lw_at lw_m7 109 rfl) rfl
theorem q1635 : (Jvm.Cond.fieldLink "SharedSheet$Reader" (31 : Nat) "SharedSheet$Reader" "columns" "Ljava/util/List;") ∈ lw_all := lw_g (lw_at lw_m7 110 rfl) rfl
theorem q1636 : (Jvm.Cond.fieldLink "SharedSheet$Reader" (12 : Nat) "SharedSheet$Reader" "parts" "Ljava/util/List;") ∈ lw_all := lw_g (lw_at lw_m7 111 rfl) rfl
theorem q1637 : (Jvm.Cond.fieldLink "SharedSheet$Reader" (34 : Nat) "SharedSheet$Reader" "at" "I") ∈ lw_all := lw_g (lw_at lw_m7 112 rfl) rfl
theorem q1638 : (Jvm.Cond.laysFinal "SharedSheet$Reader" "SharedSheet$Reader" "from" "Ljava/lang/CharSequence;") ∈ lw_all := lw_g (lw_at lw_m7 113 rfl) rfl
theorem q1639 : (Jvm.Cond.soleField "SharedSheet$Reader" "from") ∈ lw_all := lw_g (lw_at lw_m7 114 rfl) rfl
theorem q1640 : (Jvm.Cond.laysFinal "SharedSheet$Reader" "SharedSheet$Reader" "rows" "Ljava/util/List;") ∈ lw_all := lw_g (lw_at lw_m7 115 rfl) rfl
theorem q1641 : (Jvm.Cond.soleField "SharedSheet$Reader" "rows") ∈ lw_all := lw_g (lw_at lw_m7 116 rfl) rfl
theorem q1642 : (Jvm.Cond.laysFinal "SharedSheet$Reader" "SharedSheet$Reader" "columns" "Ljava/util/List;") ∈ lw_all := lw_g (lw_at lw_m7 117 rfl) rfl
theorem q1643 : (Jvm.Cond.soleField "SharedSheet$Reader" "columns") ∈ lw_all := lw_g (lw_at lw_m7 118 rfl) rfl
theorem q1644 : (Jvm.Cond.laysFinal "SharedSheet$Reader" "SharedSheet$Reader" "parts" "Ljava/util/List;") ∈ lw_all := lw_g (lw_at lw_m7 119 rfl) rfl
theorem q1645 : (Jvm.Cond.soleField "SharedSheet$Reader" "parts") ∈ lw_all := lw_g (lw_at lw_m7 120 rfl) rfl
theorem q1646 : (Jvm.Cond.lays "SharedSheet$Reader" "SharedSheet$Reader" "at" "I") ∈ lw_all := lw_g (lw_at lw_m7 121 rfl) rfl
theorem q1647 : (Jvm.Cond.soleField "SharedSheet$Reader" "at") ∈ lw_all := lw_g (lw_at lw_m7 122 rfl) rfl
theorem q1648 : (Jvm.Cond.superclass "SharedSheet$Reader" "java/lang/Object") ∈ lw_all := lw_g (lw_at lw_m7 123 rfl) rfl
theorem q1650 : (Jvm.Cond.instanceMethod ({ cls := "SharedSheet$Reader", name := "formula", desc := "()Ljava/util/List;" } : Jvm.MethodName)) ∈ lw_all := lw_g (lw_at lw_m7 125 rfl) rfl
theorem q1651 : (Jvm.Cond.selects "SharedSheet$Reader" ({ cls := "SharedSheet$Reader", name := "formula", desc := "()Ljava/util/List;" } : Jvm.MethodName) ({ cls := "SharedSheet$Reader", name := "formula", desc := "()Ljava/util/List;" } : Jvm.MethodName)) ∈ lw_all := lw_g (lw_at lw_m7 126 rfl) rfl
theorem q1652 : (Jvm.Cond.code ({ cls := "SharedSheet$Reader", name := "formula", desc := "()Ljava/util/List;" } : Jvm.MethodName) prog_9_method_8_code (1 : Nat) (Option.some (Jvm.ClassFile.FieldType.object "java/util/List"))) ∈ lw_all := lw_g (lw_at lw_m7 127 rfl) rfl
theorem q1653 : (Jvm.Cond.methodLink "SharedSheet$Reader" (93 : Nat) ({ cls := "SharedSheet$Reader", name := "factor", desc := "()V" } : Jvm.MethodName)) ∈ lw_all := lw_g (lw_at lw_m7 128 rfl) rfl
theorem q1654 : (Jvm.Cond.privateMethod ({ cls := "SharedSheet$Reader", name := "factor", desc := "()V" } : Jvm.MethodName)) ∈ lw_tbl := lw_at lw_m7 129 rfl
theorem q1655 : (Jvm.Cond.instanceMethod ({ cls := "SharedSheet$Reader", name := "factor", desc := "()V" } : Jvm.MethodName)) ∈ lw_all := lw_g (lw_at lw_m7 130 rfl) rfl
theorem q1656 : (Jvm.Cond.code ({ cls := "SharedSheet$Reader", name := "factor", desc := "()V" } : Jvm.MethodName) prog_9_method_7_code (1 : Nat) (Option.none : Option Jvm.ClassFile.FieldType)) ∈ lw_all := lw_g (lw_at lw_m7 131 rfl) rfl
theorem q1657 : (Jvm.Cond.methodLink "SharedSheet$Reader" (64 : Nat) ({ cls := "SharedSheet$Reader", name := "next", desc := "()I" } : Jvm.MethodName)) ∈ lw_all := lw_g (lw_at lw_m7 132 rfl) rfl
theorem q1658 : (Jvm.Cond.privateMethod ({ cls := "SharedSheet$Reader", name := "next", desc := "()I" } : Jvm.MethodName)) ∈ lw_tbl := lw_at lw_m7 133 rfl
theorem q1659 : (Jvm.Cond.instanceMethod ({ cls := "SharedSheet$Reader", name := "next", desc := "()I" } : Jvm.MethodName)) ∈ lw_all := lw_g (lw_at lw_m7 134 rfl) rfl
theorem q1660 : (Jvm.Cond.code ({ cls := "SharedSheet$Reader", name := "next", desc := "()I" } : Jvm.MethodName) prog_9_method_2_code (1 : Nat) (Option.some Jvm.ClassFile.FieldType.int)) ∈ lw_all := lw_g (lw_at lw_m7 135 rfl) rfl
theorem q1661 : (Jvm.Cond.interfaceEntry "SharedSheet$Reader" (38 : Nat)) ∈ lw_tbl := lw_at lw_m7 136 rfl
theorem q1662 : (Jvm.Cond.methodLink "SharedSheet$Reader" (38 : Nat) ({ cls := "java/lang/CharSequence", name := "length", desc := "()I" } : Jvm.MethodName)) ∈ lw_all := lw_g (lw_at lw_m7 137 rfl) rfl
theorem q1673 : (Jvm.Cond.interfaceEntry "SharedSheet$Reader" (44 : Nat)) ∈ lw_tbl := lw_at lw_m7 148 rfl
theorem q1674 : (Jvm.Cond.methodLink "SharedSheet$Reader" (44 : Nat) ({ cls := "java/lang/CharSequence", name := "charAt", desc := "(I)C" } : Jvm.MethodName)) ∈ lw_all := lw_g (lw_at lw_m7 149 rfl) rfl
theorem q1700 : (Jvm.Cond.methodLink "SharedSheet$Reader" (74 : Nat) ({ cls := "SharedSheet$Reader", name := "take", desc := "(Z)I" } : Jvm.MethodName)) ∈ lw_all := lw_g (lw_at lw_m7 175 rfl) rfl
theorem q1701 : (Jvm.Cond.privateMethod ({ cls := "SharedSheet$Reader", name := "take", desc := "(Z)I" } : Jvm.MethodName)) ∈ lw_tbl := lw_at lw_m7 176 rfl
theorem q1702 : (Jvm.Cond.instanceMethod ({ cls := "SharedSheet$Reader", name := "take", desc := "(Z)I" } : Jvm.MethodName)) ∈ lw_all := lw_g (lw_at lw_m7 177 rfl) rfl
theorem q1703 : (Jvm.Cond.code ({ cls := "SharedSheet$Reader", name := "take", desc := "(Z)I" } : Jvm.MethodName) prog_9_method_3_code (2 : Nat) (Option.some Jvm.ClassFile.FieldType.int)) ∈ lw_all := lw_g (lw_at lw_m7 178 rfl) rfl
theorem q1704 : (Jvm.Cond.classLink "SharedSheet$Reader" (48 : Nat) "SharedSheet$Fault") ∈ lw_all := lw_g (lw_at lw_m7 179 rfl) rfl
theorem q1713 : (Jvm.Cond.methodLink "SharedSheet$Reader" (50 : Nat) ({ cls := "SharedSheet$Fault", name := "<init>", desc := "(I)V" } : Jvm.MethodName)) ∈ lw_all := lw_g (lw_at lw_m7 188 rfl) rfl
theorem q1724 : (Jvm.Cond.methodLink "SharedSheet$Reader" (87 : Nat) ({ cls := "SharedSheet$Reader", name := "cell", desc := "(C)V" } : Jvm.MethodName)) ∈ lw_all := lw_g (lw_at lw_m7 199 rfl) rfl
theorem q1725 : (Jvm.Cond.privateMethod ({ cls := "SharedSheet$Reader", name := "cell", desc := "(C)V" } : Jvm.MethodName)) ∈ lw_tbl := lw_at lw_m7 200 rfl
theorem q1726 : (Jvm.Cond.instanceMethod ({ cls := "SharedSheet$Reader", name := "cell", desc := "(C)V" } : Jvm.MethodName)) ∈ lw_all := lw_g (lw_at lw_m7 201 rfl) rfl
theorem q1727 : (Jvm.Cond.code ({ cls := "SharedSheet$Reader", name := "cell", desc := "(C)V" } : Jvm.MethodName) prog_9_method_5_code (4 : Nat) (Option.none : Option Jvm.ClassFile.FieldType)) ∈ lw_all := lw_g (lw_at lw_m7 202 rfl) rfl
theorem q1728 : (Jvm.Cond.interfaceEntry "SharedSheet$Reader" (67 : Nat)) ∈ lw_tbl := lw_at lw_m7 203 rfl
theorem q1729 : (Jvm.Cond.methodLink "SharedSheet$Reader" (67 : Nat) ({ cls := "java/util/List", name := "size", desc := "()I" } : Jvm.MethodName)) ∈ lw_all := lw_g (lw_at lw_m7 204 rfl) rfl
theorem q1730 : (Jvm.Cond.methodLinkNest "SharedSheet$Reader" (70 : Nat) ({ cls := "SharedSheet", name := "isIn", desc := "(III)Z" } : Jvm.MethodName) "SharedSheet") ∈ lw_tbl := lw_at lw_m7 205 rfl
theorem q1731 : (Jvm.Cond.classLink "SharedSheet$Reader" (53 : Nat) "SharedSheet$Part") ∈ lw_all := lw_g (lw_at lw_m7 206 rfl) rfl
theorem q1733 : (Jvm.Cond.interfaceEntry "SharedSheet$Reader" (78 : Nat)) ∈ lw_tbl := lw_at lw_m7 208 rfl
theorem q1734 : (Jvm.Cond.methodLink "SharedSheet$Reader" (78 : Nat) ({ cls := "java/util/List", name := "get", desc := "(I)Ljava/lang/Object;" } : Jvm.MethodName)) ∈ lw_all := lw_g (lw_at lw_m7 209 rfl) rfl
theorem q1735 : (Jvm.Cond.classLink "SharedSheet$Reader" (82 : Nat) "SharedSheet$Line") ∈ lw_all := lw_g (lw_at lw_m7 210 rfl) rfl
theorem q1736 : (Jvm.Cond.methodLink "SharedSheet$Reader" (55 : Nat) ({ cls := "SharedSheet$Part", name := "<init>", desc := "(CIII)V" } : Jvm.MethodName)) ∈ lw_all := lw_g (lw_at lw_m7 211 rfl) rfl
theorem q1761 : (Jvm.Cond.interfaceEntry "SharedSheet$Reader" (58 : Nat)) ∈ lw_tbl := lw_at lw_m7 236 rfl
theorem q1762 : (Jvm.Cond.methodLink "SharedSheet$Reader" (58 : Nat) ({ cls := "java/util/List", name := "add", desc := "(Ljava/lang/Object;)Z" } : Jvm.MethodName)) ∈ lw_all := lw_g (lw_at lw_m7 237 rfl) rfl
theorem q1763 : (Jvm.Cond.methodLink "SharedSheet$Reader" (91 : Nat) ({ cls := "SharedSheet$Reader", name := "number", desc := "()V" } : Jvm.MethodName)) ∈ lw_all := lw_g (lw_at lw_m7 238 rfl) rfl
theorem q1764 : (Jvm.Cond.privateMethod ({ cls := "SharedSheet$Reader", name := "number", desc := "()V" } : Jvm.MethodName)) ∈ lw_tbl := lw_at lw_m7 239 rfl
theorem q1765 : (Jvm.Cond.instanceMethod ({ cls := "SharedSheet$Reader", name := "number", desc := "()V" } : Jvm.MethodName)) ∈ lw_all := lw_g (lw_at lw_m8 0 rfl) rfl
theorem q1766 : (Jvm.Cond.code ({ cls := "SharedSheet$Reader", name := "number", desc := "()V" } : Jvm.MethodName) prog_9_method_6_code (3 : Nat) (Option.none : Option Jvm.ClassFile.FieldType)) ∈ lw_all := lw_g (lw_at lw_m8 1 rfl) rfl
theorem q1767 : (Jvm.Cond.methodLink "SharedSheet$Reader" (96 : Nat) ({ cls := "SharedSheet$Reader", name := "sign", desc := "(I)V" } : Jvm.MethodName)) ∈ lw_all := lw_g (lw_at lw_m8 2 rfl) rfl
theorem q1768 : (Jvm.Cond.privateMethod ({ cls := "SharedSheet$Reader", name := "sign", desc := "(I)V" } : Jvm.MethodName)) ∈ lw_tbl := lw_at lw_m8 3 rfl
theorem q1769 : (Jvm.Cond.instanceMethod ({ cls := "SharedSheet$Reader", name := "sign", desc := "(I)V" } : Jvm.MethodName)) ∈ lw_all := lw_g (lw_at lw_m8 4 rfl) rfl
theorem q1770 : (Jvm.Cond.code ({ cls := "SharedSheet$Reader", name := "sign", desc := "(I)V" } : Jvm.MethodName) prog_9_method_4_code (2 : Nat) (Option.none : Option Jvm.ClassFile.FieldType)) ∈ lw_all := lw_g (lw_at lw_m8 5 rfl) rfl
theorem q2415 : (Jvm.Cond.castable "SharedSheet$Reader" "java/lang/Object") ∈ lw_tbl := lw_at lw_m10 170 rfl
theorem in_X10 : ∀ w ∈ wsX100, w ∈ lw_all := lw_in wsX100 [1638, 1640, 1642, 1644, 1646] (by decide +kernel) (by decide +kernel)
/-! SharedSheet$Fault -/
set_option maxRecDepth 100000
def RX11 : String := "SharedSheet$Fault"
def TX11 : u_T := fun k => match k with
  | 0 => ("java/lang/Throwable", "cause", "Ljava/lang/Throwable;", false)
  | 1 => ("java/lang/Throwable", "stackTrace", "[Ljava/lang/StackTraceElement;", false)
  | 2 => ("java/lang/Throwable", "suppressedExceptions", "Ljava/util/List;", false)
  | 3 => ("java/lang/Throwable", "detailMessage", "Ljava/lang/String;", false)
  | 4 => ("java/lang/Throwable", "backtrace", "Ljava/lang/Object;", false)
  | 5 => ("java/lang/Throwable", "depth", "I", false)
  | _ => ("SharedSheet$Fault", "place", "I", true)
def tyX11 : Nat → FieldType := fun k => match k with
  | 0 => .object "java/lang/Throwable"
  | 1 => .array (.object "java/lang/StackTraceElement")
  | 2 => .object "java/util/List"
  | 3 => .object "java/lang/String"
  | 4 => .object "java/lang/Object"
  | 5 => .int
  | _ => .int
abbrev wsX110 : List Cond := u_ws RX11 TX11 7
theorem nmX11 : ∀ a, a < 7 → ∀ b, b < 7 → a ≠ b → (TX11 a).2.1 ≠ (TX11 b).2.1 := by decide +kernel
theorem tyX11_ok : ∀ k, k < 7 → parseFieldDescriptor (TX11 k).2.2.1 = some (tyX11 k) := by decide +kernel
abbrev cX11_init : ByteArray := prog_5_method_1_code
def yX11_init : MethodName := ⟨RX11, "<init>", "(I)V"⟩
def dkwX11_init_0 : List UInt8 := [42, 18, 1, 1, 3, 3, 183, 0, 3, 42, 27, 181, 0, 9, 177]
abbrev dktX11_init_0 : List UInt8 := dkwX11_init_0 ++ []
theorem dksX11_init_0 : cX11_init.data.toList.drop 0 = dktX11_init_0 := by decide +kernel
theorem dX11_init_0 : decode cX11_init 0 = .ok (.aload_n 0, 1) := dk_42 (dk_at dksX11_init_0 0 rfl rfl)
theorem dX11_init_1 : decode cX11_init 1 = .ok (.ldc 1, 2) := dk_18 1 (dk_at dksX11_init_0 1 rfl rfl)
theorem dX11_init_3 : decode cX11_init 3 = .ok (.aconst_null, 1) := dk_1 (dk_at dksX11_init_0 3 rfl rfl)
theorem dX11_init_4 : decode cX11_init 4 = .ok (.iconst 0, 1) := dk_3 (dk_at dksX11_init_0 4 rfl rfl)
theorem dX11_init_5 : decode cX11_init 5 = .ok (.iconst 0, 1) := dk_3 (dk_at dksX11_init_0 5 rfl rfl)
theorem dX11_init_6 : decode cX11_init 6 = .ok (.invokespecial 3, 3) := dk_183 0 3 (dk_at dksX11_init_0 6 rfl rfl)
theorem dX11_init_9 : decode cX11_init 9 = .ok (.aload_n 0, 1) := dk_42 (dk_at dksX11_init_0 9 rfl rfl)
theorem dX11_init_10 : decode cX11_init 10 = .ok (.iload_n 1, 1) := dk_27 (dk_at dksX11_init_0 10 rfl rfl)
theorem dX11_init_11 : decode cX11_init 11 = .ok (.putfield 9, 3) := dk_181 0 9 (dk_at dksX11_init_0 11 rfl rfl)
theorem dX11_init_14 : decode cX11_init 14 = .ok (.return_, 1) := dk_177 (dk_at dksX11_init_0 14 rfl rfl)
theorem q124 : (Jvm.Cond.initialized "SharedSheet$Fault") ∈ lw_all := lw_g (lw_at lw_m1 39 rfl) rfl
theorem q365 : (Jvm.Cond.selects "SharedSheet$Fault" ({ cls := "java/lang/Object", name := "getClass", desc := "()Ljava/lang/Class;" } : Jvm.MethodName) ({ cls := "java/lang/Object", name := "getClass", desc := "()Ljava/lang/Class;" } : Jvm.MethodName)) ∈ lw_all := lw_g (lw_at lw_m2 40 rfl) rfl
theorem q558 : (Jvm.Cond.selects "SharedSheet$Fault" ({ cls := "java/lang/Throwable", name := "fillInStackTrace", desc := "()Ljava/lang/Throwable;" } : Jvm.MethodName) ({ cls := "java/lang/Throwable", name := "fillInStackTrace", desc := "()Ljava/lang/Throwable;" } : Jvm.MethodName)) ∈ lw_all := lw_g (lw_at lw_m2 233 rfl) rfl
theorem q1705 : (Jvm.Cond.instantiable "SharedSheet$Fault" (7 : Nat)) ∈ lw_all := lw_g (lw_at lw_m7 180 rfl) rfl
theorem q1706 : (Jvm.Cond.castable "SharedSheet$Fault" "SharedSheet$Fault") ∈ lw_tbl := lw_at lw_m7 181 rfl
theorem q1707 : (Jvm.Cond.selects "SharedSheet$Fault" ({ cls := "java/lang/Throwable", name := "fillInStackTrace", desc := "(I)Ljava/lang/Throwable;" } : Jvm.MethodName) ({ cls := "java/lang/Throwable", name := "fillInStackTrace", desc := "(I)Ljava/lang/Throwable;" } : Jvm.MethodName)) ∈ lw_all := lw_g (lw_at lw_m7 182 rfl) rfl
theorem q1708 : (Jvm.Cond.lays "SharedSheet$Fault" "java/lang/Throwable" "cause" "Ljava/lang/Throwable;") ∈ lw_all := lw_g (lw_at lw_m7 183 rfl) rfl
theorem q1709 : (Jvm.Cond.lays "SharedSheet$Fault" "java/lang/Throwable" "stackTrace" "[Ljava/lang/StackTraceElement;") ∈ lw_all := lw_g (lw_at lw_m7 184 rfl) rfl
theorem q1710 : (Jvm.Cond.lays "SharedSheet$Fault" "java/lang/Throwable" "suppressedExceptions" "Ljava/util/List;") ∈ lw_all := lw_g (lw_at lw_m7 185 rfl) rfl
theorem q1711 : (Jvm.Cond.lays "SharedSheet$Fault" "java/lang/Throwable" "detailMessage" "Ljava/lang/String;") ∈ lw_all := lw_g (lw_at lw_m7 186 rfl) rfl
theorem q1712 : (Jvm.Cond.lays "SharedSheet$Fault" "java/lang/Throwable" "backtrace" "Ljava/lang/Object;") ∈ lw_all := lw_g (lw_at lw_m7 187 rfl) rfl
theorem q1714 : (Jvm.Cond.instanceMethod ({ cls := "SharedSheet$Fault", name := "<init>", desc := "(I)V" } : Jvm.MethodName)) ∈ lw_all := lw_g (lw_at lw_m7 189 rfl) rfl
theorem q1715 : (Jvm.Cond.code ({ cls := "SharedSheet$Fault", name := "<init>", desc := "(I)V" } : Jvm.MethodName) prog_5_method_1_code (2 : Nat) (Option.none : Option Jvm.ClassFile.FieldType)) ∈ lw_all := lw_g (lw_at lw_m7 190 rfl) rfl
theorem q1716 : (Jvm.Cond.stringRef "SharedSheet$Fault" (1 : Nat) "fault") ∈ lw_tbl := lw_at lw_m7 191 rfl
theorem q1717 : (Jvm.Cond.methodLink "SharedSheet$Fault" (3 : Nat) ({ cls := "java/lang/Exception", name := "<init>", desc := "(Ljava/lang/String;Ljava/lang/Throwable;ZZ)V" } : Jvm.MethodName)) ∈ lw_all := lw_g (lw_at lw_m7 192 rfl) rfl
theorem q1718 : (Jvm.Cond.fieldLink "SharedSheet$Fault" (9 : Nat) "SharedSheet$Fault" "place" "I") ∈ lw_all := lw_g (lw_at lw_m7 193 rfl) rfl
theorem q1720 : (Jvm.Cond.laysFinal "SharedSheet$Fault" "SharedSheet$Fault" "place" "I") ∈ lw_all := lw_g (lw_at lw_m7 195 rfl) rfl
theorem q1721 : (Jvm.Cond.soleField "SharedSheet$Fault" "place") ∈ lw_all := lw_g (lw_at lw_m7 196 rfl) rfl
theorem q1722 : (Jvm.Cond.lays "SharedSheet$Fault" "java/lang/Throwable" "depth" "I") ∈ lw_all := lw_g (lw_at lw_m7 197 rfl) rfl
theorem q1723 : (Jvm.Cond.superclass "SharedSheet$Fault" "java/lang/Exception") ∈ lw_all := lw_g (lw_at lw_m7 198 rfl) rfl
theorem q2416 : (Jvm.Cond.castable "SharedSheet$Fault" "java/lang/Object") ∈ lw_tbl := lw_at lw_m10 171 rfl
theorem in_X11 : ∀ w ∈ wsX110, w ∈ lw_all := lw_in wsX110 [1708, 1709, 1710, 1711, 1712, 1722, 1720] (by decide +kernel) (by decide +kernel)
/-! SharedSheet$Part -/
set_option maxRecDepth 100000
def RX12 : String := "SharedSheet$Part"
def TX12 : u_T := fun k => match k with
  | 0 => ("SharedSheet$Part", "kind", "C", true)
  | 1 => ("SharedSheet$Part", "number", "I", true)
  | 2 => ("SharedSheet$Part", "row", "I", true)
  | _ => ("SharedSheet$Part", "column", "I", true)
def tyX12 : Nat → FieldType := fun k => match k with
  | 0 => .char
  | 1 => .int
  | 2 => .int
  | _ => .int
abbrev wsX120 : List Cond := u_ws RX12 TX12 4
theorem nmX12 : ∀ a, a < 4 → ∀ b, b < 4 → a ≠ b → (TX12 a).2.1 ≠ (TX12 b).2.1 := by decide +kernel
theorem tyX12_ok : ∀ k, k < 4 → parseFieldDescriptor (TX12 k).2.2.1 = some (tyX12 k) := by decide +kernel
abbrev cX12_init : ByteArray := prog_8_method_1_code
def yX12_init : MethodName := ⟨RX12, "<init>", "(CIII)V"⟩
def dkwX12_init_1 : List UInt8 := [181, 0, 20, 177]
abbrev dktX12_init_1 : List UInt8 := dkwX12_init_1 ++ []
def dkwX12_init_0 : List UInt8 := [42, 183, 0, 1, 42, 27, 181, 0, 7, 42, 28, 181, 0, 13, 42, 29, 181, 0, 17, 42, 21, 4]
abbrev dktX12_init_0 : List UInt8 := dkwX12_init_0 ++ dktX12_init_1
theorem dksX12_init_0 : cX12_init.data.toList.drop 0 = dktX12_init_0 := by decide +kernel
theorem dksX12_init_1 : cX12_init.data.toList.drop 22 = dktX12_init_1 := dk_seg dksX12_init_0 22 rfl rfl
theorem dX12_init_0 : decode cX12_init 0 = .ok (.aload_n 0, 1) := dk_42 (dk_at dksX12_init_0 0 rfl rfl)
theorem dX12_init_1 : decode cX12_init 1 = .ok (.invokespecial 1, 3) := dk_183 0 1 (dk_at dksX12_init_0 1 rfl rfl)
theorem dX12_init_4 : decode cX12_init 4 = .ok (.aload_n 0, 1) := dk_42 (dk_at dksX12_init_0 4 rfl rfl)
theorem dX12_init_5 : decode cX12_init 5 = .ok (.iload_n 1, 1) := dk_27 (dk_at dksX12_init_0 5 rfl rfl)
theorem dX12_init_6 : decode cX12_init 6 = .ok (.putfield 7, 3) := dk_181 0 7 (dk_at dksX12_init_0 6 rfl rfl)
theorem dX12_init_9 : decode cX12_init 9 = .ok (.aload_n 0, 1) := dk_42 (dk_at dksX12_init_0 9 rfl rfl)
theorem dX12_init_10 : decode cX12_init 10 = .ok (.iload_n 2, 1) := dk_28 (dk_at dksX12_init_0 10 rfl rfl)
theorem dX12_init_11 : decode cX12_init 11 = .ok (.putfield 13, 3) := dk_181 0 13 (dk_at dksX12_init_0 11 rfl rfl)
theorem dX12_init_14 : decode cX12_init 14 = .ok (.aload_n 0, 1) := dk_42 (dk_at dksX12_init_0 14 rfl rfl)
theorem dX12_init_15 : decode cX12_init 15 = .ok (.iload_n 3, 1) := dk_29 (dk_at dksX12_init_0 15 rfl rfl)
theorem dX12_init_16 : decode cX12_init 16 = .ok (.putfield 17, 3) := dk_181 0 17 (dk_at dksX12_init_0 16 rfl rfl)
theorem dX12_init_19 : decode cX12_init 19 = .ok (.aload_n 0, 1) := dk_42 (dk_at dksX12_init_0 19 rfl rfl)
theorem dX12_init_20 : decode cX12_init 20 = .ok (.iload 4, 2) := dk_21 4 (dk_at dksX12_init_0 20 rfl rfl)
theorem dX12_init_22 : decode cX12_init 22 = .ok (.putfield 20, 3) := dk_181 0 20 (dk_at dksX12_init_1 0 rfl rfl)
theorem dX12_init_25 : decode cX12_init 25 = .ok (.return_, 1) := dk_177 (dk_at dksX12_init_1 3 rfl rfl)
theorem q125 : (Jvm.Cond.initialized "SharedSheet$Part") ∈ lw_all := lw_g (lw_at lw_m1 40 rfl) rfl
theorem q368 : (Jvm.Cond.selects "SharedSheet$Part" ({ cls := "java/lang/Object", name := "getClass", desc := "()Ljava/lang/Class;" } : Jvm.MethodName) ({ cls := "java/lang/Object", name := "getClass", desc := "()Ljava/lang/Class;" } : Jvm.MethodName)) ∈ lw_all := lw_g (lw_at lw_m2 43 rfl) rfl
theorem q1732 : (Jvm.Cond.instantiable "SharedSheet$Part" (4 : Nat)) ∈ lw_all := lw_g (lw_at lw_m7 207 rfl) rfl
theorem q1737 : (Jvm.Cond.instanceMethod ({ cls := "SharedSheet$Part", name := "<init>", desc := "(CIII)V" } : Jvm.MethodName)) ∈ lw_all := lw_g (lw_at lw_m7 212 rfl) rfl
theorem q1738 : (Jvm.Cond.code ({ cls := "SharedSheet$Part", name := "<init>", desc := "(CIII)V" } : Jvm.MethodName) prog_8_method_1_code (5 : Nat) (Option.none : Option Jvm.ClassFile.FieldType)) ∈ lw_all := lw_g (lw_at lw_m7 213 rfl) rfl
theorem q1739 : (Jvm.Cond.methodLink "SharedSheet$Part" (1 : Nat) ({ cls := "java/lang/Object", name := "<init>", desc := "()V" } : Jvm.MethodName)) ∈ lw_all := lw_g (lw_at lw_m7 214 rfl) rfl
theorem q1740 : (Jvm.Cond.fieldLink "SharedSheet$Part" (7 : Nat) "SharedSheet$Part" "kind" "C") ∈ lw_all := lw_g (lw_at lw_m7 215 rfl) rfl
theorem q1743 : (Jvm.Cond.fieldLink "SharedSheet$Part" (13 : Nat) "SharedSheet$Part" "number" "I") ∈ lw_all := lw_g (lw_at lw_m7 218 rfl) rfl
theorem q1746 : (Jvm.Cond.fieldLink "SharedSheet$Part" (17 : Nat) "SharedSheet$Part" "row" "I") ∈ lw_all := lw_g (lw_at lw_m7 221 rfl) rfl
theorem q1749 : (Jvm.Cond.fieldLink "SharedSheet$Part" (20 : Nat) "SharedSheet$Part" "column" "I") ∈ lw_all := lw_g (lw_at lw_m7 224 rfl) rfl
theorem q1752 : (Jvm.Cond.laysFinal "SharedSheet$Part" "SharedSheet$Part" "kind" "C") ∈ lw_all := lw_g (lw_at lw_m7 227 rfl) rfl
theorem q1753 : (Jvm.Cond.soleField "SharedSheet$Part" "kind") ∈ lw_all := lw_g (lw_at lw_m7 228 rfl) rfl
theorem q1754 : (Jvm.Cond.laysFinal "SharedSheet$Part" "SharedSheet$Part" "number" "I") ∈ lw_all := lw_g (lw_at lw_m7 229 rfl) rfl
theorem q1755 : (Jvm.Cond.soleField "SharedSheet$Part" "number") ∈ lw_all := lw_g (lw_at lw_m7 230 rfl) rfl
theorem q1756 : (Jvm.Cond.laysFinal "SharedSheet$Part" "SharedSheet$Part" "row" "I") ∈ lw_all := lw_g (lw_at lw_m7 231 rfl) rfl
theorem q1757 : (Jvm.Cond.soleField "SharedSheet$Part" "row") ∈ lw_all := lw_g (lw_at lw_m7 232 rfl) rfl
theorem q1758 : (Jvm.Cond.laysFinal "SharedSheet$Part" "SharedSheet$Part" "column" "I") ∈ lw_all := lw_g (lw_at lw_m7 233 rfl) rfl
theorem q1759 : (Jvm.Cond.soleField "SharedSheet$Part" "column") ∈ lw_all := lw_g (lw_at lw_m7 234 rfl) rfl
theorem q1760 : (Jvm.Cond.superclass "SharedSheet$Part" "java/lang/Object") ∈ lw_all := lw_g (lw_at lw_m7 235 rfl) rfl
theorem q2417 : (Jvm.Cond.castable "SharedSheet$Part" "java/lang/Object") ∈ lw_tbl := lw_at lw_m10 172 rfl
theorem in_X12 : ∀ w ∈ wsX120, w ∈ lw_all := lw_in wsX120 [1752, 1754, 1756, 1758] (by decide +kernel) (by decide +kernel)
/-! SharedSheet$Calculation -/
set_option maxRecDepth 100000
def RX13 : String := "SharedSheet$Calculation"
def TX13 : u_T := fun k => match k with
  | 0 => ("SharedSheet$Calculation", "view", "LSharedSheet$View;", true)
  | 1 => ("SharedSheet$Calculation", "parts", "Ljava/util/List;", true)
  | _ => ("SharedSheet$Calculation", "at", "I", false)
def tyX13 : Nat → FieldType := fun k => match k with
  | 0 => .object "SharedSheet$View"
  | 1 => .object "java/util/List"
  | _ => .int
abbrev wsX130 : List Cond := u_ws RX13 TX13 3
theorem nmX13 : ∀ a, a < 3 → ∀ b, b < 3 → a ≠ b → (TX13 a).2.1 ≠ (TX13 b).2.1 := by decide +kernel
theorem tyX13_ok : ∀ k, k < 3 → parseFieldDescriptor (TX13 k).2.2.1 = some (tyX13 k) := by decide +kernel
abbrev cX13_init : ByteArray := prog_2_method_1_code
def yX13_init : MethodName := ⟨RX13, "<init>", "(LSharedSheet$View;Ljava/util/List;)V"⟩
def dkwX13_init_0 : List UInt8 := [42, 183, 0, 1, 42, 43, 181, 0, 7, 42, 44, 181, 0, 13, 177]
abbrev dktX13_init_0 : List UInt8 := dkwX13_init_0 ++ []
theorem dksX13_init_0 : cX13_init.data.toList.drop 0 = dktX13_init_0 := by decide +kernel
theorem dX13_init_0 : decode cX13_init 0 = .ok (.aload_n 0, 1) := dk_42 (dk_at dksX13_init_0 0 rfl rfl)
theorem dX13_init_1 : decode cX13_init 1 = .ok (.invokespecial 1, 3) := dk_183 0 1 (dk_at dksX13_init_0 1 rfl rfl)
theorem dX13_init_4 : decode cX13_init 4 = .ok (.aload_n 0, 1) := dk_42 (dk_at dksX13_init_0 4 rfl rfl)
theorem dX13_init_5 : decode cX13_init 5 = .ok (.aload_n 1, 1) := dk_43 (dk_at dksX13_init_0 5 rfl rfl)
theorem dX13_init_6 : decode cX13_init 6 = .ok (.putfield 7, 3) := dk_181 0 7 (dk_at dksX13_init_0 6 rfl rfl)
theorem dX13_init_9 : decode cX13_init 9 = .ok (.aload_n 0, 1) := dk_42 (dk_at dksX13_init_0 9 rfl rfl)
theorem dX13_init_10 : decode cX13_init 10 = .ok (.aload_n 2, 1) := dk_44 (dk_at dksX13_init_0 10 rfl rfl)
theorem dX13_init_11 : decode cX13_init 11 = .ok (.putfield 13, 3) := dk_181 0 13 (dk_at dksX13_init_0 11 rfl rfl)
theorem dX13_init_14 : decode cX13_init 14 = .ok (.return_, 1) := dk_177 (dk_at dksX13_init_0 14 rfl rfl)
abbrev cX13_sum : ByteArray := prog_2_method_5_code
def yX13_sum : MethodName := ⟨RX13, "sum", "()J"⟩
def dkwX13_sum_2 : List UInt8 := [153, 0, 10, 31, 22, 4, 101, 167, 0, 7, 31, 22, 4, 97, 184, 0, 68, 64, 167, 255, 196, 31, 173]
abbrev dktX13_sum_2 : List UInt8 := dkwX13_sum_2 ++ []
def dkwX13_sum_1 : List UInt8 := [16, 45, 182, 0, 64, 62, 42, 89, 180, 0, 17, 4, 96, 181, 0, 17, 42, 182, 0, 72, 55, 4, 29]
abbrev dktX13_sum_1 : List UInt8 := dkwX13_sum_1 ++ dktX13_sum_2
def dkwX13_sum_0 : List UInt8 := [42, 182, 0, 72, 64, 42, 16, 43, 182, 0, 64, 154, 0, 12, 42, 16, 45, 182, 0, 64, 153, 0, 48, 42]
abbrev dktX13_sum_0 : List UInt8 := dkwX13_sum_0 ++ dktX13_sum_1
theorem dksX13_sum_0 : cX13_sum.data.toList.drop 0 = dktX13_sum_0 := by decide +kernel
theorem dksX13_sum_1 : cX13_sum.data.toList.drop 24 = dktX13_sum_1 := dk_seg dksX13_sum_0 24 rfl rfl
theorem dksX13_sum_2 : cX13_sum.data.toList.drop 47 = dktX13_sum_2 := dk_seg dksX13_sum_1 23 rfl rfl
theorem dX13_sum_0 : decode cX13_sum 0 = .ok (.aload_n 0, 1) := dk_42 (dk_at dksX13_sum_0 0 rfl rfl)
theorem dX13_sum_1 : decode cX13_sum 1 = .ok (.invokevirtual 72, 3) := dk_182 0 72 (dk_at dksX13_sum_0 1 rfl rfl)
theorem dX13_sum_4 : decode cX13_sum 4 = .ok (.lstore_n 1, 1) := dk_64 (dk_at dksX13_sum_0 4 rfl rfl)
theorem dX13_sum_5 : decode cX13_sum 5 = .ok (.aload_n 0, 1) := dk_42 (dk_at dksX13_sum_0 5 rfl rfl)
theorem dX13_sum_6 : decode cX13_sum 6 = .ok (.bipush 43, 2) := dk_16 43 (dk_at dksX13_sum_0 6 rfl rfl)
theorem dX13_sum_8 : decode cX13_sum 8 = .ok (.invokevirtual 64, 3) := dk_182 0 64 (dk_at dksX13_sum_0 8 rfl rfl)
theorem dX13_sum_11 : decode cX13_sum 11 = .ok (.ifCond .ne 12, 3) := dk_154 0 12 (dk_at dksX13_sum_0 11 rfl rfl)
theorem dX13_sum_14 : decode cX13_sum 14 = .ok (.aload_n 0, 1) := dk_42 (dk_at dksX13_sum_0 14 rfl rfl)
theorem dX13_sum_15 : decode cX13_sum 15 = .ok (.bipush 45, 2) := dk_16 45 (dk_at dksX13_sum_0 15 rfl rfl)
theorem dX13_sum_17 : decode cX13_sum 17 = .ok (.invokevirtual 64, 3) := dk_182 0 64 (dk_at dksX13_sum_0 17 rfl rfl)
theorem dX13_sum_20 : decode cX13_sum 20 = .ok (.ifCond .eq 48, 3) := dk_153 0 48 (dk_at dksX13_sum_0 20 rfl rfl)
theorem dX13_sum_23 : decode cX13_sum 23 = .ok (.aload_n 0, 1) := dk_42 (dk_at dksX13_sum_0 23 rfl rfl)
theorem dX13_sum_24 : decode cX13_sum 24 = .ok (.bipush 45, 2) := dk_16 45 (dk_at dksX13_sum_1 0 rfl rfl)
theorem dX13_sum_26 : decode cX13_sum 26 = .ok (.invokevirtual 64, 3) := dk_182 0 64 (dk_at dksX13_sum_1 2 rfl rfl)
theorem dX13_sum_29 : decode cX13_sum 29 = .ok (.istore_n 3, 1) := dk_62 (dk_at dksX13_sum_1 5 rfl rfl)
theorem dX13_sum_30 : decode cX13_sum 30 = .ok (.aload_n 0, 1) := dk_42 (dk_at dksX13_sum_1 6 rfl rfl)
theorem dX13_sum_31 : decode cX13_sum 31 = .ok (.dup, 1) := dk_89 (dk_at dksX13_sum_1 7 rfl rfl)
theorem dX13_sum_32 : decode cX13_sum 32 = .ok (.getfield 17, 3) := dk_180 0 17 (dk_at dksX13_sum_1 8 rfl rfl)
theorem dX13_sum_35 : decode cX13_sum 35 = .ok (.iconst 1, 1) := dk_4 (dk_at dksX13_sum_1 11 rfl rfl)
theorem dX13_sum_36 : decode cX13_sum 36 = .ok (.iadd, 1) := dk_96 (dk_at dksX13_sum_1 12 rfl rfl)
theorem dX13_sum_37 : decode cX13_sum 37 = .ok (.putfield 17, 3) := dk_181 0 17 (dk_at dksX13_sum_1 13 rfl rfl)
theorem dX13_sum_40 : decode cX13_sum 40 = .ok (.aload_n 0, 1) := dk_42 (dk_at dksX13_sum_1 16 rfl rfl)
theorem dX13_sum_41 : decode cX13_sum 41 = .ok (.invokevirtual 72, 3) := dk_182 0 72 (dk_at dksX13_sum_1 17 rfl rfl)
theorem dX13_sum_44 : decode cX13_sum 44 = .ok (.lstore 4, 2) := dk_55 4 (dk_at dksX13_sum_1 20 rfl rfl)
theorem dX13_sum_46 : decode cX13_sum 46 = .ok (.iload_n 3, 1) := dk_29 (dk_at dksX13_sum_1 22 rfl rfl)
theorem dX13_sum_47 : decode cX13_sum 47 = .ok (.ifCond .eq 10, 3) := dk_153 0 10 (dk_at dksX13_sum_2 0 rfl rfl)
theorem dX13_sum_50 : decode cX13_sum 50 = .ok (.lload_n 1, 1) := dk_31 (dk_at dksX13_sum_2 3 rfl rfl)
theorem dX13_sum_51 : decode cX13_sum 51 = .ok (.lload 4, 2) := dk_22 4 (dk_at dksX13_sum_2 4 rfl rfl)
theorem dX13_sum_53 : decode cX13_sum 53 = .ok (.lsub, 1) := dk_101 (dk_at dksX13_sum_2 6 rfl rfl)
theorem dX13_sum_54 : decode cX13_sum 54 = .ok (.goto 7, 3) := dk_167 0 7 (dk_at dksX13_sum_2 7 rfl rfl)
theorem dX13_sum_57 : decode cX13_sum 57 = .ok (.lload_n 1, 1) := dk_31 (dk_at dksX13_sum_2 10 rfl rfl)
theorem dX13_sum_58 : decode cX13_sum 58 = .ok (.lload 4, 2) := dk_22 4 (dk_at dksX13_sum_2 11 rfl rfl)
theorem dX13_sum_60 : decode cX13_sum 60 = .ok (.ladd, 1) := dk_97 (dk_at dksX13_sum_2 13 rfl rfl)
theorem dX13_sum_61 : decode cX13_sum 61 = .ok (.invokestatic 68, 3) := dk_184 0 68 (dk_at dksX13_sum_2 14 rfl rfl)
theorem dX13_sum_64 : decode cX13_sum 64 = .ok (.lstore_n 1, 1) := dk_64 (dk_at dksX13_sum_2 17 rfl rfl)
theorem dX13_sum_65 : decode cX13_sum 65 = .ok (.goto (-60), 3) := dk_167 255 196 (dk_at dksX13_sum_2 18 rfl rfl)
theorem dX13_sum_68 : decode cX13_sum 68 = .ok (.lload_n 1, 1) := dk_31 (dk_at dksX13_sum_2 21 rfl rfl)
theorem dX13_sum_69 : decode cX13_sum 69 = .ok (.lreturn, 1) := dk_173 (dk_at dksX13_sum_2 22 rfl rfl)
abbrev cX13_product : ByteArray := prog_2_method_4_code
def yX13_product : MethodName := ⟨RX13, "product", "()J"⟩
def dkwX13_product_1 : List UInt8 := [31, 42, 182, 0, 60, 105, 184, 0, 68, 64, 167, 255, 227, 31, 173]
abbrev dktX13_product_1 : List UInt8 := dkwX13_product_1 ++ []
def dkwX13_product_0 : List UInt8 := [42, 182, 0, 60, 64, 42, 16, 42, 182, 0, 64, 153, 0, 26, 42, 89, 180, 0, 17, 4, 96, 181, 0, 17]
abbrev dktX13_product_0 : List UInt8 := dkwX13_product_0 ++ dktX13_product_1
theorem dksX13_product_0 : cX13_product.data.toList.drop 0 = dktX13_product_0 := by decide +kernel
theorem dksX13_product_1 : cX13_product.data.toList.drop 24 = dktX13_product_1 := dk_seg dksX13_product_0 24 rfl rfl
theorem dX13_product_0 : decode cX13_product 0 = .ok (.aload_n 0, 1) := dk_42 (dk_at dksX13_product_0 0 rfl rfl)
theorem dX13_product_1 : decode cX13_product 1 = .ok (.invokevirtual 60, 3) := dk_182 0 60 (dk_at dksX13_product_0 1 rfl rfl)
theorem dX13_product_4 : decode cX13_product 4 = .ok (.lstore_n 1, 1) := dk_64 (dk_at dksX13_product_0 4 rfl rfl)
theorem dX13_product_5 : decode cX13_product 5 = .ok (.aload_n 0, 1) := dk_42 (dk_at dksX13_product_0 5 rfl rfl)
theorem dX13_product_6 : decode cX13_product 6 = .ok (.bipush 42, 2) := dk_16 42 (dk_at dksX13_product_0 6 rfl rfl)
theorem dX13_product_8 : decode cX13_product 8 = .ok (.invokevirtual 64, 3) := dk_182 0 64 (dk_at dksX13_product_0 8 rfl rfl)
theorem dX13_product_11 : decode cX13_product 11 = .ok (.ifCond .eq 26, 3) := dk_153 0 26 (dk_at dksX13_product_0 11 rfl rfl)
theorem dX13_product_14 : decode cX13_product 14 = .ok (.aload_n 0, 1) := dk_42 (dk_at dksX13_product_0 14 rfl rfl)
theorem dX13_product_15 : decode cX13_product 15 = .ok (.dup, 1) := dk_89 (dk_at dksX13_product_0 15 rfl rfl)
theorem dX13_product_16 : decode cX13_product 16 = .ok (.getfield 17, 3) := dk_180 0 17 (dk_at dksX13_product_0 16 rfl rfl)
theorem dX13_product_19 : decode cX13_product 19 = .ok (.iconst 1, 1) := dk_4 (dk_at dksX13_product_0 19 rfl rfl)
theorem dX13_product_20 : decode cX13_product 20 = .ok (.iadd, 1) := dk_96 (dk_at dksX13_product_0 20 rfl rfl)
theorem dX13_product_21 : decode cX13_product 21 = .ok (.putfield 17, 3) := dk_181 0 17 (dk_at dksX13_product_0 21 rfl rfl)
theorem dX13_product_24 : decode cX13_product 24 = .ok (.lload_n 1, 1) := dk_31 (dk_at dksX13_product_1 0 rfl rfl)
theorem dX13_product_25 : decode cX13_product 25 = .ok (.aload_n 0, 1) := dk_42 (dk_at dksX13_product_1 1 rfl rfl)
theorem dX13_product_26 : decode cX13_product 26 = .ok (.invokevirtual 60, 3) := dk_182 0 60 (dk_at dksX13_product_1 2 rfl rfl)
theorem dX13_product_29 : decode cX13_product 29 = .ok (.lmul, 1) := dk_105 (dk_at dksX13_product_1 5 rfl rfl)
theorem dX13_product_30 : decode cX13_product 30 = .ok (.invokestatic 68, 3) := dk_184 0 68 (dk_at dksX13_product_1 6 rfl rfl)
theorem dX13_product_33 : decode cX13_product 33 = .ok (.lstore_n 1, 1) := dk_64 (dk_at dksX13_product_1 9 rfl rfl)
theorem dX13_product_34 : decode cX13_product 34 = .ok (.goto (-29), 3) := dk_167 255 227 (dk_at dksX13_product_1 10 rfl rfl)
theorem dX13_product_37 : decode cX13_product 37 = .ok (.lload_n 1, 1) := dk_31 (dk_at dksX13_product_1 13 rfl rfl)
theorem dX13_product_38 : decode cX13_product 38 = .ok (.lreturn, 1) := dk_173 (dk_at dksX13_product_1 14 rfl rfl)
abbrev cX13_factor : ByteArray := prog_2_method_3_code
def yX13_factor : MethodName := ⟨RX13, "factor", "()J"⟩
def dkwX13_factor_5 : List UInt8 := [180, 0, 43, 182, 0, 46, 182, 0, 56, 173]
abbrev dktX13_factor_5 : List UInt8 := dkwX13_factor_5 ++ []
def dkwX13_factor_4 : List UInt8 := [180, 0, 17, 4, 96, 181, 0, 17, 42, 180, 0, 7, 28, 42, 180, 0, 7, 45, 180, 0, 40, 45]
abbrev dktX13_factor_4 : List UInt8 := dkwX13_factor_4 ++ dktX13_factor_5
def dkwX13_factor_3 : List UInt8 := [28, 182, 0, 52, 173, 42, 180, 0, 13, 42, 180, 0, 17, 185, 0, 27, 2, 0, 192, 0, 31, 78, 42, 89]
abbrev dktX13_factor_3 : List UInt8 := dkwX13_factor_3 ++ dktX13_factor_4
def dkwX13_factor_2 : List UInt8 := [180, 0, 40, 43, 180, 0, 43, 182, 0, 46, 61, 43, 180, 0, 33, 16, 64, 160, 0, 12, 42, 180, 0, 7]
abbrev dktX13_factor_2 : List UInt8 := dkwX13_factor_2 ++ dktX13_factor_3
def dkwX13_factor_1 : List UInt8 := [181, 0, 17, 43, 180, 0, 33, 16, 35, 160, 0, 9, 43, 180, 0, 37, 133, 173, 42, 180, 0, 7, 43]
abbrev dktX13_factor_1 : List UInt8 := dkwX13_factor_1 ++ dktX13_factor_2
def dkwX13_factor_0 : List UInt8 := [42, 180, 0, 13, 42, 180, 0, 17, 185, 0, 27, 2, 0, 192, 0, 31, 76, 42, 89, 180, 0, 17, 4, 96]
abbrev dktX13_factor_0 : List UInt8 := dkwX13_factor_0 ++ dktX13_factor_1
theorem dksX13_factor_0 : cX13_factor.data.toList.drop 0 = dktX13_factor_0 := by decide +kernel
theorem dksX13_factor_1 : cX13_factor.data.toList.drop 24 = dktX13_factor_1 := dk_seg dksX13_factor_0 24 rfl rfl
theorem dksX13_factor_2 : cX13_factor.data.toList.drop 47 = dktX13_factor_2 := dk_seg dksX13_factor_1 23 rfl rfl
theorem dksX13_factor_3 : cX13_factor.data.toList.drop 71 = dktX13_factor_3 := dk_seg dksX13_factor_2 24 rfl rfl
theorem dksX13_factor_4 : cX13_factor.data.toList.drop 95 = dktX13_factor_4 := dk_seg dksX13_factor_3 24 rfl rfl
theorem dksX13_factor_5 : cX13_factor.data.toList.drop 117 = dktX13_factor_5 := dk_seg dksX13_factor_4 22 rfl rfl
theorem dX13_factor_0 : decode cX13_factor 0 = .ok (.aload_n 0, 1) := dk_42 (dk_at dksX13_factor_0 0 rfl rfl)
theorem dX13_factor_1 : decode cX13_factor 1 = .ok (.getfield 13, 3) := dk_180 0 13 (dk_at dksX13_factor_0 1 rfl rfl)
theorem dX13_factor_4 : decode cX13_factor 4 = .ok (.aload_n 0, 1) := dk_42 (dk_at dksX13_factor_0 4 rfl rfl)
theorem dX13_factor_5 : decode cX13_factor 5 = .ok (.getfield 17, 3) := dk_180 0 17 (dk_at dksX13_factor_0 5 rfl rfl)
theorem dX13_factor_8 : decode cX13_factor 8 = .ok (.invokeinterface 27 2, 5) := by decide +kernel
theorem dX13_factor_13 : decode cX13_factor 13 = .ok (.checkcast 31, 3) := dk_192 0 31 (dk_at dksX13_factor_0 13 rfl rfl)
theorem dX13_factor_16 : decode cX13_factor 16 = .ok (.astore_n 1, 1) := dk_76 (dk_at dksX13_factor_0 16 rfl rfl)
theorem dX13_factor_17 : decode cX13_factor 17 = .ok (.aload_n 0, 1) := dk_42 (dk_at dksX13_factor_0 17 rfl rfl)
theorem dX13_factor_18 : decode cX13_factor 18 = .ok (.dup, 1) := dk_89 (dk_at dksX13_factor_0 18 rfl rfl)
theorem dX13_factor_19 : decode cX13_factor 19 = .ok (.getfield 17, 3) := dk_180 0 17 (dk_at dksX13_factor_0 19 rfl rfl)
theorem dX13_factor_22 : decode cX13_factor 22 = .ok (.iconst 1, 1) := dk_4 (dk_at dksX13_factor_0 22 rfl rfl)
theorem dX13_factor_23 : decode cX13_factor 23 = .ok (.iadd, 1) := dk_96 (dk_at dksX13_factor_0 23 rfl rfl)
theorem dX13_factor_24 : decode cX13_factor 24 = .ok (.putfield 17, 3) := dk_181 0 17 (dk_at dksX13_factor_1 0 rfl rfl)
theorem dX13_factor_27 : decode cX13_factor 27 = .ok (.aload_n 1, 1) := dk_43 (dk_at dksX13_factor_1 3 rfl rfl)
theorem dX13_factor_28 : decode cX13_factor 28 = .ok (.getfield 33, 3) := dk_180 0 33 (dk_at dksX13_factor_1 4 rfl rfl)
theorem dX13_factor_31 : decode cX13_factor 31 = .ok (.bipush 35, 2) := dk_16 35 (dk_at dksX13_factor_1 7 rfl rfl)
theorem dX13_factor_33 : decode cX13_factor 33 = .ok (.if_icmp .ne 9, 3) := dk_160 0 9 (dk_at dksX13_factor_1 9 rfl rfl)
theorem dX13_factor_36 : decode cX13_factor 36 = .ok (.aload_n 1, 1) := dk_43 (dk_at dksX13_factor_1 12 rfl rfl)
theorem dX13_factor_37 : decode cX13_factor 37 = .ok (.getfield 37, 3) := dk_180 0 37 (dk_at dksX13_factor_1 13 rfl rfl)
theorem dX13_factor_40 : decode cX13_factor 40 = .ok (.i2l, 1) := dk_133 (dk_at dksX13_factor_1 16 rfl rfl)
theorem dX13_factor_41 : decode cX13_factor 41 = .ok (.lreturn, 1) := dk_173 (dk_at dksX13_factor_1 17 rfl rfl)
theorem dX13_factor_42 : decode cX13_factor 42 = .ok (.aload_n 0, 1) := dk_42 (dk_at dksX13_factor_1 18 rfl rfl)
theorem dX13_factor_43 : decode cX13_factor 43 = .ok (.getfield 7, 3) := dk_180 0 7 (dk_at dksX13_factor_1 19 rfl rfl)
theorem dX13_factor_46 : decode cX13_factor 46 = .ok (.aload_n 1, 1) := dk_43 (dk_at dksX13_factor_1 22 rfl rfl)
theorem dX13_factor_47 : decode cX13_factor 47 = .ok (.getfield 40, 3) := dk_180 0 40 (dk_at dksX13_factor_2 0 rfl rfl)
theorem dX13_factor_50 : decode cX13_factor 50 = .ok (.aload_n 1, 1) := dk_43 (dk_at dksX13_factor_2 3 rfl rfl)
theorem dX13_factor_51 : decode cX13_factor 51 = .ok (.getfield 43, 3) := dk_180 0 43 (dk_at dksX13_factor_2 4 rfl rfl)
theorem dX13_factor_54 : decode cX13_factor 54 = .ok (.invokevirtual 46, 3) := dk_182 0 46 (dk_at dksX13_factor_2 7 rfl rfl)
theorem dX13_factor_57 : decode cX13_factor 57 = .ok (.istore_n 2, 1) := dk_61 (dk_at dksX13_factor_2 10 rfl rfl)
theorem dX13_factor_58 : decode cX13_factor 58 = .ok (.aload_n 1, 1) := dk_43 (dk_at dksX13_factor_2 11 rfl rfl)
theorem dX13_factor_59 : decode cX13_factor 59 = .ok (.getfield 33, 3) := dk_180 0 33 (dk_at dksX13_factor_2 12 rfl rfl)
theorem dX13_factor_62 : decode cX13_factor 62 = .ok (.bipush 64, 2) := dk_16 64 (dk_at dksX13_factor_2 15 rfl rfl)
theorem dX13_factor_64 : decode cX13_factor 64 = .ok (.if_icmp .ne 12, 3) := dk_160 0 12 (dk_at dksX13_factor_2 17 rfl rfl)
theorem dX13_factor_67 : decode cX13_factor 67 = .ok (.aload_n 0, 1) := dk_42 (dk_at dksX13_factor_2 20 rfl rfl)
theorem dX13_factor_68 : decode cX13_factor 68 = .ok (.getfield 7, 3) := dk_180 0 7 (dk_at dksX13_factor_2 21 rfl rfl)
theorem dX13_factor_71 : decode cX13_factor 71 = .ok (.iload_n 2, 1) := dk_28 (dk_at dksX13_factor_3 0 rfl rfl)
theorem dX13_factor_72 : decode cX13_factor 72 = .ok (.invokevirtual 52, 3) := dk_182 0 52 (dk_at dksX13_factor_3 1 rfl rfl)
theorem dX13_factor_75 : decode cX13_factor 75 = .ok (.lreturn, 1) := dk_173 (dk_at dksX13_factor_3 4 rfl rfl)
theorem dX13_factor_76 : decode cX13_factor 76 = .ok (.aload_n 0, 1) := dk_42 (dk_at dksX13_factor_3 5 rfl rfl)
theorem dX13_factor_77 : decode cX13_factor 77 = .ok (.getfield 13, 3) := dk_180 0 13 (dk_at dksX13_factor_3 6 rfl rfl)
theorem dX13_factor_80 : decode cX13_factor 80 = .ok (.aload_n 0, 1) := dk_42 (dk_at dksX13_factor_3 9 rfl rfl)
theorem dX13_factor_81 : decode cX13_factor 81 = .ok (.getfield 17, 3) := dk_180 0 17 (dk_at dksX13_factor_3 10 rfl rfl)
theorem dX13_factor_84 : decode cX13_factor 84 = .ok (.invokeinterface 27 2, 5) := by decide +kernel
theorem dX13_factor_89 : decode cX13_factor 89 = .ok (.checkcast 31, 3) := dk_192 0 31 (dk_at dksX13_factor_3 18 rfl rfl)
theorem dX13_factor_92 : decode cX13_factor 92 = .ok (.astore_n 3, 1) := dk_78 (dk_at dksX13_factor_3 21 rfl rfl)
theorem dX13_factor_93 : decode cX13_factor 93 = .ok (.aload_n 0, 1) := dk_42 (dk_at dksX13_factor_3 22 rfl rfl)
theorem dX13_factor_94 : decode cX13_factor 94 = .ok (.dup, 1) := dk_89 (dk_at dksX13_factor_3 23 rfl rfl)
theorem dX13_factor_95 : decode cX13_factor 95 = .ok (.getfield 17, 3) := dk_180 0 17 (dk_at dksX13_factor_4 0 rfl rfl)
theorem dX13_factor_98 : decode cX13_factor 98 = .ok (.iconst 1, 1) := dk_4 (dk_at dksX13_factor_4 3 rfl rfl)
theorem dX13_factor_99 : decode cX13_factor 99 = .ok (.iadd, 1) := dk_96 (dk_at dksX13_factor_4 4 rfl rfl)
theorem dX13_factor_100 : decode cX13_factor 100 = .ok (.putfield 17, 3) := dk_181 0 17 (dk_at dksX13_factor_4 5 rfl rfl)
theorem dX13_factor_103 : decode cX13_factor 103 = .ok (.aload_n 0, 1) := dk_42 (dk_at dksX13_factor_4 8 rfl rfl)
theorem dX13_factor_104 : decode cX13_factor 104 = .ok (.getfield 7, 3) := dk_180 0 7 (dk_at dksX13_factor_4 9 rfl rfl)
theorem dX13_factor_107 : decode cX13_factor 107 = .ok (.iload_n 2, 1) := dk_28 (dk_at dksX13_factor_4 12 rfl rfl)
theorem dX13_factor_108 : decode cX13_factor 108 = .ok (.aload_n 0, 1) := dk_42 (dk_at dksX13_factor_4 13 rfl rfl)
theorem dX13_factor_109 : decode cX13_factor 109 = .ok (.getfield 7, 3) := dk_180 0 7 (dk_at dksX13_factor_4 14 rfl rfl)
theorem dX13_factor_112 : decode cX13_factor 112 = .ok (.aload_n 3, 1) := dk_45 (dk_at dksX13_factor_4 17 rfl rfl)
theorem dX13_factor_113 : decode cX13_factor 113 = .ok (.getfield 40, 3) := dk_180 0 40 (dk_at dksX13_factor_4 18 rfl rfl)
theorem dX13_factor_116 : decode cX13_factor 116 = .ok (.aload_n 3, 1) := dk_45 (dk_at dksX13_factor_4 21 rfl rfl)
theorem dX13_factor_117 : decode cX13_factor 117 = .ok (.getfield 43, 3) := dk_180 0 43 (dk_at dksX13_factor_5 0 rfl rfl)
theorem dX13_factor_120 : decode cX13_factor 120 = .ok (.invokevirtual 46, 3) := dk_182 0 46 (dk_at dksX13_factor_5 3 rfl rfl)
theorem dX13_factor_123 : decode cX13_factor 123 = .ok (.invokevirtual 56, 3) := dk_182 0 56 (dk_at dksX13_factor_5 6 rfl rfl)
theorem dX13_factor_126 : decode cX13_factor 126 = .ok (.lreturn, 1) := dk_173 (dk_at dksX13_factor_5 9 rfl rfl)
abbrev cX13_isNext : ByteArray := prog_2_method_2_code
def yX13_isNext : MethodName := ⟨RX13, "isNext", "(C)Z"⟩
def dkwX13_isNext_1 : List UInt8 := [185, 0, 27, 2, 0, 192, 0, 31, 180, 0, 33, 27, 160, 0, 7, 4, 167, 0, 4, 3, 172]
abbrev dktX13_isNext_1 : List UInt8 := dkwX13_isNext_1 ++ []
def dkwX13_isNext_0 : List UInt8 := [42, 180, 0, 17, 42, 180, 0, 13, 185, 0, 21, 1, 0, 162, 0, 30, 42, 180, 0, 13, 42, 180, 0, 17]
abbrev dktX13_isNext_0 : List UInt8 := dkwX13_isNext_0 ++ dktX13_isNext_1
theorem dksX13_isNext_0 : cX13_isNext.data.toList.drop 0 = dktX13_isNext_0 := by decide +kernel
theorem dksX13_isNext_1 : cX13_isNext.data.toList.drop 24 = dktX13_isNext_1 := dk_seg dksX13_isNext_0 24 rfl rfl
theorem dX13_isNext_0 : decode cX13_isNext 0 = .ok (.aload_n 0, 1) := dk_42 (dk_at dksX13_isNext_0 0 rfl rfl)
theorem dX13_isNext_1 : decode cX13_isNext 1 = .ok (.getfield 17, 3) := dk_180 0 17 (dk_at dksX13_isNext_0 1 rfl rfl)
theorem dX13_isNext_4 : decode cX13_isNext 4 = .ok (.aload_n 0, 1) := dk_42 (dk_at dksX13_isNext_0 4 rfl rfl)
theorem dX13_isNext_5 : decode cX13_isNext 5 = .ok (.getfield 13, 3) := dk_180 0 13 (dk_at dksX13_isNext_0 5 rfl rfl)
theorem dX13_isNext_8 : decode cX13_isNext 8 = .ok (.invokeinterface 21 1, 5) := by decide +kernel
theorem dX13_isNext_13 : decode cX13_isNext 13 = .ok (.if_icmp .ge 30, 3) := dk_162 0 30 (dk_at dksX13_isNext_0 13 rfl rfl)
theorem dX13_isNext_16 : decode cX13_isNext 16 = .ok (.aload_n 0, 1) := dk_42 (dk_at dksX13_isNext_0 16 rfl rfl)
theorem dX13_isNext_17 : decode cX13_isNext 17 = .ok (.getfield 13, 3) := dk_180 0 13 (dk_at dksX13_isNext_0 17 rfl rfl)
theorem dX13_isNext_20 : decode cX13_isNext 20 = .ok (.aload_n 0, 1) := dk_42 (dk_at dksX13_isNext_0 20 rfl rfl)
theorem dX13_isNext_21 : decode cX13_isNext 21 = .ok (.getfield 17, 3) := dk_180 0 17 (dk_at dksX13_isNext_0 21 rfl rfl)
theorem dX13_isNext_24 : decode cX13_isNext 24 = .ok (.invokeinterface 27 2, 5) := by decide +kernel
theorem dX13_isNext_29 : decode cX13_isNext 29 = .ok (.checkcast 31, 3) := dk_192 0 31 (dk_at dksX13_isNext_1 5 rfl rfl)
theorem dX13_isNext_32 : decode cX13_isNext 32 = .ok (.getfield 33, 3) := dk_180 0 33 (dk_at dksX13_isNext_1 8 rfl rfl)
theorem dX13_isNext_35 : decode cX13_isNext 35 = .ok (.iload_n 1, 1) := dk_27 (dk_at dksX13_isNext_1 11 rfl rfl)
theorem dX13_isNext_36 : decode cX13_isNext 36 = .ok (.if_icmp .ne 7, 3) := dk_160 0 7 (dk_at dksX13_isNext_1 12 rfl rfl)
theorem dX13_isNext_39 : decode cX13_isNext 39 = .ok (.iconst 1, 1) := dk_4 (dk_at dksX13_isNext_1 15 rfl rfl)
theorem dX13_isNext_40 : decode cX13_isNext 40 = .ok (.goto 4, 3) := dk_167 0 4 (dk_at dksX13_isNext_1 16 rfl rfl)
theorem dX13_isNext_43 : decode cX13_isNext 43 = .ok (.iconst 0, 1) := dk_3 (dk_at dksX13_isNext_1 19 rfl rfl)
theorem dX13_isNext_44 : decode cX13_isNext 44 = .ok (.ireturn, 1) := dk_172 (dk_at dksX13_isNext_1 20 rfl rfl)
theorem q126 : (Jvm.Cond.initialized "SharedSheet$Calculation") ∈ lw_all := lw_g (lw_at lw_m1 41 rfl) rfl
theorem q362 : (Jvm.Cond.selects "SharedSheet$Calculation" ({ cls := "java/lang/Object", name := "getClass", desc := "()Ljava/lang/Class;" } : Jvm.MethodName) ({ cls := "java/lang/Object", name := "getClass", desc := "()Ljava/lang/Class;" } : Jvm.MethodName)) ∈ lw_all := lw_g (lw_at lw_m2 37 rfl) rfl
theorem q1321 : (Jvm.Cond.instantiable "SharedSheet$Calculation" (3 : Nat)) ∈ lw_all := lw_g (lw_at lw_m6 36 rfl) rfl
theorem q1323 : (Jvm.Cond.instanceMethod ({ cls := "SharedSheet$Calculation", name := "<init>", desc := "(LSharedSheet$View;Ljava/util/List;)V" } : Jvm.MethodName)) ∈ lw_all := lw_g (lw_at lw_m6 38 rfl) rfl
theorem q1324 : (Jvm.Cond.code ({ cls := "SharedSheet$Calculation", name := "<init>", desc := "(LSharedSheet$View;Ljava/util/List;)V" } : Jvm.MethodName) prog_2_method_1_code (3 : Nat) (Option.none : Option Jvm.ClassFile.FieldType)) ∈ lw_all := lw_g (lw_at lw_m6 39 rfl) rfl
theorem q1325 : (Jvm.Cond.methodLink "SharedSheet$Calculation" (1 : Nat) ({ cls := "java/lang/Object", name := "<init>", desc := "()V" } : Jvm.MethodName)) ∈ lw_all := lw_g (lw_at lw_m6 40 rfl) rfl
theorem q1326 : (Jvm.Cond.fieldLink "SharedSheet$Calculation" (7 : Nat) "SharedSheet$Calculation" "view" "LSharedSheet$View;") ∈ lw_all := lw_g (lw_at lw_m6 41 rfl) rfl
theorem q1327 : (Jvm.Cond.fieldLink "SharedSheet$Calculation" (13 : Nat) "SharedSheet$Calculation" "parts" "Ljava/util/List;") ∈ lw_all := lw_g (lw_at lw_m6 42 rfl) rfl
theorem q1328 : (Jvm.Cond.fieldLink "SharedSheet$Calculation" (17 : Nat) "SharedSheet$Calculation" "at" "I") ∈ lw_all := lw_g (lw_at lw_m6 43 rfl) rfl
theorem q1329 : (Jvm.Cond.laysFinal "SharedSheet$Calculation" "SharedSheet$Calculation" "view" "LSharedSheet$View;") ∈ lw_all := lw_g (lw_at lw_m6 44 rfl) rfl
theorem q1330 : (Jvm.Cond.soleField "SharedSheet$Calculation" "view") ∈ lw_all := lw_g (lw_at lw_m6 45 rfl) rfl
theorem q1331 : (Jvm.Cond.laysFinal "SharedSheet$Calculation" "SharedSheet$Calculation" "parts" "Ljava/util/List;") ∈ lw_all := lw_g (lw_at lw_m6 46 rfl) rfl
theorem q1332 : (Jvm.Cond.soleField "SharedSheet$Calculation" "parts") ∈ lw_all := lw_g (lw_at lw_m6 47 rfl) rfl
theorem q1333 : (Jvm.Cond.lays "SharedSheet$Calculation" "SharedSheet$Calculation" "at" "I") ∈ lw_all := lw_g (lw_at lw_m6 48 rfl) rfl
theorem q1334 : (Jvm.Cond.soleField "SharedSheet$Calculation" "at") ∈ lw_all := lw_g (lw_at lw_m6 49 rfl) rfl
theorem q1335 : (Jvm.Cond.superclass "SharedSheet$Calculation" "java/lang/Object") ∈ lw_all := lw_g (lw_at lw_m6 50 rfl) rfl
theorem q1337 : (Jvm.Cond.instanceMethod ({ cls := "SharedSheet$Calculation", name := "sum", desc := "()J" } : Jvm.MethodName)) ∈ lw_all := lw_g (lw_at lw_m6 52 rfl) rfl
theorem q1338 : (Jvm.Cond.selects "SharedSheet$Calculation" ({ cls := "SharedSheet$Calculation", name := "sum", desc := "()J" } : Jvm.MethodName) ({ cls := "SharedSheet$Calculation", name := "sum", desc := "()J" } : Jvm.MethodName)) ∈ lw_all := lw_g (lw_at lw_m6 53 rfl) rfl
theorem q1339 : (Jvm.Cond.code ({ cls := "SharedSheet$Calculation", name := "sum", desc := "()J" } : Jvm.MethodName) prog_2_method_5_code (6 : Nat) (Option.some Jvm.ClassFile.FieldType.long)) ∈ lw_all := lw_g (lw_at lw_m6 54 rfl) rfl
theorem q1340 : (Jvm.Cond.methodLink "SharedSheet$Calculation" (72 : Nat) ({ cls := "SharedSheet$Calculation", name := "product", desc := "()J" } : Jvm.MethodName)) ∈ lw_all := lw_g (lw_at lw_m6 55 rfl) rfl
theorem q1341 : (Jvm.Cond.privateMethod ({ cls := "SharedSheet$Calculation", name := "product", desc := "()J" } : Jvm.MethodName)) ∈ lw_tbl := lw_at lw_m6 56 rfl
theorem q1342 : (Jvm.Cond.instanceMethod ({ cls := "SharedSheet$Calculation", name := "product", desc := "()J" } : Jvm.MethodName)) ∈ lw_all := lw_g (lw_at lw_m6 57 rfl) rfl
theorem q1343 : (Jvm.Cond.code ({ cls := "SharedSheet$Calculation", name := "product", desc := "()J" } : Jvm.MethodName) prog_2_method_4_code (3 : Nat) (Option.some Jvm.ClassFile.FieldType.long)) ∈ lw_all := lw_g (lw_at lw_m6 58 rfl) rfl
theorem q1344 : (Jvm.Cond.methodLink "SharedSheet$Calculation" (60 : Nat) ({ cls := "SharedSheet$Calculation", name := "factor", desc := "()J" } : Jvm.MethodName)) ∈ lw_all := lw_g (lw_at lw_m6 59 rfl) rfl
theorem q1345 : (Jvm.Cond.privateMethod ({ cls := "SharedSheet$Calculation", name := "factor", desc := "()J" } : Jvm.MethodName)) ∈ lw_tbl := lw_at lw_m6 60 rfl
theorem q1346 : (Jvm.Cond.instanceMethod ({ cls := "SharedSheet$Calculation", name := "factor", desc := "()J" } : Jvm.MethodName)) ∈ lw_all := lw_g (lw_at lw_m6 61 rfl) rfl
theorem q1347 : (Jvm.Cond.code ({ cls := "SharedSheet$Calculation", name := "factor", desc := "()J" } : Jvm.MethodName) prog_2_method_3_code (4 : Nat) (Option.some Jvm.ClassFile.FieldType.long)) ∈ lw_all := lw_g (lw_at lw_m6 62 rfl) rfl
theorem q1348 : (Jvm.Cond.interfaceEntry "SharedSheet$Calculation" (27 : Nat)) ∈ lw_tbl := lw_at lw_m6 63 rfl
theorem q1349 : (Jvm.Cond.methodLink "SharedSheet$Calculation" (27 : Nat) ({ cls := "java/util/List", name := "get", desc := "(I)Ljava/lang/Object;" } : Jvm.MethodName)) ∈ lw_all := lw_g (lw_at lw_m6 64 rfl) rfl
theorem q1350 : (Jvm.Cond.classLink "SharedSheet$Calculation" (31 : Nat) "SharedSheet$Part") ∈ lw_all := lw_g (lw_at lw_m6 65 rfl) rfl
theorem q1351 : (Jvm.Cond.methodLink "SharedSheet$Calculation" (46 : Nat) ({ cls := "SharedSheet$View", name := "find", desc := "(II)I" } : Jvm.MethodName)) ∈ lw_all := lw_g (lw_at lw_m6 66 rfl) rfl
theorem q1352 : (Jvm.Cond.methodLinkNest "SharedSheet$Calculation" (52 : Nat) ({ cls := "SharedSheet$View", name := "operand", desc := "(I)J" } : Jvm.MethodName) "SharedSheet") ∈ lw_tbl := lw_at lw_m6 67 rfl
theorem q1385 : (Jvm.Cond.methodLinkNest "SharedSheet$Calculation" (56 : Nat) ({ cls := "SharedSheet$View", name := "rectangle", desc := "(II)J" } : Jvm.MethodName) "SharedSheet") ∈ lw_tbl := lw_at lw_m6 100 rfl
theorem q1395 : (Jvm.Cond.methodLink "SharedSheet$Calculation" (64 : Nat) ({ cls := "SharedSheet$Calculation", name := "isNext", desc := "(C)Z" } : Jvm.MethodName)) ∈ lw_all := lw_g (lw_at lw_m6 110 rfl) rfl
theorem q1396 : (Jvm.Cond.privateMethod ({ cls := "SharedSheet$Calculation", name := "isNext", desc := "(C)Z" } : Jvm.MethodName)) ∈ lw_tbl := lw_at lw_m6 111 rfl
theorem q1397 : (Jvm.Cond.instanceMethod ({ cls := "SharedSheet$Calculation", name := "isNext", desc := "(C)Z" } : Jvm.MethodName)) ∈ lw_all := lw_g (lw_at lw_m6 112 rfl) rfl
theorem q1398 : (Jvm.Cond.code ({ cls := "SharedSheet$Calculation", name := "isNext", desc := "(C)Z" } : Jvm.MethodName) prog_2_method_2_code (2 : Nat) (Option.some Jvm.ClassFile.FieldType.boolean)) ∈ lw_all := lw_g (lw_at lw_m6 113 rfl) rfl
theorem q1399 : (Jvm.Cond.interfaceEntry "SharedSheet$Calculation" (21 : Nat)) ∈ lw_tbl := lw_at lw_m6 114 rfl
theorem q1400 : (Jvm.Cond.methodLink "SharedSheet$Calculation" (21 : Nat) ({ cls := "java/util/List", name := "size", desc := "()I" } : Jvm.MethodName)) ∈ lw_all := lw_g (lw_at lw_m6 115 rfl) rfl
theorem q1401 : (Jvm.Cond.methodLinkNest "SharedSheet$Calculation" (68 : Nat) ({ cls := "SharedSheet$View", name := "checked", desc := "(J)J" } : Jvm.MethodName) "SharedSheet") ∈ lw_tbl := lw_at lw_m6 116 rfl
theorem q1741 : (Jvm.Cond.fieldLinkNest "SharedSheet$Calculation" (33 : Nat) "SharedSheet$Part" "kind" "C" "SharedSheet") ∈ lw_tbl := lw_at lw_m7 216 rfl
theorem q1744 : (Jvm.Cond.fieldLinkNest "SharedSheet$Calculation" (37 : Nat) "SharedSheet$Part" "number" "I" "SharedSheet") ∈ lw_tbl := lw_at lw_m7 219 rfl
theorem q1747 : (Jvm.Cond.fieldLinkNest "SharedSheet$Calculation" (40 : Nat) "SharedSheet$Part" "row" "I" "SharedSheet") ∈ lw_tbl := lw_at lw_m7 222 rfl
theorem q1750 : (Jvm.Cond.fieldLinkNest "SharedSheet$Calculation" (43 : Nat) "SharedSheet$Part" "column" "I" "SharedSheet") ∈ lw_tbl := lw_at lw_m7 225 rfl
theorem q2419 : (Jvm.Cond.castable "SharedSheet$Calculation" "java/lang/Object") ∈ lw_tbl := lw_at lw_m10 174 rfl
theorem in_X13 : ∀ w ∈ wsX130, w ∈ lw_all := lw_in wsX130 [1329, 1331, 1333] (by decide +kernel) (by decide +kernel)
/-! SharedSheet$Failure -/
set_option maxRecDepth 100000
def RX14 : String := "SharedSheet$Failure"
def TX14 : u_T := fun k => match k with
  | 0 => ("java/lang/Throwable", "cause", "Ljava/lang/Throwable;", false)
  | 1 => ("java/lang/Throwable", "stackTrace", "[Ljava/lang/StackTraceElement;", false)
  | 2 => ("java/lang/Throwable", "suppressedExceptions", "Ljava/util/List;", false)
  | 3 => ("java/lang/Throwable", "detailMessage", "Ljava/lang/String;", false)
  | 4 => ("java/lang/Throwable", "backtrace", "Ljava/lang/Object;", false)
  | 5 => ("java/lang/Throwable", "depth", "I", false)
  | _ => ("SharedSheet$Failure", "error", "I", true)
def tyX14 : Nat → FieldType := fun k => match k with
  | 0 => .object "java/lang/Throwable"
  | 1 => .array (.object "java/lang/StackTraceElement")
  | 2 => .object "java/util/List"
  | 3 => .object "java/lang/String"
  | 4 => .object "java/lang/Object"
  | 5 => .int
  | _ => .int
abbrev wsX140 : List Cond := u_ws RX14 TX14 7
theorem nmX14 : ∀ a, a < 7 → ∀ b, b < 7 → a ≠ b → (TX14 a).2.1 ≠ (TX14 b).2.1 := by decide +kernel
theorem tyX14_ok : ∀ k, k < 7 → parseFieldDescriptor (TX14 k).2.2.1 = some (tyX14 k) := by decide +kernel
abbrev cX14_init : ByteArray := prog_4_method_1_code
def yX14_init : MethodName := ⟨RX14, "<init>", "(I)V"⟩
def dkwX14_init_0 : List UInt8 := [42, 18, 1, 1, 3, 3, 183, 0, 3, 42, 27, 181, 0, 9, 177]
abbrev dktX14_init_0 : List UInt8 := dkwX14_init_0 ++ []
theorem dksX14_init_0 : cX14_init.data.toList.drop 0 = dktX14_init_0 := by decide +kernel
theorem dX14_init_0 : decode cX14_init 0 = .ok (.aload_n 0, 1) := dk_42 (dk_at dksX14_init_0 0 rfl rfl)
theorem dX14_init_1 : decode cX14_init 1 = .ok (.ldc 1, 2) := dk_18 1 (dk_at dksX14_init_0 1 rfl rfl)
theorem dX14_init_3 : decode cX14_init 3 = .ok (.aconst_null, 1) := dk_1 (dk_at dksX14_init_0 3 rfl rfl)
theorem dX14_init_4 : decode cX14_init 4 = .ok (.iconst 0, 1) := dk_3 (dk_at dksX14_init_0 4 rfl rfl)
theorem dX14_init_5 : decode cX14_init 5 = .ok (.iconst 0, 1) := dk_3 (dk_at dksX14_init_0 5 rfl rfl)
theorem dX14_init_6 : decode cX14_init 6 = .ok (.invokespecial 3, 3) := dk_183 0 3 (dk_at dksX14_init_0 6 rfl rfl)
theorem dX14_init_9 : decode cX14_init 9 = .ok (.aload_n 0, 1) := dk_42 (dk_at dksX14_init_0 9 rfl rfl)
theorem dX14_init_10 : decode cX14_init 10 = .ok (.iload_n 1, 1) := dk_27 (dk_at dksX14_init_0 10 rfl rfl)
theorem dX14_init_11 : decode cX14_init 11 = .ok (.putfield 9, 3) := dk_181 0 9 (dk_at dksX14_init_0 11 rfl rfl)
theorem dX14_init_14 : decode cX14_init 14 = .ok (.return_, 1) := dk_177 (dk_at dksX14_init_0 14 rfl rfl)
theorem q127 : (Jvm.Cond.initialized "SharedSheet$Failure") ∈ lw_all := lw_g (lw_at lw_m1 42 rfl) rfl
theorem q364 : (Jvm.Cond.selects "SharedSheet$Failure" ({ cls := "java/lang/Object", name := "getClass", desc := "()Ljava/lang/Class;" } : Jvm.MethodName) ({ cls := "java/lang/Object", name := "getClass", desc := "()Ljava/lang/Class;" } : Jvm.MethodName)) ∈ lw_all := lw_g (lw_at lw_m2 39 rfl) rfl
theorem q557 : (Jvm.Cond.selects "SharedSheet$Failure" ({ cls := "java/lang/Throwable", name := "fillInStackTrace", desc := "()Ljava/lang/Throwable;" } : Jvm.MethodName) ({ cls := "java/lang/Throwable", name := "fillInStackTrace", desc := "()Ljava/lang/Throwable;" } : Jvm.MethodName)) ∈ lw_all := lw_g (lw_at lw_m2 232 rfl) rfl
theorem q1356 : (Jvm.Cond.instantiable "SharedSheet$Failure" (7 : Nat)) ∈ lw_all := lw_g (lw_at lw_m6 71 rfl) rfl
theorem q1357 : (Jvm.Cond.castable "SharedSheet$Failure" "SharedSheet$Failure") ∈ lw_tbl := lw_at lw_m6 72 rfl
theorem q1358 : (Jvm.Cond.selects "SharedSheet$Failure" ({ cls := "java/lang/Throwable", name := "fillInStackTrace", desc := "(I)Ljava/lang/Throwable;" } : Jvm.MethodName) ({ cls := "java/lang/Throwable", name := "fillInStackTrace", desc := "(I)Ljava/lang/Throwable;" } : Jvm.MethodName)) ∈ lw_all := lw_g (lw_at lw_m6 73 rfl) rfl
theorem q1359 : (Jvm.Cond.lays "SharedSheet$Failure" "java/lang/Throwable" "cause" "Ljava/lang/Throwable;") ∈ lw_all := lw_g (lw_at lw_m6 74 rfl) rfl
theorem q1360 : (Jvm.Cond.lays "SharedSheet$Failure" "java/lang/Throwable" "stackTrace" "[Ljava/lang/StackTraceElement;") ∈ lw_all := lw_g (lw_at lw_m6 75 rfl) rfl
theorem q1361 : (Jvm.Cond.lays "SharedSheet$Failure" "java/lang/Throwable" "suppressedExceptions" "Ljava/util/List;") ∈ lw_all := lw_g (lw_at lw_m6 76 rfl) rfl
theorem q1362 : (Jvm.Cond.lays "SharedSheet$Failure" "java/lang/Throwable" "detailMessage" "Ljava/lang/String;") ∈ lw_all := lw_g (lw_at lw_m6 77 rfl) rfl
theorem q1363 : (Jvm.Cond.lays "SharedSheet$Failure" "java/lang/Throwable" "backtrace" "Ljava/lang/Object;") ∈ lw_all := lw_g (lw_at lw_m6 78 rfl) rfl
theorem q1365 : (Jvm.Cond.instanceMethod ({ cls := "SharedSheet$Failure", name := "<init>", desc := "(I)V" } : Jvm.MethodName)) ∈ lw_all := lw_g (lw_at lw_m6 80 rfl) rfl
theorem q1366 : (Jvm.Cond.code ({ cls := "SharedSheet$Failure", name := "<init>", desc := "(I)V" } : Jvm.MethodName) prog_4_method_1_code (2 : Nat) (Option.none : Option Jvm.ClassFile.FieldType)) ∈ lw_all := lw_g (lw_at lw_m6 81 rfl) rfl
theorem q1367 : (Jvm.Cond.stringRef "SharedSheet$Failure" (1 : Nat) "error") ∈ lw_tbl := lw_at lw_m6 82 rfl
theorem q1368 : (Jvm.Cond.methodLink "SharedSheet$Failure" (3 : Nat) ({ cls := "java/lang/Exception", name := "<init>", desc := "(Ljava/lang/String;Ljava/lang/Throwable;ZZ)V" } : Jvm.MethodName)) ∈ lw_all := lw_g (lw_at lw_m6 83 rfl) rfl
theorem q1374 : (Jvm.Cond.fieldLink "SharedSheet$Failure" (9 : Nat) "SharedSheet$Failure" "error" "I") ∈ lw_all := lw_g (lw_at lw_m6 89 rfl) rfl
theorem q1376 : (Jvm.Cond.laysFinal "SharedSheet$Failure" "SharedSheet$Failure" "error" "I") ∈ lw_all := lw_g (lw_at lw_m6 91 rfl) rfl
theorem q1377 : (Jvm.Cond.soleField "SharedSheet$Failure" "error") ∈ lw_all := lw_g (lw_at lw_m6 92 rfl) rfl
theorem q1378 : (Jvm.Cond.lays "SharedSheet$Failure" "java/lang/Throwable" "depth" "I") ∈ lw_all := lw_g (lw_at lw_m6 93 rfl) rfl
theorem q1379 : (Jvm.Cond.superclass "SharedSheet$Failure" "java/lang/Exception") ∈ lw_all := lw_g (lw_at lw_m6 94 rfl) rfl
theorem q2420 : (Jvm.Cond.castable "SharedSheet$Failure" "java/lang/Object") ∈ lw_tbl := lw_at lw_m10 175 rfl
theorem in_X14 : ∀ w ∈ wsX140, w ∈ lw_all := lw_in wsX140 [1359, 1360, 1361, 1362, 1363, 1378, 1376] (by decide +kernel) (by decide +kernel)
