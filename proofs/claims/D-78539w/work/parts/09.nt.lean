/-! SharedSheet$Replica -/
set_option maxRecDepth 100000
def RX2 : String := "SharedSheet$Replica"
def TX2 : u_T := fun k => match k with
  | 0 => ("SharedSheet$Replica", "number", "I", true)
  | 1 => ("SharedSheet$Replica", "lines", "[[LSharedSheet$Line;", true)
  | 2 => ("SharedSheet$Replica", "cells", "Ljava/util/List;", true)
  | 3 => ("SharedSheet$Replica", "log", "Ljava/util/List;", true)
  | 4 => ("SharedSheet$Replica", "received", "[I", true)
  | 5 => ("SharedSheet$Replica", "made", "[I", true)
  | _ => ("SharedSheet$Replica", "clock", "I", false)
def tyX2 : Nat → FieldType := fun k => match k with
  | 0 => .int
  | 1 => .array (.array (.object "SharedSheet$Line"))
  | 2 => .object "java/util/List"
  | 3 => .object "java/util/List"
  | 4 => .array .int
  | 5 => .array .int
  | _ => .int
abbrev wsX20 : List Cond := u_ws RX2 TX2 7
theorem nmX2 : ∀ a, a < 7 → ∀ b, b < 7 → a ≠ b → (TX2 a).2.1 ≠ (TX2 b).2.1 := by decide +kernel
theorem tyX2_ok : ∀ k, k < 7 → parseFieldDescriptor (TX2 k).2.2.1 = some (tyX2 k) := by decide +kernel
abbrev cX2_init : ByteArray := prog_11_method_1_code
def yX2_init : MethodName := ⟨RX2, "<init>", "(I)V"⟩
def dkwX2_init_6 : List UInt8 := [167, 255, 225, 177]
abbrev dktX2_init_6 : List UInt8 := dkwX2_init_6 ++ []
def dkwX2_init_5 : List UInt8 := [180, 0, 19, 187, 0, 46, 89, 44, 178, 0, 48, 183, 0, 52, 185, 0, 55, 2, 0, 87, 132, 3, 1]
abbrev dktX2_init_5 : List UInt8 := dkwX2_init_5 ++ dktX2_init_6
def dkwX2_init_4 : List UInt8 := [167, 255, 231, 132, 2, 1, 167, 255, 218, 184, 0, 42, 77, 3, 62, 29, 17, 0, 144, 162, 0, 30, 42]
abbrev dktX2_init_4 : List UInt8 := dkwX2_init_4 ++ dktX2_init_5
def dkwX2_init_3 : List UInt8 := [162, 0, 25, 42, 180, 0, 11, 28, 50, 29, 187, 0, 37, 89, 29, 183, 0, 39, 83, 132, 3, 1]
abbrev dktX2_init_3 : List UInt8 := dkwX2_init_3 ++ dktX2_init_4
def dkwX2_init_2 : List UInt8 := [188, 10, 181, 0, 30, 42, 27, 181, 0, 33, 3, 61, 28, 5, 162, 0, 39, 3, 62, 29, 16, 12]
abbrev dktX2_init_2 : List UInt8 := dkwX2_init_2 ++ dktX2_init_3
def dkwX2_init_1 : List UInt8 := [181, 0, 19, 42, 187, 0, 16, 89, 183, 0, 18, 181, 0, 23, 42, 6, 188, 10, 181, 0, 26, 42, 5]
abbrev dktX2_init_1 : List UInt8 := dkwX2_init_1 ++ dktX2_init_2
def dkwX2_init_0 : List UInt8 := [42, 183, 0, 3, 42, 5, 16, 12, 197, 0, 9, 2, 181, 0, 11, 42, 187, 0, 16, 89, 183, 0, 18]
abbrev dktX2_init_0 : List UInt8 := dkwX2_init_0 ++ dktX2_init_1
theorem dksX2_init_0 : cX2_init.data.toList.drop 0 = dktX2_init_0 := by decide +kernel
theorem dksX2_init_1 : cX2_init.data.toList.drop 23 = dktX2_init_1 := dk_seg dksX2_init_0 23 rfl rfl
theorem dksX2_init_2 : cX2_init.data.toList.drop 46 = dktX2_init_2 := dk_seg dksX2_init_1 23 rfl rfl
theorem dksX2_init_3 : cX2_init.data.toList.drop 68 = dktX2_init_3 := dk_seg dksX2_init_2 22 rfl rfl
theorem dksX2_init_4 : cX2_init.data.toList.drop 90 = dktX2_init_4 := dk_seg dksX2_init_3 22 rfl rfl
theorem dksX2_init_5 : cX2_init.data.toList.drop 113 = dktX2_init_5 := dk_seg dksX2_init_4 23 rfl rfl
theorem dksX2_init_6 : cX2_init.data.toList.drop 136 = dktX2_init_6 := dk_seg dksX2_init_5 23 rfl rfl
theorem dX2_init_0 : decode cX2_init 0 = .ok (.aload_n 0, 1) := dk_42 (dk_at dksX2_init_0 0 rfl rfl)
theorem dX2_init_1 : decode cX2_init 1 = .ok (.invokespecial 3, 3) := dk_183 0 3 (dk_at dksX2_init_0 1 rfl rfl)
theorem dX2_init_4 : decode cX2_init 4 = .ok (.aload_n 0, 1) := dk_42 (dk_at dksX2_init_0 4 rfl rfl)
theorem dX2_init_5 : decode cX2_init 5 = .ok (.iconst 2, 1) := dk_5 (dk_at dksX2_init_0 5 rfl rfl)
theorem dX2_init_6 : decode cX2_init 6 = .ok (.bipush 12, 2) := dk_16 12 (dk_at dksX2_init_0 6 rfl rfl)
theorem dX2_init_8 : decode cX2_init 8 = .ok (.multianewarray 9 2, 4) := by decide +kernel
theorem dX2_init_12 : decode cX2_init 12 = .ok (.putfield 11, 3) := dk_181 0 11 (dk_at dksX2_init_0 12 rfl rfl)
theorem dX2_init_15 : decode cX2_init 15 = .ok (.aload_n 0, 1) := dk_42 (dk_at dksX2_init_0 15 rfl rfl)
theorem dX2_init_16 : decode cX2_init 16 = .ok (.new 16, 3) := dk_187 0 16 (dk_at dksX2_init_0 16 rfl rfl)
theorem dX2_init_19 : decode cX2_init 19 = .ok (.dup, 1) := dk_89 (dk_at dksX2_init_0 19 rfl rfl)
theorem dX2_init_20 : decode cX2_init 20 = .ok (.invokespecial 18, 3) := dk_183 0 18 (dk_at dksX2_init_0 20 rfl rfl)
theorem dX2_init_23 : decode cX2_init 23 = .ok (.putfield 19, 3) := dk_181 0 19 (dk_at dksX2_init_1 0 rfl rfl)
theorem dX2_init_26 : decode cX2_init 26 = .ok (.aload_n 0, 1) := dk_42 (dk_at dksX2_init_1 3 rfl rfl)
theorem dX2_init_27 : decode cX2_init 27 = .ok (.new 16, 3) := dk_187 0 16 (dk_at dksX2_init_1 4 rfl rfl)
theorem dX2_init_30 : decode cX2_init 30 = .ok (.dup, 1) := dk_89 (dk_at dksX2_init_1 7 rfl rfl)
theorem dX2_init_31 : decode cX2_init 31 = .ok (.invokespecial 18, 3) := dk_183 0 18 (dk_at dksX2_init_1 8 rfl rfl)
theorem dX2_init_34 : decode cX2_init 34 = .ok (.putfield 23, 3) := dk_181 0 23 (dk_at dksX2_init_1 11 rfl rfl)
theorem dX2_init_37 : decode cX2_init 37 = .ok (.aload_n 0, 1) := dk_42 (dk_at dksX2_init_1 14 rfl rfl)
theorem dX2_init_38 : decode cX2_init 38 = .ok (.iconst 3, 1) := dk_6 (dk_at dksX2_init_1 15 rfl rfl)
theorem dX2_init_39 : decode cX2_init 39 = .ok (.newarray .int, 2) := dk_188_10 (dk_at dksX2_init_1 16 rfl rfl)
theorem dX2_init_41 : decode cX2_init 41 = .ok (.putfield 26, 3) := dk_181 0 26 (dk_at dksX2_init_1 18 rfl rfl)
theorem dX2_init_44 : decode cX2_init 44 = .ok (.aload_n 0, 1) := dk_42 (dk_at dksX2_init_1 21 rfl rfl)
theorem dX2_init_45 : decode cX2_init 45 = .ok (.iconst 2, 1) := dk_5 (dk_at dksX2_init_1 22 rfl rfl)
theorem dX2_init_46 : decode cX2_init 46 = .ok (.newarray .int, 2) := dk_188_10 (dk_at dksX2_init_2 0 rfl rfl)
theorem dX2_init_48 : decode cX2_init 48 = .ok (.putfield 30, 3) := dk_181 0 30 (dk_at dksX2_init_2 2 rfl rfl)
theorem dX2_init_51 : decode cX2_init 51 = .ok (.aload_n 0, 1) := dk_42 (dk_at dksX2_init_2 5 rfl rfl)
theorem dX2_init_52 : decode cX2_init 52 = .ok (.iload_n 1, 1) := dk_27 (dk_at dksX2_init_2 6 rfl rfl)
theorem dX2_init_53 : decode cX2_init 53 = .ok (.putfield 33, 3) := dk_181 0 33 (dk_at dksX2_init_2 7 rfl rfl)
theorem dX2_init_56 : decode cX2_init 56 = .ok (.iconst 0, 1) := dk_3 (dk_at dksX2_init_2 10 rfl rfl)
theorem dX2_init_57 : decode cX2_init 57 = .ok (.istore_n 2, 1) := dk_61 (dk_at dksX2_init_2 11 rfl rfl)
theorem dX2_init_58 : decode cX2_init 58 = .ok (.iload_n 2, 1) := dk_28 (dk_at dksX2_init_2 12 rfl rfl)
theorem dX2_init_59 : decode cX2_init 59 = .ok (.iconst 2, 1) := dk_5 (dk_at dksX2_init_2 13 rfl rfl)
theorem dX2_init_60 : decode cX2_init 60 = .ok (.if_icmp .ge 39, 3) := dk_162 0 39 (dk_at dksX2_init_2 14 rfl rfl)
theorem dX2_init_63 : decode cX2_init 63 = .ok (.iconst 0, 1) := dk_3 (dk_at dksX2_init_2 17 rfl rfl)
theorem dX2_init_64 : decode cX2_init 64 = .ok (.istore_n 3, 1) := dk_62 (dk_at dksX2_init_2 18 rfl rfl)
theorem dX2_init_65 : decode cX2_init 65 = .ok (.iload_n 3, 1) := dk_29 (dk_at dksX2_init_2 19 rfl rfl)
theorem dX2_init_66 : decode cX2_init 66 = .ok (.bipush 12, 2) := dk_16 12 (dk_at dksX2_init_2 20 rfl rfl)
theorem dX2_init_68 : decode cX2_init 68 = .ok (.if_icmp .ge 25, 3) := dk_162 0 25 (dk_at dksX2_init_3 0 rfl rfl)
theorem dX2_init_71 : decode cX2_init 71 = .ok (.aload_n 0, 1) := dk_42 (dk_at dksX2_init_3 3 rfl rfl)
theorem dX2_init_72 : decode cX2_init 72 = .ok (.getfield 11, 3) := dk_180 0 11 (dk_at dksX2_init_3 4 rfl rfl)
theorem dX2_init_75 : decode cX2_init 75 = .ok (.iload_n 2, 1) := dk_28 (dk_at dksX2_init_3 7 rfl rfl)
theorem dX2_init_76 : decode cX2_init 76 = .ok (.aaload, 1) := dk_50 (dk_at dksX2_init_3 8 rfl rfl)
theorem dX2_init_77 : decode cX2_init 77 = .ok (.iload_n 3, 1) := dk_29 (dk_at dksX2_init_3 9 rfl rfl)
theorem dX2_init_78 : decode cX2_init 78 = .ok (.new 37, 3) := dk_187 0 37 (dk_at dksX2_init_3 10 rfl rfl)
theorem dX2_init_81 : decode cX2_init 81 = .ok (.dup, 1) := dk_89 (dk_at dksX2_init_3 13 rfl rfl)
theorem dX2_init_82 : decode cX2_init 82 = .ok (.iload_n 3, 1) := dk_29 (dk_at dksX2_init_3 14 rfl rfl)
theorem dX2_init_83 : decode cX2_init 83 = .ok (.invokespecial 39, 3) := dk_183 0 39 (dk_at dksX2_init_3 15 rfl rfl)
theorem dX2_init_86 : decode cX2_init 86 = .ok (.aastore, 1) := dk_83 (dk_at dksX2_init_3 18 rfl rfl)
theorem dX2_init_87 : decode cX2_init 87 = .ok (.iinc 3 1, 3) := dk_132 3 1 (dk_at dksX2_init_3 19 rfl rfl)
theorem dX2_init_90 : decode cX2_init 90 = .ok (.goto (-25), 3) := dk_167 255 231 (dk_at dksX2_init_4 0 rfl rfl)
theorem dX2_init_93 : decode cX2_init 93 = .ok (.iinc 2 1, 3) := dk_132 2 1 (dk_at dksX2_init_4 3 rfl rfl)
theorem dX2_init_96 : decode cX2_init 96 = .ok (.goto (-38), 3) := dk_167 255 218 (dk_at dksX2_init_4 6 rfl rfl)
theorem dX2_init_99 : decode cX2_init 99 = .ok (.invokestatic 42, 3) := dk_184 0 42 (dk_at dksX2_init_4 9 rfl rfl)
theorem dX2_init_102 : decode cX2_init 102 = .ok (.astore_n 2, 1) := dk_77 (dk_at dksX2_init_4 12 rfl rfl)
theorem dX2_init_103 : decode cX2_init 103 = .ok (.iconst 0, 1) := dk_3 (dk_at dksX2_init_4 13 rfl rfl)
theorem dX2_init_104 : decode cX2_init 104 = .ok (.istore_n 3, 1) := dk_62 (dk_at dksX2_init_4 14 rfl rfl)
theorem dX2_init_105 : decode cX2_init 105 = .ok (.iload_n 3, 1) := dk_29 (dk_at dksX2_init_4 15 rfl rfl)
theorem dX2_init_106 : decode cX2_init 106 = .ok (.sipush 144, 3) := dk_17 0 144 (dk_at dksX2_init_4 16 rfl rfl)
theorem dX2_init_109 : decode cX2_init 109 = .ok (.if_icmp .ge 30, 3) := dk_162 0 30 (dk_at dksX2_init_4 19 rfl rfl)
theorem dX2_init_112 : decode cX2_init 112 = .ok (.aload_n 0, 1) := dk_42 (dk_at dksX2_init_4 22 rfl rfl)
theorem dX2_init_113 : decode cX2_init 113 = .ok (.getfield 19, 3) := dk_180 0 19 (dk_at dksX2_init_5 0 rfl rfl)
theorem dX2_init_116 : decode cX2_init 116 = .ok (.new 46, 3) := dk_187 0 46 (dk_at dksX2_init_5 3 rfl rfl)
theorem dX2_init_119 : decode cX2_init 119 = .ok (.dup, 1) := dk_89 (dk_at dksX2_init_5 6 rfl rfl)
theorem dX2_init_120 : decode cX2_init 120 = .ok (.aload_n 2, 1) := dk_44 (dk_at dksX2_init_5 7 rfl rfl)
theorem dX2_init_121 : decode cX2_init 121 = .ok (.getstatic 48, 3) := dk_178 0 48 (dk_at dksX2_init_5 8 rfl rfl)
theorem dX2_init_124 : decode cX2_init 124 = .ok (.invokespecial 52, 3) := dk_183 0 52 (dk_at dksX2_init_5 11 rfl rfl)
theorem dX2_init_127 : decode cX2_init 127 = .ok (.invokeinterface 55 2, 5) := by decide +kernel
theorem dX2_init_132 : decode cX2_init 132 = .ok (.pop, 1) := dk_87 (dk_at dksX2_init_5 19 rfl rfl)
theorem dX2_init_133 : decode cX2_init 133 = .ok (.iinc 3 1, 3) := dk_132 3 1 (dk_at dksX2_init_5 20 rfl rfl)
theorem dX2_init_136 : decode cX2_init 136 = .ok (.goto (-31), 3) := dk_167 255 225 (dk_at dksX2_init_6 0 rfl rfl)
theorem dX2_init_139 : decode cX2_init 139 = .ok (.return_, 1) := dk_177 (dk_at dksX2_init_6 3 rfl rfl)
abbrev cX2_copy : ByteArray := prog_11_method_2_code
def yX2_copy : MethodName := ⟨RX2, "copy", "()LSharedSheet$Replica;"⟩
def dkwX2_copy_10 : List UInt8 := [180, 0, 93, 181, 0, 93, 43, 176]
abbrev dktX2_copy_10 : List UInt8 := dkwX2_copy_10 ++ []
def dkwX2_copy_9 : List UInt8 := [132, 2, 1, 167, 255, 217, 42, 180, 0, 26, 3, 43, 180, 0, 26, 3, 6, 184, 0, 87, 43, 42]
abbrev dktX2_copy_9 : List UInt8 := dkwX2_copy_9 ++ dktX2_copy_10
def dkwX2_copy_8 : List UInt8 := [180, 0, 23, 42, 180, 0, 23, 28, 185, 0, 77, 2, 0, 192, 0, 85, 185, 0, 55, 2, 0, 87]
abbrev dktX2_copy_8 : List UInt8 := dkwX2_copy_8 ++ dktX2_copy_9
def dkwX2_copy_7 : List UInt8 := [132, 2, 1, 167, 255, 217, 3, 61, 28, 42, 180, 0, 23, 185, 0, 81, 1, 0, 162, 0, 32, 43]
abbrev dktX2_copy_7 : List UInt8 := dkwX2_copy_7 ++ dktX2_copy_8
def dkwX2_copy_6 : List UInt8 := [185, 0, 77, 2, 0, 192, 0, 46, 42, 180, 0, 19, 28, 185, 0, 77, 2, 0, 192, 0, 46, 182, 0, 66]
abbrev dktX2_copy_6 : List UInt8 := dkwX2_copy_6 ++ dktX2_copy_7
def dkwX2_copy_5 : List UInt8 := [132, 2, 1, 167, 255, 153, 3, 61, 28, 17, 0, 144, 162, 0, 38, 43, 180, 0, 19, 28]
abbrev dktX2_copy_5 : List UInt8 := dkwX2_copy_5 ++ dktX2_copy_6
def dkwX2_copy_4 : List UInt8 := [180, 0, 74, 181, 0, 74, 132, 3, 1, 167, 255, 178, 43, 180, 0, 30, 28, 42, 180, 0, 30, 28, 46, 79]
abbrev dktX2_copy_4 : List UInt8 := dkwX2_copy_4 ++ dktX2_copy_5
def dkwX2_copy_3 : List UInt8 := [180, 0, 70, 181, 0, 70, 43, 180, 0, 11, 28, 50, 29, 50, 42, 180, 0, 11, 28, 50, 29, 50]
abbrev dktX2_copy_3 : List UInt8 := dkwX2_copy_3 ++ dktX2_copy_4
def dkwX2_copy_2 : List UInt8 := [180, 0, 62, 182, 0, 66, 43, 180, 0, 11, 28, 50, 29, 50, 42, 180, 0, 11, 28, 50, 29, 50]
abbrev dktX2_copy_2 : List UInt8 := dkwX2_copy_2 ++ dktX2_copy_3
def dkwX2_copy_1 : List UInt8 := [162, 0, 78, 43, 180, 0, 11, 28, 50, 29, 50, 180, 0, 62, 42, 180, 0, 11, 28, 50, 29, 50]
abbrev dktX2_copy_1 : List UInt8 := dkwX2_copy_1 ++ dktX2_copy_2
def dkwX2_copy_0 : List UInt8 := [187, 0, 12, 89, 42, 180, 0, 33, 183, 0, 61, 76, 3, 61, 28, 5, 162, 0, 104, 3, 62, 29, 16, 12]
abbrev dktX2_copy_0 : List UInt8 := dkwX2_copy_0 ++ dktX2_copy_1
theorem dksX2_copy_0 : cX2_copy.data.toList.drop 0 = dktX2_copy_0 := by decide +kernel
theorem dksX2_copy_1 : cX2_copy.data.toList.drop 24 = dktX2_copy_1 := dk_seg dksX2_copy_0 24 rfl rfl
theorem dksX2_copy_2 : cX2_copy.data.toList.drop 46 = dktX2_copy_2 := dk_seg dksX2_copy_1 22 rfl rfl
theorem dksX2_copy_3 : cX2_copy.data.toList.drop 68 = dktX2_copy_3 := dk_seg dksX2_copy_2 22 rfl rfl
theorem dksX2_copy_4 : cX2_copy.data.toList.drop 90 = dktX2_copy_4 := dk_seg dksX2_copy_3 22 rfl rfl
theorem dksX2_copy_5 : cX2_copy.data.toList.drop 114 = dktX2_copy_5 := dk_seg dksX2_copy_4 24 rfl rfl
theorem dksX2_copy_6 : cX2_copy.data.toList.drop 134 = dktX2_copy_6 := dk_seg dksX2_copy_5 20 rfl rfl
theorem dksX2_copy_7 : cX2_copy.data.toList.drop 158 = dktX2_copy_7 := dk_seg dksX2_copy_6 24 rfl rfl
theorem dksX2_copy_8 : cX2_copy.data.toList.drop 180 = dktX2_copy_8 := dk_seg dksX2_copy_7 22 rfl rfl
theorem dksX2_copy_9 : cX2_copy.data.toList.drop 202 = dktX2_copy_9 := dk_seg dksX2_copy_8 22 rfl rfl
theorem dksX2_copy_10 : cX2_copy.data.toList.drop 224 = dktX2_copy_10 := dk_seg dksX2_copy_9 22 rfl rfl
theorem dX2_copy_0 : decode cX2_copy 0 = .ok (.new 12, 3) := dk_187 0 12 (dk_at dksX2_copy_0 0 rfl rfl)
theorem dX2_copy_3 : decode cX2_copy 3 = .ok (.dup, 1) := dk_89 (dk_at dksX2_copy_0 3 rfl rfl)
theorem dX2_copy_4 : decode cX2_copy 4 = .ok (.aload_n 0, 1) := dk_42 (dk_at dksX2_copy_0 4 rfl rfl)
theorem dX2_copy_5 : decode cX2_copy 5 = .ok (.getfield 33, 3) := dk_180 0 33 (dk_at dksX2_copy_0 5 rfl rfl)
theorem dX2_copy_8 : decode cX2_copy 8 = .ok (.invokespecial 61, 3) := dk_183 0 61 (dk_at dksX2_copy_0 8 rfl rfl)
theorem dX2_copy_11 : decode cX2_copy 11 = .ok (.astore_n 1, 1) := dk_76 (dk_at dksX2_copy_0 11 rfl rfl)
theorem dX2_copy_12 : decode cX2_copy 12 = .ok (.iconst 0, 1) := dk_3 (dk_at dksX2_copy_0 12 rfl rfl)
theorem dX2_copy_13 : decode cX2_copy 13 = .ok (.istore_n 2, 1) := dk_61 (dk_at dksX2_copy_0 13 rfl rfl)
theorem dX2_copy_14 : decode cX2_copy 14 = .ok (.iload_n 2, 1) := dk_28 (dk_at dksX2_copy_0 14 rfl rfl)
theorem dX2_copy_15 : decode cX2_copy 15 = .ok (.iconst 2, 1) := dk_5 (dk_at dksX2_copy_0 15 rfl rfl)
theorem dX2_copy_16 : decode cX2_copy 16 = .ok (.if_icmp .ge 104, 3) := dk_162 0 104 (dk_at dksX2_copy_0 16 rfl rfl)
theorem dX2_copy_19 : decode cX2_copy 19 = .ok (.iconst 0, 1) := dk_3 (dk_at dksX2_copy_0 19 rfl rfl)
theorem dX2_copy_20 : decode cX2_copy 20 = .ok (.istore_n 3, 1) := dk_62 (dk_at dksX2_copy_0 20 rfl rfl)
theorem dX2_copy_21 : decode cX2_copy 21 = .ok (.iload_n 3, 1) := dk_29 (dk_at dksX2_copy_0 21 rfl rfl)
theorem dX2_copy_22 : decode cX2_copy 22 = .ok (.bipush 12, 2) := dk_16 12 (dk_at dksX2_copy_0 22 rfl rfl)
theorem dX2_copy_24 : decode cX2_copy 24 = .ok (.if_icmp .ge 78, 3) := dk_162 0 78 (dk_at dksX2_copy_1 0 rfl rfl)
theorem dX2_copy_27 : decode cX2_copy 27 = .ok (.aload_n 1, 1) := dk_43 (dk_at dksX2_copy_1 3 rfl rfl)
theorem dX2_copy_28 : decode cX2_copy 28 = .ok (.getfield 11, 3) := dk_180 0 11 (dk_at dksX2_copy_1 4 rfl rfl)
theorem dX2_copy_31 : decode cX2_copy 31 = .ok (.iload_n 2, 1) := dk_28 (dk_at dksX2_copy_1 7 rfl rfl)
theorem dX2_copy_32 : decode cX2_copy 32 = .ok (.aaload, 1) := dk_50 (dk_at dksX2_copy_1 8 rfl rfl)
theorem dX2_copy_33 : decode cX2_copy 33 = .ok (.iload_n 3, 1) := dk_29 (dk_at dksX2_copy_1 9 rfl rfl)
theorem dX2_copy_34 : decode cX2_copy 34 = .ok (.aaload, 1) := dk_50 (dk_at dksX2_copy_1 10 rfl rfl)
theorem dX2_copy_35 : decode cX2_copy 35 = .ok (.getfield 62, 3) := dk_180 0 62 (dk_at dksX2_copy_1 11 rfl rfl)
theorem dX2_copy_38 : decode cX2_copy 38 = .ok (.aload_n 0, 1) := dk_42 (dk_at dksX2_copy_1 14 rfl rfl)
theorem dX2_copy_39 : decode cX2_copy 39 = .ok (.getfield 11, 3) := dk_180 0 11 (dk_at dksX2_copy_1 15 rfl rfl)
theorem dX2_copy_42 : decode cX2_copy 42 = .ok (.iload_n 2, 1) := dk_28 (dk_at dksX2_copy_1 18 rfl rfl)
theorem dX2_copy_43 : decode cX2_copy 43 = .ok (.aaload, 1) := dk_50 (dk_at dksX2_copy_1 19 rfl rfl)
theorem dX2_copy_44 : decode cX2_copy 44 = .ok (.iload_n 3, 1) := dk_29 (dk_at dksX2_copy_1 20 rfl rfl)
theorem dX2_copy_45 : decode cX2_copy 45 = .ok (.aaload, 1) := dk_50 (dk_at dksX2_copy_1 21 rfl rfl)
theorem dX2_copy_46 : decode cX2_copy 46 = .ok (.getfield 62, 3) := dk_180 0 62 (dk_at dksX2_copy_2 0 rfl rfl)
theorem dX2_copy_49 : decode cX2_copy 49 = .ok (.invokevirtual 66, 3) := dk_182 0 66 (dk_at dksX2_copy_2 3 rfl rfl)
theorem dX2_copy_52 : decode cX2_copy 52 = .ok (.aload_n 1, 1) := dk_43 (dk_at dksX2_copy_2 6 rfl rfl)
theorem dX2_copy_53 : decode cX2_copy 53 = .ok (.getfield 11, 3) := dk_180 0 11 (dk_at dksX2_copy_2 7 rfl rfl)
theorem dX2_copy_56 : decode cX2_copy 56 = .ok (.iload_n 2, 1) := dk_28 (dk_at dksX2_copy_2 10 rfl rfl)
theorem dX2_copy_57 : decode cX2_copy 57 = .ok (.aaload, 1) := dk_50 (dk_at dksX2_copy_2 11 rfl rfl)
theorem dX2_copy_58 : decode cX2_copy 58 = .ok (.iload_n 3, 1) := dk_29 (dk_at dksX2_copy_2 12 rfl rfl)
theorem dX2_copy_59 : decode cX2_copy 59 = .ok (.aaload, 1) := dk_50 (dk_at dksX2_copy_2 13 rfl rfl)
theorem dX2_copy_60 : decode cX2_copy 60 = .ok (.aload_n 0, 1) := dk_42 (dk_at dksX2_copy_2 14 rfl rfl)
theorem dX2_copy_61 : decode cX2_copy 61 = .ok (.getfield 11, 3) := dk_180 0 11 (dk_at dksX2_copy_2 15 rfl rfl)
theorem dX2_copy_64 : decode cX2_copy 64 = .ok (.iload_n 2, 1) := dk_28 (dk_at dksX2_copy_2 18 rfl rfl)
theorem dX2_copy_65 : decode cX2_copy 65 = .ok (.aaload, 1) := dk_50 (dk_at dksX2_copy_2 19 rfl rfl)
theorem dX2_copy_66 : decode cX2_copy 66 = .ok (.iload_n 3, 1) := dk_29 (dk_at dksX2_copy_2 20 rfl rfl)
theorem dX2_copy_67 : decode cX2_copy 67 = .ok (.aaload, 1) := dk_50 (dk_at dksX2_copy_2 21 rfl rfl)
theorem dX2_copy_68 : decode cX2_copy 68 = .ok (.getfield 70, 3) := dk_180 0 70 (dk_at dksX2_copy_3 0 rfl rfl)
theorem dX2_copy_71 : decode cX2_copy 71 = .ok (.putfield 70, 3) := dk_181 0 70 (dk_at dksX2_copy_3 3 rfl rfl)
theorem dX2_copy_74 : decode cX2_copy 74 = .ok (.aload_n 1, 1) := dk_43 (dk_at dksX2_copy_3 6 rfl rfl)
theorem dX2_copy_75 : decode cX2_copy 75 = .ok (.getfield 11, 3) := dk_180 0 11 (dk_at dksX2_copy_3 7 rfl rfl)
theorem dX2_copy_78 : decode cX2_copy 78 = .ok (.iload_n 2, 1) := dk_28 (dk_at dksX2_copy_3 10 rfl rfl)
theorem dX2_copy_79 : decode cX2_copy 79 = .ok (.aaload, 1) := dk_50 (dk_at dksX2_copy_3 11 rfl rfl)
theorem dX2_copy_80 : decode cX2_copy 80 = .ok (.iload_n 3, 1) := dk_29 (dk_at dksX2_copy_3 12 rfl rfl)
theorem dX2_copy_81 : decode cX2_copy 81 = .ok (.aaload, 1) := dk_50 (dk_at dksX2_copy_3 13 rfl rfl)
theorem dX2_copy_82 : decode cX2_copy 82 = .ok (.aload_n 0, 1) := dk_42 (dk_at dksX2_copy_3 14 rfl rfl)
theorem dX2_copy_83 : decode cX2_copy 83 = .ok (.getfield 11, 3) := dk_180 0 11 (dk_at dksX2_copy_3 15 rfl rfl)
theorem dX2_copy_86 : decode cX2_copy 86 = .ok (.iload_n 2, 1) := dk_28 (dk_at dksX2_copy_3 18 rfl rfl)
theorem dX2_copy_87 : decode cX2_copy 87 = .ok (.aaload, 1) := dk_50 (dk_at dksX2_copy_3 19 rfl rfl)
theorem dX2_copy_88 : decode cX2_copy 88 = .ok (.iload_n 3, 1) := dk_29 (dk_at dksX2_copy_3 20 rfl rfl)
theorem dX2_copy_89 : decode cX2_copy 89 = .ok (.aaload, 1) := dk_50 (dk_at dksX2_copy_3 21 rfl rfl)
theorem dX2_copy_90 : decode cX2_copy 90 = .ok (.getfield 74, 3) := dk_180 0 74 (dk_at dksX2_copy_4 0 rfl rfl)
theorem dX2_copy_93 : decode cX2_copy 93 = .ok (.putfield 74, 3) := dk_181 0 74 (dk_at dksX2_copy_4 3 rfl rfl)
theorem dX2_copy_96 : decode cX2_copy 96 = .ok (.iinc 3 1, 3) := dk_132 3 1 (dk_at dksX2_copy_4 6 rfl rfl)
theorem dX2_copy_99 : decode cX2_copy 99 = .ok (.goto (-78), 3) := dk_167 255 178 (dk_at dksX2_copy_4 9 rfl rfl)
theorem dX2_copy_102 : decode cX2_copy 102 = .ok (.aload_n 1, 1) := dk_43 (dk_at dksX2_copy_4 12 rfl rfl)
theorem dX2_copy_103 : decode cX2_copy 103 = .ok (.getfield 30, 3) := dk_180 0 30 (dk_at dksX2_copy_4 13 rfl rfl)
theorem dX2_copy_106 : decode cX2_copy 106 = .ok (.iload_n 2, 1) := dk_28 (dk_at dksX2_copy_4 16 rfl rfl)
theorem dX2_copy_107 : decode cX2_copy 107 = .ok (.aload_n 0, 1) := dk_42 (dk_at dksX2_copy_4 17 rfl rfl)
theorem dX2_copy_108 : decode cX2_copy 108 = .ok (.getfield 30, 3) := dk_180 0 30 (dk_at dksX2_copy_4 18 rfl rfl)
theorem dX2_copy_111 : decode cX2_copy 111 = .ok (.iload_n 2, 1) := dk_28 (dk_at dksX2_copy_4 21 rfl rfl)
theorem dX2_copy_112 : decode cX2_copy 112 = .ok (.iaload, 1) := dk_46 (dk_at dksX2_copy_4 22 rfl rfl)
theorem dX2_copy_113 : decode cX2_copy 113 = .ok (.iastore, 1) := dk_79 (dk_at dksX2_copy_4 23 rfl rfl)
theorem dX2_copy_114 : decode cX2_copy 114 = .ok (.iinc 2 1, 3) := dk_132 2 1 (dk_at dksX2_copy_5 0 rfl rfl)
theorem dX2_copy_117 : decode cX2_copy 117 = .ok (.goto (-103), 3) := dk_167 255 153 (dk_at dksX2_copy_5 3 rfl rfl)
theorem dX2_copy_120 : decode cX2_copy 120 = .ok (.iconst 0, 1) := dk_3 (dk_at dksX2_copy_5 6 rfl rfl)
theorem dX2_copy_121 : decode cX2_copy 121 = .ok (.istore_n 2, 1) := dk_61 (dk_at dksX2_copy_5 7 rfl rfl)
theorem dX2_copy_122 : decode cX2_copy 122 = .ok (.iload_n 2, 1) := dk_28 (dk_at dksX2_copy_5 8 rfl rfl)
theorem dX2_copy_123 : decode cX2_copy 123 = .ok (.sipush 144, 3) := dk_17 0 144 (dk_at dksX2_copy_5 9 rfl rfl)
theorem dX2_copy_126 : decode cX2_copy 126 = .ok (.if_icmp .ge 38, 3) := dk_162 0 38 (dk_at dksX2_copy_5 12 rfl rfl)
theorem dX2_copy_129 : decode cX2_copy 129 = .ok (.aload_n 1, 1) := dk_43 (dk_at dksX2_copy_5 15 rfl rfl)
theorem dX2_copy_130 : decode cX2_copy 130 = .ok (.getfield 19, 3) := dk_180 0 19 (dk_at dksX2_copy_5 16 rfl rfl)
theorem dX2_copy_133 : decode cX2_copy 133 = .ok (.iload_n 2, 1) := dk_28 (dk_at dksX2_copy_5 19 rfl rfl)
theorem dX2_copy_134 : decode cX2_copy 134 = .ok (.invokeinterface 77 2, 5) := by decide +kernel
theorem dX2_copy_139 : decode cX2_copy 139 = .ok (.checkcast 46, 3) := dk_192 0 46 (dk_at dksX2_copy_6 5 rfl rfl)
theorem dX2_copy_142 : decode cX2_copy 142 = .ok (.aload_n 0, 1) := dk_42 (dk_at dksX2_copy_6 8 rfl rfl)
theorem dX2_copy_143 : decode cX2_copy 143 = .ok (.getfield 19, 3) := dk_180 0 19 (dk_at dksX2_copy_6 9 rfl rfl)
theorem dX2_copy_146 : decode cX2_copy 146 = .ok (.iload_n 2, 1) := dk_28 (dk_at dksX2_copy_6 12 rfl rfl)
theorem dX2_copy_147 : decode cX2_copy 147 = .ok (.invokeinterface 77 2, 5) := by decide +kernel
theorem dX2_copy_152 : decode cX2_copy 152 = .ok (.checkcast 46, 3) := dk_192 0 46 (dk_at dksX2_copy_6 18 rfl rfl)
theorem dX2_copy_155 : decode cX2_copy 155 = .ok (.invokevirtual 66, 3) := dk_182 0 66 (dk_at dksX2_copy_6 21 rfl rfl)
theorem dX2_copy_158 : decode cX2_copy 158 = .ok (.iinc 2 1, 3) := dk_132 2 1 (dk_at dksX2_copy_7 0 rfl rfl)
theorem dX2_copy_161 : decode cX2_copy 161 = .ok (.goto (-39), 3) := dk_167 255 217 (dk_at dksX2_copy_7 3 rfl rfl)
theorem dX2_copy_164 : decode cX2_copy 164 = .ok (.iconst 0, 1) := dk_3 (dk_at dksX2_copy_7 6 rfl rfl)
theorem dX2_copy_165 : decode cX2_copy 165 = .ok (.istore_n 2, 1) := dk_61 (dk_at dksX2_copy_7 7 rfl rfl)
theorem dX2_copy_166 : decode cX2_copy 166 = .ok (.iload_n 2, 1) := dk_28 (dk_at dksX2_copy_7 8 rfl rfl)
theorem dX2_copy_167 : decode cX2_copy 167 = .ok (.aload_n 0, 1) := dk_42 (dk_at dksX2_copy_7 9 rfl rfl)
theorem dX2_copy_168 : decode cX2_copy 168 = .ok (.getfield 23, 3) := dk_180 0 23 (dk_at dksX2_copy_7 10 rfl rfl)
theorem dX2_copy_171 : decode cX2_copy 171 = .ok (.invokeinterface 81 1, 5) := by decide +kernel
theorem dX2_copy_176 : decode cX2_copy 176 = .ok (.if_icmp .ge 32, 3) := dk_162 0 32 (dk_at dksX2_copy_7 18 rfl rfl)
theorem dX2_copy_179 : decode cX2_copy 179 = .ok (.aload_n 1, 1) := dk_43 (dk_at dksX2_copy_7 21 rfl rfl)
theorem dX2_copy_180 : decode cX2_copy 180 = .ok (.getfield 23, 3) := dk_180 0 23 (dk_at dksX2_copy_8 0 rfl rfl)
theorem dX2_copy_183 : decode cX2_copy 183 = .ok (.aload_n 0, 1) := dk_42 (dk_at dksX2_copy_8 3 rfl rfl)
theorem dX2_copy_184 : decode cX2_copy 184 = .ok (.getfield 23, 3) := dk_180 0 23 (dk_at dksX2_copy_8 4 rfl rfl)
theorem dX2_copy_187 : decode cX2_copy 187 = .ok (.iload_n 2, 1) := dk_28 (dk_at dksX2_copy_8 7 rfl rfl)
theorem dX2_copy_188 : decode cX2_copy 188 = .ok (.invokeinterface 77 2, 5) := by decide +kernel
theorem dX2_copy_193 : decode cX2_copy 193 = .ok (.checkcast 85, 3) := dk_192 0 85 (dk_at dksX2_copy_8 13 rfl rfl)
theorem dX2_copy_196 : decode cX2_copy 196 = .ok (.invokeinterface 55 2, 5) := by decide +kernel
theorem dX2_copy_201 : decode cX2_copy 201 = .ok (.pop, 1) := dk_87 (dk_at dksX2_copy_8 21 rfl rfl)
theorem dX2_copy_202 : decode cX2_copy 202 = .ok (.iinc 2 1, 3) := dk_132 2 1 (dk_at dksX2_copy_9 0 rfl rfl)
theorem dX2_copy_205 : decode cX2_copy 205 = .ok (.goto (-39), 3) := dk_167 255 217 (dk_at dksX2_copy_9 3 rfl rfl)
theorem dX2_copy_208 : decode cX2_copy 208 = .ok (.aload_n 0, 1) := dk_42 (dk_at dksX2_copy_9 6 rfl rfl)
theorem dX2_copy_209 : decode cX2_copy 209 = .ok (.getfield 26, 3) := dk_180 0 26 (dk_at dksX2_copy_9 7 rfl rfl)
theorem dX2_copy_212 : decode cX2_copy 212 = .ok (.iconst 0, 1) := dk_3 (dk_at dksX2_copy_9 10 rfl rfl)
theorem dX2_copy_213 : decode cX2_copy 213 = .ok (.aload_n 1, 1) := dk_43 (dk_at dksX2_copy_9 11 rfl rfl)
theorem dX2_copy_214 : decode cX2_copy 214 = .ok (.getfield 26, 3) := dk_180 0 26 (dk_at dksX2_copy_9 12 rfl rfl)
theorem dX2_copy_217 : decode cX2_copy 217 = .ok (.iconst 0, 1) := dk_3 (dk_at dksX2_copy_9 15 rfl rfl)
theorem dX2_copy_218 : decode cX2_copy 218 = .ok (.iconst 3, 1) := dk_6 (dk_at dksX2_copy_9 16 rfl rfl)
theorem dX2_copy_219 : decode cX2_copy 219 = .ok (.invokestatic 87, 3) := dk_184 0 87 (dk_at dksX2_copy_9 17 rfl rfl)
theorem dX2_copy_222 : decode cX2_copy 222 = .ok (.aload_n 1, 1) := dk_43 (dk_at dksX2_copy_9 20 rfl rfl)
theorem dX2_copy_223 : decode cX2_copy 223 = .ok (.aload_n 0, 1) := dk_42 (dk_at dksX2_copy_9 21 rfl rfl)
theorem dX2_copy_224 : decode cX2_copy 224 = .ok (.getfield 93, 3) := dk_180 0 93 (dk_at dksX2_copy_10 0 rfl rfl)
theorem dX2_copy_227 : decode cX2_copy 227 = .ok (.putfield 93, 3) := dk_181 0 93 (dk_at dksX2_copy_10 3 rfl rfl)
theorem dX2_copy_230 : decode cX2_copy 230 = .ok (.aload_n 1, 1) := dk_43 (dk_at dksX2_copy_10 6 rfl rfl)
theorem dX2_copy_231 : decode cX2_copy 231 = .ok (.areturn, 1) := dk_176 (dk_at dksX2_copy_10 7 rfl rfl)
abbrev cX2_receive : ByteArray := prog_11_method_7_code
def yX2_receive : MethodName := ⟨RX2, "receive", "(LSharedSheet$Replica;)V"⟩
def dkwX2_receive_2 : List UInt8 := [184, 0, 151, 181, 0, 93, 42, 44, 182, 0, 146, 177]
abbrev dktX2_receive_2 : List UInt8 := dkwX2_receive_2 ++ []
def dkwX2_receive_1 : List UInt8 := [180, 0, 26, 43, 180, 0, 33, 92, 46, 4, 96, 79, 42, 42, 180, 0, 93, 44, 180, 0, 124, 180, 0, 150]
abbrev dktX2_receive_1 : List UInt8 := dkwX2_receive_1 ++ dktX2_receive_2
def dkwX2_receive_0 : List UInt8 := [43, 180, 0, 23, 42, 180, 0, 26, 43, 180, 0, 33, 46, 185, 0, 77, 2, 0, 192, 0, 85, 77, 42]
abbrev dktX2_receive_0 : List UInt8 := dkwX2_receive_0 ++ dktX2_receive_1
theorem dksX2_receive_0 : cX2_receive.data.toList.drop 0 = dktX2_receive_0 := by decide +kernel
theorem dksX2_receive_1 : cX2_receive.data.toList.drop 23 = dktX2_receive_1 := dk_seg dksX2_receive_0 23 rfl rfl
theorem dksX2_receive_2 : cX2_receive.data.toList.drop 47 = dktX2_receive_2 := dk_seg dksX2_receive_1 24 rfl rfl
theorem dX2_receive_0 : decode cX2_receive 0 = .ok (.aload_n 1, 1) := dk_43 (dk_at dksX2_receive_0 0 rfl rfl)
theorem dX2_receive_1 : decode cX2_receive 1 = .ok (.getfield 23, 3) := dk_180 0 23 (dk_at dksX2_receive_0 1 rfl rfl)
theorem dX2_receive_4 : decode cX2_receive 4 = .ok (.aload_n 0, 1) := dk_42 (dk_at dksX2_receive_0 4 rfl rfl)
theorem dX2_receive_5 : decode cX2_receive 5 = .ok (.getfield 26, 3) := dk_180 0 26 (dk_at dksX2_receive_0 5 rfl rfl)
theorem dX2_receive_8 : decode cX2_receive 8 = .ok (.aload_n 1, 1) := dk_43 (dk_at dksX2_receive_0 8 rfl rfl)
theorem dX2_receive_9 : decode cX2_receive 9 = .ok (.getfield 33, 3) := dk_180 0 33 (dk_at dksX2_receive_0 9 rfl rfl)
theorem dX2_receive_12 : decode cX2_receive 12 = .ok (.iaload, 1) := dk_46 (dk_at dksX2_receive_0 12 rfl rfl)
theorem dX2_receive_13 : decode cX2_receive 13 = .ok (.invokeinterface 77 2, 5) := by decide +kernel
theorem dX2_receive_18 : decode cX2_receive 18 = .ok (.checkcast 85, 3) := dk_192 0 85 (dk_at dksX2_receive_0 18 rfl rfl)
theorem dX2_receive_21 : decode cX2_receive 21 = .ok (.astore_n 2, 1) := dk_77 (dk_at dksX2_receive_0 21 rfl rfl)
theorem dX2_receive_22 : decode cX2_receive 22 = .ok (.aload_n 0, 1) := dk_42 (dk_at dksX2_receive_0 22 rfl rfl)
theorem dX2_receive_23 : decode cX2_receive 23 = .ok (.getfield 26, 3) := dk_180 0 26 (dk_at dksX2_receive_1 0 rfl rfl)
theorem dX2_receive_26 : decode cX2_receive 26 = .ok (.aload_n 1, 1) := dk_43 (dk_at dksX2_receive_1 3 rfl rfl)
theorem dX2_receive_27 : decode cX2_receive 27 = .ok (.getfield 33, 3) := dk_180 0 33 (dk_at dksX2_receive_1 4 rfl rfl)
theorem dX2_receive_30 : decode cX2_receive 30 = .ok (.dup2, 1) := dk_92 (dk_at dksX2_receive_1 7 rfl rfl)
theorem dX2_receive_31 : decode cX2_receive 31 = .ok (.iaload, 1) := dk_46 (dk_at dksX2_receive_1 8 rfl rfl)
theorem dX2_receive_32 : decode cX2_receive 32 = .ok (.iconst 1, 1) := dk_4 (dk_at dksX2_receive_1 9 rfl rfl)
theorem dX2_receive_33 : decode cX2_receive 33 = .ok (.iadd, 1) := dk_96 (dk_at dksX2_receive_1 10 rfl rfl)
theorem dX2_receive_34 : decode cX2_receive 34 = .ok (.iastore, 1) := dk_79 (dk_at dksX2_receive_1 11 rfl rfl)
theorem dX2_receive_35 : decode cX2_receive 35 = .ok (.aload_n 0, 1) := dk_42 (dk_at dksX2_receive_1 12 rfl rfl)
theorem dX2_receive_36 : decode cX2_receive 36 = .ok (.aload_n 0, 1) := dk_42 (dk_at dksX2_receive_1 13 rfl rfl)
theorem dX2_receive_37 : decode cX2_receive 37 = .ok (.getfield 93, 3) := dk_180 0 93 (dk_at dksX2_receive_1 14 rfl rfl)
theorem dX2_receive_40 : decode cX2_receive 40 = .ok (.aload_n 2, 1) := dk_44 (dk_at dksX2_receive_1 17 rfl rfl)
theorem dX2_receive_41 : decode cX2_receive 41 = .ok (.getfield 124, 3) := dk_180 0 124 (dk_at dksX2_receive_1 18 rfl rfl)
theorem dX2_receive_44 : decode cX2_receive 44 = .ok (.getfield 150, 3) := dk_180 0 150 (dk_at dksX2_receive_1 21 rfl rfl)
theorem dX2_receive_47 : decode cX2_receive 47 = .ok (.invokestatic 151, 3) := dk_184 0 151 (dk_at dksX2_receive_2 0 rfl rfl)
theorem dX2_receive_50 : decode cX2_receive 50 = .ok (.putfield 93, 3) := dk_181 0 93 (dk_at dksX2_receive_2 3 rfl rfl)
theorem dX2_receive_53 : decode cX2_receive 53 = .ok (.aload_n 0, 1) := dk_42 (dk_at dksX2_receive_2 6 rfl rfl)
theorem dX2_receive_54 : decode cX2_receive 54 = .ok (.aload_n 2, 1) := dk_44 (dk_at dksX2_receive_2 7 rfl rfl)
theorem dX2_receive_55 : decode cX2_receive 55 = .ok (.invokevirtual 146, 3) := dk_182 0 146 (dk_at dksX2_receive_2 8 rfl rfl)
theorem dX2_receive_58 : decode cX2_receive 58 = .ok (.return_, 1) := dk_177 (dk_at dksX2_receive_2 11 rfl rfl)
abbrev cX2_perform : ByteArray := prog_11_method_5_code
def yX2_perform : MethodName := ⟨RX2, "perform", "(LSharedSheet$Operation;)V"⟩
def dkwX2_perform_5 : List UInt8 := [43, 180, 0, 124, 182, 0, 127, 177]
abbrev dktX2_perform_5 : List UInt8 := dkwX2_perform_5 ++ []
def dkwX2_perform_4 : List UInt8 := [44, 4, 181, 0, 74, 167, 0, 26, 42, 43, 180, 0, 110, 43, 180, 0, 116, 182, 0, 130, 43, 180, 0, 134]
abbrev dktX2_perform_4 : List UInt8 := dkwX2_perform_4 ++ dktX2_perform_5
def dkwX2_perform_3 : List UInt8 := [167, 0, 55, 44, 180, 0, 62, 43, 180, 0, 116, 184, 0, 118, 43, 180, 0, 124, 182, 0, 127, 167, 0, 34]
abbrev dktX2_perform_3 : List UInt8 := dkwX2_perform_3 ++ dktX2_perform_4
def dkwX2_perform_2 : List UInt8 := [44, 4, 181, 0, 70, 44, 180, 0, 62, 43, 180, 0, 116, 184, 0, 118, 43, 180, 0, 124, 182, 0, 127]
abbrev dktX2_perform_2 : List UInt8 := dkwX2_perform_2 ++ dktX2_perform_3
def dkwX2_perform_1 : List UInt8 := [170, 0, 0, 0, 80, 0, 0, 0, 1, 0, 0, 0, 3, 0, 0, 0, 25, 0, 0, 0, 51, 0, 0, 0, 72]
abbrev dktX2_perform_1 : List UInt8 := dkwX2_perform_1 ++ dktX2_perform_2
def dkwX2_perform_0 : List UInt8 := [42, 180, 0, 11, 43, 180, 0, 107, 50, 43, 180, 0, 110, 50, 77, 43, 180, 0, 113]
abbrev dktX2_perform_0 : List UInt8 := dkwX2_perform_0 ++ dktX2_perform_1
theorem dksX2_perform_0 : cX2_perform.data.toList.drop 0 = dktX2_perform_0 := by decide +kernel
theorem dksX2_perform_1 : cX2_perform.data.toList.drop 19 = dktX2_perform_1 := dk_seg dksX2_perform_0 19 rfl rfl
theorem dksX2_perform_2 : cX2_perform.data.toList.drop 44 = dktX2_perform_2 := dk_seg dksX2_perform_1 25 rfl rfl
theorem dksX2_perform_3 : cX2_perform.data.toList.drop 67 = dktX2_perform_3 := dk_seg dksX2_perform_2 23 rfl rfl
theorem dksX2_perform_4 : cX2_perform.data.toList.drop 91 = dktX2_perform_4 := dk_seg dksX2_perform_3 24 rfl rfl
theorem dksX2_perform_5 : cX2_perform.data.toList.drop 115 = dktX2_perform_5 := dk_seg dksX2_perform_4 24 rfl rfl
theorem dX2_perform_0 : decode cX2_perform 0 = .ok (.aload_n 0, 1) := dk_42 (dk_at dksX2_perform_0 0 rfl rfl)
theorem dX2_perform_1 : decode cX2_perform 1 = .ok (.getfield 11, 3) := dk_180 0 11 (dk_at dksX2_perform_0 1 rfl rfl)
theorem dX2_perform_4 : decode cX2_perform 4 = .ok (.aload_n 1, 1) := dk_43 (dk_at dksX2_perform_0 4 rfl rfl)
theorem dX2_perform_5 : decode cX2_perform 5 = .ok (.getfield 107, 3) := dk_180 0 107 (dk_at dksX2_perform_0 5 rfl rfl)
theorem dX2_perform_8 : decode cX2_perform 8 = .ok (.aaload, 1) := dk_50 (dk_at dksX2_perform_0 8 rfl rfl)
theorem dX2_perform_9 : decode cX2_perform 9 = .ok (.aload_n 1, 1) := dk_43 (dk_at dksX2_perform_0 9 rfl rfl)
theorem dX2_perform_10 : decode cX2_perform 10 = .ok (.getfield 110, 3) := dk_180 0 110 (dk_at dksX2_perform_0 10 rfl rfl)
theorem dX2_perform_13 : decode cX2_perform 13 = .ok (.aaload, 1) := dk_50 (dk_at dksX2_perform_0 13 rfl rfl)
theorem dX2_perform_14 : decode cX2_perform 14 = .ok (.astore_n 2, 1) := dk_77 (dk_at dksX2_perform_0 14 rfl rfl)
theorem dX2_perform_15 : decode cX2_perform 15 = .ok (.aload_n 1, 1) := dk_43 (dk_at dksX2_perform_0 15 rfl rfl)
theorem dX2_perform_16 : decode cX2_perform 16 = .ok (.getfield 113, 3) := dk_180 0 113 (dk_at dksX2_perform_0 16 rfl rfl)
theorem dX2_perform_19 : decode cX2_perform 19 = .ok (.tableswitch 80 1 3 #[25, 51, 72], 25) := by decide +kernel
theorem dX2_perform_44 : decode cX2_perform 44 = .ok (.aload_n 2, 1) := dk_44 (dk_at dksX2_perform_2 0 rfl rfl)
theorem dX2_perform_45 : decode cX2_perform 45 = .ok (.iconst 1, 1) := dk_4 (dk_at dksX2_perform_2 1 rfl rfl)
theorem dX2_perform_46 : decode cX2_perform 46 = .ok (.putfield 70, 3) := dk_181 0 70 (dk_at dksX2_perform_2 2 rfl rfl)
theorem dX2_perform_49 : decode cX2_perform 49 = .ok (.aload_n 2, 1) := dk_44 (dk_at dksX2_perform_2 5 rfl rfl)
theorem dX2_perform_50 : decode cX2_perform 50 = .ok (.getfield 62, 3) := dk_180 0 62 (dk_at dksX2_perform_2 6 rfl rfl)
theorem dX2_perform_53 : decode cX2_perform 53 = .ok (.aload_n 1, 1) := dk_43 (dk_at dksX2_perform_2 9 rfl rfl)
theorem dX2_perform_54 : decode cX2_perform 54 = .ok (.getfield 116, 3) := dk_180 0 116 (dk_at dksX2_perform_2 10 rfl rfl)
theorem dX2_perform_57 : decode cX2_perform 57 = .ok (.invokestatic 118, 3) := dk_184 0 118 (dk_at dksX2_perform_2 13 rfl rfl)
theorem dX2_perform_60 : decode cX2_perform 60 = .ok (.aload_n 1, 1) := dk_43 (dk_at dksX2_perform_2 16 rfl rfl)
theorem dX2_perform_61 : decode cX2_perform 61 = .ok (.getfield 124, 3) := dk_180 0 124 (dk_at dksX2_perform_2 17 rfl rfl)
theorem dX2_perform_64 : decode cX2_perform 64 = .ok (.invokevirtual 127, 3) := dk_182 0 127 (dk_at dksX2_perform_2 20 rfl rfl)
theorem dX2_perform_67 : decode cX2_perform 67 = .ok (.goto 55, 3) := dk_167 0 55 (dk_at dksX2_perform_3 0 rfl rfl)
theorem dX2_perform_70 : decode cX2_perform 70 = .ok (.aload_n 2, 1) := dk_44 (dk_at dksX2_perform_3 3 rfl rfl)
theorem dX2_perform_71 : decode cX2_perform 71 = .ok (.getfield 62, 3) := dk_180 0 62 (dk_at dksX2_perform_3 4 rfl rfl)
theorem dX2_perform_74 : decode cX2_perform 74 = .ok (.aload_n 1, 1) := dk_43 (dk_at dksX2_perform_3 7 rfl rfl)
theorem dX2_perform_75 : decode cX2_perform 75 = .ok (.getfield 116, 3) := dk_180 0 116 (dk_at dksX2_perform_3 8 rfl rfl)
theorem dX2_perform_78 : decode cX2_perform 78 = .ok (.invokestatic 118, 3) := dk_184 0 118 (dk_at dksX2_perform_3 11 rfl rfl)
theorem dX2_perform_81 : decode cX2_perform 81 = .ok (.aload_n 1, 1) := dk_43 (dk_at dksX2_perform_3 14 rfl rfl)
theorem dX2_perform_82 : decode cX2_perform 82 = .ok (.getfield 124, 3) := dk_180 0 124 (dk_at dksX2_perform_3 15 rfl rfl)
theorem dX2_perform_85 : decode cX2_perform 85 = .ok (.invokevirtual 127, 3) := dk_182 0 127 (dk_at dksX2_perform_3 18 rfl rfl)
theorem dX2_perform_88 : decode cX2_perform 88 = .ok (.goto 34, 3) := dk_167 0 34 (dk_at dksX2_perform_3 21 rfl rfl)
theorem dX2_perform_91 : decode cX2_perform 91 = .ok (.aload_n 2, 1) := dk_44 (dk_at dksX2_perform_4 0 rfl rfl)
theorem dX2_perform_92 : decode cX2_perform 92 = .ok (.iconst 1, 1) := dk_4 (dk_at dksX2_perform_4 1 rfl rfl)
theorem dX2_perform_93 : decode cX2_perform 93 = .ok (.putfield 74, 3) := dk_181 0 74 (dk_at dksX2_perform_4 2 rfl rfl)
theorem dX2_perform_96 : decode cX2_perform 96 = .ok (.goto 26, 3) := dk_167 0 26 (dk_at dksX2_perform_4 5 rfl rfl)
theorem dX2_perform_99 : decode cX2_perform 99 = .ok (.aload_n 0, 1) := dk_42 (dk_at dksX2_perform_4 8 rfl rfl)
theorem dX2_perform_100 : decode cX2_perform 100 = .ok (.aload_n 1, 1) := dk_43 (dk_at dksX2_perform_4 9 rfl rfl)
theorem dX2_perform_101 : decode cX2_perform 101 = .ok (.getfield 110, 3) := dk_180 0 110 (dk_at dksX2_perform_4 10 rfl rfl)
theorem dX2_perform_104 : decode cX2_perform 104 = .ok (.aload_n 1, 1) := dk_43 (dk_at dksX2_perform_4 13 rfl rfl)
theorem dX2_perform_105 : decode cX2_perform 105 = .ok (.getfield 116, 3) := dk_180 0 116 (dk_at dksX2_perform_4 14 rfl rfl)
theorem dX2_perform_108 : decode cX2_perform 108 = .ok (.invokevirtual 130, 3) := dk_182 0 130 (dk_at dksX2_perform_4 17 rfl rfl)
theorem dX2_perform_111 : decode cX2_perform 111 = .ok (.aload_n 1, 1) := dk_43 (dk_at dksX2_perform_4 20 rfl rfl)
theorem dX2_perform_112 : decode cX2_perform 112 = .ok (.getfield 134, 3) := dk_180 0 134 (dk_at dksX2_perform_4 21 rfl rfl)
theorem dX2_perform_115 : decode cX2_perform 115 = .ok (.aload_n 1, 1) := dk_43 (dk_at dksX2_perform_5 0 rfl rfl)
theorem dX2_perform_116 : decode cX2_perform 116 = .ok (.getfield 124, 3) := dk_180 0 124 (dk_at dksX2_perform_5 1 rfl rfl)
theorem dX2_perform_119 : decode cX2_perform 119 = .ok (.invokevirtual 127, 3) := dk_182 0 127 (dk_at dksX2_perform_5 4 rfl rfl)
theorem dX2_perform_122 : decode cX2_perform 122 = .ok (.return_, 1) := dk_177 (dk_at dksX2_perform_5 7 rfl rfl)
abbrev cX2_cell : ByteArray := prog_11_method_3_code
def yX2_cell : MethodName := ⟨RX2, "cell", "(II)LSharedSheet$Register;"⟩
def dkwX2_cell_0 : List UInt8 := [42, 180, 0, 19, 16, 12, 27, 104, 28, 96, 185, 0, 77, 2, 0, 192, 0, 46, 176]
abbrev dktX2_cell_0 : List UInt8 := dkwX2_cell_0 ++ []
theorem dksX2_cell_0 : cX2_cell.data.toList.drop 0 = dktX2_cell_0 := by decide +kernel
theorem dX2_cell_0 : decode cX2_cell 0 = .ok (.aload_n 0, 1) := dk_42 (dk_at dksX2_cell_0 0 rfl rfl)
theorem dX2_cell_1 : decode cX2_cell 1 = .ok (.getfield 19, 3) := dk_180 0 19 (dk_at dksX2_cell_0 1 rfl rfl)
theorem dX2_cell_4 : decode cX2_cell 4 = .ok (.bipush 12, 2) := dk_16 12 (dk_at dksX2_cell_0 4 rfl rfl)
theorem dX2_cell_6 : decode cX2_cell 6 = .ok (.iload_n 1, 1) := dk_27 (dk_at dksX2_cell_0 6 rfl rfl)
theorem dX2_cell_7 : decode cX2_cell 7 = .ok (.imul, 1) := dk_104 (dk_at dksX2_cell_0 7 rfl rfl)
theorem dX2_cell_8 : decode cX2_cell 8 = .ok (.iload_n 2, 1) := dk_28 (dk_at dksX2_cell_0 8 rfl rfl)
theorem dX2_cell_9 : decode cX2_cell 9 = .ok (.iadd, 1) := dk_96 (dk_at dksX2_cell_0 9 rfl rfl)
theorem dX2_cell_10 : decode cX2_cell 10 = .ok (.invokeinterface 77 2, 5) := by decide +kernel
theorem dX2_cell_15 : decode cX2_cell 15 = .ok (.checkcast 46, 3) := dk_192 0 46 (dk_at dksX2_cell_0 15 rfl rfl)
theorem dX2_cell_18 : decode cX2_cell 18 = .ok (.areturn, 1) := dk_176 (dk_at dksX2_cell_0 18 rfl rfl)
abbrev cX2_shown : ByteArray := prog_11_method_4_code
def yX2_shown : MethodName := ⟨RX2, "shown", "(I)Ljava/util/List;"⟩
def dkwX2_shown_4 : List UInt8 := [167, 255, 171, 44, 176]
abbrev dktX2_shown_4 : List UInt8 := dkwX2_shown_4 ++ []
def dkwX2_shown_3 : List UInt8 := [167, 255, 219, 25, 4, 182, 0, 96, 153, 0, 13, 44, 21, 5, 25, 4, 185, 0, 104, 3, 0, 132, 3, 1]
abbrev dktX2_shown_3 : List UInt8 := dkwX2_shown_3 ++ dktX2_shown_4
def dkwX2_shown_2 : List UInt8 := [25, 4, 44, 21, 5, 4, 100, 185, 0, 77, 2, 0, 192, 0, 37, 182, 0, 100, 153, 0, 9, 132, 5, 255]
abbrev dktX2_shown_2 : List UInt8 := dkwX2_shown_2 ++ dktX2_shown_3
def dkwX2_shown_1 : List UInt8 := [58, 4, 44, 185, 0, 81, 1, 0, 54, 5, 25, 4, 182, 0, 96, 153, 0, 35, 21, 5, 158, 0, 30]
abbrev dktX2_shown_1 : List UInt8 := dkwX2_shown_1 ++ dktX2_shown_2
def dkwX2_shown_0 : List UInt8 := [187, 0, 16, 89, 183, 0, 18, 77, 3, 62, 29, 16, 12, 162, 0, 85, 42, 180, 0, 11, 27, 50, 29, 50]
abbrev dktX2_shown_0 : List UInt8 := dkwX2_shown_0 ++ dktX2_shown_1
theorem dksX2_shown_0 : cX2_shown.data.toList.drop 0 = dktX2_shown_0 := by decide +kernel
theorem dksX2_shown_1 : cX2_shown.data.toList.drop 24 = dktX2_shown_1 := dk_seg dksX2_shown_0 24 rfl rfl
theorem dksX2_shown_2 : cX2_shown.data.toList.drop 47 = dktX2_shown_2 := dk_seg dksX2_shown_1 23 rfl rfl
theorem dksX2_shown_3 : cX2_shown.data.toList.drop 71 = dktX2_shown_3 := dk_seg dksX2_shown_2 24 rfl rfl
theorem dksX2_shown_4 : cX2_shown.data.toList.drop 95 = dktX2_shown_4 := dk_seg dksX2_shown_3 24 rfl rfl
theorem dX2_shown_0 : decode cX2_shown 0 = .ok (.new 16, 3) := dk_187 0 16 (dk_at dksX2_shown_0 0 rfl rfl)
theorem dX2_shown_3 : decode cX2_shown 3 = .ok (.dup, 1) := dk_89 (dk_at dksX2_shown_0 3 rfl rfl)
theorem dX2_shown_4 : decode cX2_shown 4 = .ok (.invokespecial 18, 3) := dk_183 0 18 (dk_at dksX2_shown_0 4 rfl rfl)
theorem dX2_shown_7 : decode cX2_shown 7 = .ok (.astore_n 2, 1) := dk_77 (dk_at dksX2_shown_0 7 rfl rfl)
theorem dX2_shown_8 : decode cX2_shown 8 = .ok (.iconst 0, 1) := dk_3 (dk_at dksX2_shown_0 8 rfl rfl)
theorem dX2_shown_9 : decode cX2_shown 9 = .ok (.istore_n 3, 1) := dk_62 (dk_at dksX2_shown_0 9 rfl rfl)
theorem dX2_shown_10 : decode cX2_shown 10 = .ok (.iload_n 3, 1) := dk_29 (dk_at dksX2_shown_0 10 rfl rfl)
theorem dX2_shown_11 : decode cX2_shown 11 = .ok (.bipush 12, 2) := dk_16 12 (dk_at dksX2_shown_0 11 rfl rfl)
theorem dX2_shown_13 : decode cX2_shown 13 = .ok (.if_icmp .ge 85, 3) := dk_162 0 85 (dk_at dksX2_shown_0 13 rfl rfl)
theorem dX2_shown_16 : decode cX2_shown 16 = .ok (.aload_n 0, 1) := dk_42 (dk_at dksX2_shown_0 16 rfl rfl)
theorem dX2_shown_17 : decode cX2_shown 17 = .ok (.getfield 11, 3) := dk_180 0 11 (dk_at dksX2_shown_0 17 rfl rfl)
theorem dX2_shown_20 : decode cX2_shown 20 = .ok (.iload_n 1, 1) := dk_27 (dk_at dksX2_shown_0 20 rfl rfl)
theorem dX2_shown_21 : decode cX2_shown 21 = .ok (.aaload, 1) := dk_50 (dk_at dksX2_shown_0 21 rfl rfl)
theorem dX2_shown_22 : decode cX2_shown 22 = .ok (.iload_n 3, 1) := dk_29 (dk_at dksX2_shown_0 22 rfl rfl)
theorem dX2_shown_23 : decode cX2_shown 23 = .ok (.aaload, 1) := dk_50 (dk_at dksX2_shown_0 23 rfl rfl)
theorem dX2_shown_24 : decode cX2_shown 24 = .ok (.astore 4, 2) := dk_58 4 (dk_at dksX2_shown_1 0 rfl rfl)
theorem dX2_shown_26 : decode cX2_shown 26 = .ok (.aload_n 2, 1) := dk_44 (dk_at dksX2_shown_1 2 rfl rfl)
theorem dX2_shown_27 : decode cX2_shown 27 = .ok (.invokeinterface 81 1, 5) := by decide +kernel
theorem dX2_shown_32 : decode cX2_shown 32 = .ok (.istore 5, 2) := dk_54 5 (dk_at dksX2_shown_1 8 rfl rfl)
theorem dX2_shown_34 : decode cX2_shown 34 = .ok (.aload 4, 2) := dk_25 4 (dk_at dksX2_shown_1 10 rfl rfl)
theorem dX2_shown_36 : decode cX2_shown 36 = .ok (.invokevirtual 96, 3) := dk_182 0 96 (dk_at dksX2_shown_1 12 rfl rfl)
theorem dX2_shown_39 : decode cX2_shown 39 = .ok (.ifCond .eq 35, 3) := dk_153 0 35 (dk_at dksX2_shown_1 15 rfl rfl)
theorem dX2_shown_42 : decode cX2_shown 42 = .ok (.iload 5, 2) := dk_21 5 (dk_at dksX2_shown_1 18 rfl rfl)
theorem dX2_shown_44 : decode cX2_shown 44 = .ok (.ifCond .le 30, 3) := dk_158 0 30 (dk_at dksX2_shown_1 20 rfl rfl)
theorem dX2_shown_47 : decode cX2_shown 47 = .ok (.aload 4, 2) := dk_25 4 (dk_at dksX2_shown_2 0 rfl rfl)
theorem dX2_shown_49 : decode cX2_shown 49 = .ok (.aload_n 2, 1) := dk_44 (dk_at dksX2_shown_2 2 rfl rfl)
theorem dX2_shown_50 : decode cX2_shown 50 = .ok (.iload 5, 2) := dk_21 5 (dk_at dksX2_shown_2 3 rfl rfl)
theorem dX2_shown_52 : decode cX2_shown 52 = .ok (.iconst 1, 1) := dk_4 (dk_at dksX2_shown_2 5 rfl rfl)
theorem dX2_shown_53 : decode cX2_shown 53 = .ok (.isub, 1) := dk_100 (dk_at dksX2_shown_2 6 rfl rfl)
theorem dX2_shown_54 : decode cX2_shown 54 = .ok (.invokeinterface 77 2, 5) := by decide +kernel
theorem dX2_shown_59 : decode cX2_shown 59 = .ok (.checkcast 37, 3) := dk_192 0 37 (dk_at dksX2_shown_2 12 rfl rfl)
theorem dX2_shown_62 : decode cX2_shown 62 = .ok (.invokevirtual 100, 3) := dk_182 0 100 (dk_at dksX2_shown_2 15 rfl rfl)
theorem dX2_shown_65 : decode cX2_shown 65 = .ok (.ifCond .eq 9, 3) := dk_153 0 9 (dk_at dksX2_shown_2 18 rfl rfl)
theorem dX2_shown_68 : decode cX2_shown 68 = .ok (.iinc 5 (-1), 3) := dk_132 5 255 (dk_at dksX2_shown_2 21 rfl rfl)
theorem dX2_shown_71 : decode cX2_shown 71 = .ok (.goto (-37), 3) := dk_167 255 219 (dk_at dksX2_shown_3 0 rfl rfl)
theorem dX2_shown_74 : decode cX2_shown 74 = .ok (.aload 4, 2) := dk_25 4 (dk_at dksX2_shown_3 3 rfl rfl)
theorem dX2_shown_76 : decode cX2_shown 76 = .ok (.invokevirtual 96, 3) := dk_182 0 96 (dk_at dksX2_shown_3 5 rfl rfl)
theorem dX2_shown_79 : decode cX2_shown 79 = .ok (.ifCond .eq 13, 3) := dk_153 0 13 (dk_at dksX2_shown_3 8 rfl rfl)
theorem dX2_shown_82 : decode cX2_shown 82 = .ok (.aload_n 2, 1) := dk_44 (dk_at dksX2_shown_3 11 rfl rfl)
theorem dX2_shown_83 : decode cX2_shown 83 = .ok (.iload 5, 2) := dk_21 5 (dk_at dksX2_shown_3 12 rfl rfl)
theorem dX2_shown_85 : decode cX2_shown 85 = .ok (.aload 4, 2) := dk_25 4 (dk_at dksX2_shown_3 14 rfl rfl)
theorem dX2_shown_87 : decode cX2_shown 87 = .ok (.invokeinterface 104 3, 5) := by decide +kernel
theorem dX2_shown_92 : decode cX2_shown 92 = .ok (.iinc 3 1, 3) := dk_132 3 1 (dk_at dksX2_shown_3 21 rfl rfl)
theorem dX2_shown_95 : decode cX2_shown 95 = .ok (.goto (-85), 3) := dk_167 255 171 (dk_at dksX2_shown_4 0 rfl rfl)
theorem dX2_shown_98 : decode cX2_shown 98 = .ok (.aload_n 2, 1) := dk_44 (dk_at dksX2_shown_4 3 rfl rfl)
theorem dX2_shown_99 : decode cX2_shown 99 = .ok (.areturn, 1) := dk_176 (dk_at dksX2_shown_4 4 rfl rfl)
abbrev cX2_does : ByteArray := prog_11_method_6_code
def yX2_does : MethodName := ⟨RX2, "does", "(IIIILSharedSheet$Content;)V"⟩
def dkwX2_does_2 : List UInt8 := [185, 0, 55, 2, 0, 87, 42, 25, 6, 182, 0, 146, 177]
abbrev dktX2_does_2 : List UInt8 := dkwX2_does_2 ++ []
def dkwX2_does_1 : List UInt8 := [180, 0, 33, 183, 0, 140, 28, 29, 21, 4, 25, 5, 183, 0, 143, 58, 6, 42, 180, 0, 23, 25, 6]
abbrev dktX2_does_1 : List UInt8 := dkwX2_does_1 ++ dktX2_does_2
def dkwX2_does_0 : List UInt8 := [42, 89, 180, 0, 93, 4, 96, 181, 0, 93, 187, 0, 85, 89, 27, 187, 0, 138, 89, 42, 180, 0, 93, 42]
abbrev dktX2_does_0 : List UInt8 := dkwX2_does_0 ++ dktX2_does_1
theorem dksX2_does_0 : cX2_does.data.toList.drop 0 = dktX2_does_0 := by decide +kernel
theorem dksX2_does_1 : cX2_does.data.toList.drop 24 = dktX2_does_1 := dk_seg dksX2_does_0 24 rfl rfl
theorem dksX2_does_2 : cX2_does.data.toList.drop 47 = dktX2_does_2 := dk_seg dksX2_does_1 23 rfl rfl
theorem dX2_does_0 : decode cX2_does 0 = .ok (.aload_n 0, 1) := dk_42 (dk_at dksX2_does_0 0 rfl rfl)
theorem dX2_does_1 : decode cX2_does 1 = .ok (.dup, 1) := dk_89 (dk_at dksX2_does_0 1 rfl rfl)
theorem dX2_does_2 : decode cX2_does 2 = .ok (.getfield 93, 3) := dk_180 0 93 (dk_at dksX2_does_0 2 rfl rfl)
theorem dX2_does_5 : decode cX2_does 5 = .ok (.iconst 1, 1) := dk_4 (dk_at dksX2_does_0 5 rfl rfl)
theorem dX2_does_6 : decode cX2_does 6 = .ok (.iadd, 1) := dk_96 (dk_at dksX2_does_0 6 rfl rfl)
theorem dX2_does_7 : decode cX2_does 7 = .ok (.putfield 93, 3) := dk_181 0 93 (dk_at dksX2_does_0 7 rfl rfl)
theorem dX2_does_10 : decode cX2_does 10 = .ok (.new 85, 3) := dk_187 0 85 (dk_at dksX2_does_0 10 rfl rfl)
theorem dX2_does_13 : decode cX2_does 13 = .ok (.dup, 1) := dk_89 (dk_at dksX2_does_0 13 rfl rfl)
theorem dX2_does_14 : decode cX2_does 14 = .ok (.iload_n 1, 1) := dk_27 (dk_at dksX2_does_0 14 rfl rfl)
theorem dX2_does_15 : decode cX2_does 15 = .ok (.new 138, 3) := dk_187 0 138 (dk_at dksX2_does_0 15 rfl rfl)
theorem dX2_does_18 : decode cX2_does 18 = .ok (.dup, 1) := dk_89 (dk_at dksX2_does_0 18 rfl rfl)
theorem dX2_does_19 : decode cX2_does 19 = .ok (.aload_n 0, 1) := dk_42 (dk_at dksX2_does_0 19 rfl rfl)
theorem dX2_does_20 : decode cX2_does 20 = .ok (.getfield 93, 3) := dk_180 0 93 (dk_at dksX2_does_0 20 rfl rfl)
theorem dX2_does_23 : decode cX2_does 23 = .ok (.aload_n 0, 1) := dk_42 (dk_at dksX2_does_0 23 rfl rfl)
theorem dX2_does_24 : decode cX2_does 24 = .ok (.getfield 33, 3) := dk_180 0 33 (dk_at dksX2_does_1 0 rfl rfl)
theorem dX2_does_27 : decode cX2_does 27 = .ok (.invokespecial 140, 3) := dk_183 0 140 (dk_at dksX2_does_1 3 rfl rfl)
theorem dX2_does_30 : decode cX2_does 30 = .ok (.iload_n 2, 1) := dk_28 (dk_at dksX2_does_1 6 rfl rfl)
theorem dX2_does_31 : decode cX2_does 31 = .ok (.iload_n 3, 1) := dk_29 (dk_at dksX2_does_1 7 rfl rfl)
theorem dX2_does_32 : decode cX2_does 32 = .ok (.iload 4, 2) := dk_21 4 (dk_at dksX2_does_1 8 rfl rfl)
theorem dX2_does_34 : decode cX2_does 34 = .ok (.aload 5, 2) := dk_25 5 (dk_at dksX2_does_1 10 rfl rfl)
theorem dX2_does_36 : decode cX2_does 36 = .ok (.invokespecial 143, 3) := dk_183 0 143 (dk_at dksX2_does_1 12 rfl rfl)
theorem dX2_does_39 : decode cX2_does 39 = .ok (.astore 6, 2) := dk_58 6 (dk_at dksX2_does_1 15 rfl rfl)
theorem dX2_does_41 : decode cX2_does 41 = .ok (.aload_n 0, 1) := dk_42 (dk_at dksX2_does_1 17 rfl rfl)
theorem dX2_does_42 : decode cX2_does 42 = .ok (.getfield 23, 3) := dk_180 0 23 (dk_at dksX2_does_1 18 rfl rfl)
theorem dX2_does_45 : decode cX2_does 45 = .ok (.aload 6, 2) := dk_25 6 (dk_at dksX2_does_1 21 rfl rfl)
theorem dX2_does_47 : decode cX2_does 47 = .ok (.invokeinterface 55 2, 5) := by decide +kernel
theorem dX2_does_52 : decode cX2_does 52 = .ok (.pop, 1) := dk_87 (dk_at dksX2_does_2 5 rfl rfl)
theorem dX2_does_53 : decode cX2_does 53 = .ok (.aload_n 0, 1) := dk_42 (dk_at dksX2_does_2 6 rfl rfl)
theorem dX2_does_54 : decode cX2_does 54 = .ok (.aload 6, 2) := dk_25 6 (dk_at dksX2_does_2 7 rfl rfl)
theorem dX2_does_56 : decode cX2_does 56 = .ok (.invokevirtual 146, 3) := dk_182 0 146 (dk_at dksX2_does_2 9 rfl rfl)
theorem dX2_does_59 : decode cX2_does 59 = .ok (.return_, 1) := dk_177 (dk_at dksX2_does_2 12 rfl rfl)
theorem q93 : (Jvm.Cond.initialized "SharedSheet$Replica") ∈ lw_all := lw_g (lw_at lw_m1 8 rfl) rfl
theorem q193 : (Jvm.Cond.instantiable "SharedSheet$Replica" (7 : Nat)) ∈ lw_all := lw_g (lw_at lw_m1 108 rfl) rfl
theorem q195 : (Jvm.Cond.instanceMethod ({ cls := "SharedSheet$Replica", name := "<init>", desc := "(I)V" } : Jvm.MethodName)) ∈ lw_all := lw_g (lw_at lw_m1 110 rfl) rfl
theorem q196 : (Jvm.Cond.code ({ cls := "SharedSheet$Replica", name := "<init>", desc := "(I)V" } : Jvm.MethodName) prog_11_method_1_code (4 : Nat) (Option.none : Option Jvm.ClassFile.FieldType)) ∈ lw_all := lw_g (lw_at lw_m1 111 rfl) rfl
theorem q197 : (Jvm.Cond.methodLink "SharedSheet$Replica" (3 : Nat) ({ cls := "java/lang/Object", name := "<init>", desc := "()V" } : Jvm.MethodName)) ∈ lw_all := lw_g (lw_at lw_m1 112 rfl) rfl
theorem q198 : (Jvm.Cond.classLink "SharedSheet$Replica" (9 : Nat) "[[LSharedSheet$Line;") ∈ lw_all := lw_g (lw_at lw_m1 113 rfl) rfl
theorem q202 : (Jvm.Cond.classLink "SharedSheet$Replica" (16 : Nat) "java/util/ArrayList") ∈ lw_all := lw_g (lw_at lw_m1 117 rfl) rfl
theorem q204 : (Jvm.Cond.methodLink "SharedSheet$Replica" (18 : Nat) ({ cls := "java/util/ArrayList", name := "<init>", desc := "()V" } : Jvm.MethodName)) ∈ lw_all := lw_g (lw_at lw_m1 119 rfl) rfl
theorem q225 : (Jvm.Cond.classLink "SharedSheet$Replica" (37 : Nat) "SharedSheet$Line") ∈ lw_all := lw_g (lw_at lw_m1 140 rfl) rfl
theorem q227 : (Jvm.Cond.methodLink "SharedSheet$Replica" (39 : Nat) ({ cls := "SharedSheet$Line", name := "<init>", desc := "(I)V" } : Jvm.MethodName)) ∈ lw_all := lw_g (lw_at lw_m1 142 rfl) rfl
theorem q278 : (Jvm.Cond.fieldLinkNest "SharedSheet$Replica" (62 : Nat) "SharedSheet$Line" "place" "LSharedSheet$Register;" "SharedSheet") ∈ lw_tbl := lw_at lw_m1 193 rfl
theorem q281 : (Jvm.Cond.fieldLinkNest "SharedSheet$Replica" (70 : Nat) "SharedSheet$Line" "isMade" "Z" "SharedSheet") ∈ lw_tbl := lw_at lw_m1 196 rfl
theorem q283 : (Jvm.Cond.fieldLinkNest "SharedSheet$Replica" (74 : Nat) "SharedSheet$Line" "isRemoved" "Z" "SharedSheet") ∈ lw_tbl := lw_at lw_m1 198 rfl
theorem q293 : (Jvm.Cond.methodLinkNest "SharedSheet$Replica" (42 : Nat) ({ cls := "SharedSheet", name := "empty", desc := "()LSharedSheet$Content;" } : Jvm.MethodName) "SharedSheet") ∈ lw_tbl := lw_at lw_m1 208 rfl
theorem q320 : (Jvm.Cond.classLink "SharedSheet$Replica" (46 : Nat) "SharedSheet$Register") ∈ lw_all := lw_g (lw_at lw_m1 235 rfl) rfl
theorem q321 : (Jvm.Cond.fieldLinkNest "SharedSheet$Replica" (48 : Nat) "SharedSheet" "NEVER" "LSharedSheet$Stamp;" "SharedSheet") ∈ lw_tbl := lw_at lw_m1 236 rfl
theorem q322 : (Jvm.Cond.methodLink "SharedSheet$Replica" (52 : Nat) ({ cls := "SharedSheet$Register", name := "<init>", desc := "(Ljava/lang/Object;Ljava/lang/Comparable;)V" } : Jvm.MethodName)) ∈ lw_all := lw_g (lw_at lw_m1 237 rfl) rfl
theorem q323 : (Jvm.Cond.interfaceEntry "SharedSheet$Replica" (55 : Nat)) ∈ lw_tbl := lw_at lw_m1 238 rfl
theorem q324 : (Jvm.Cond.methodLink "SharedSheet$Replica" (55 : Nat) ({ cls := "java/util/List", name := "add", desc := "(Ljava/lang/Object;)Z" } : Jvm.MethodName)) ∈ lw_all := lw_g (lw_at lw_m1 239 rfl) rfl
theorem q371 : (Jvm.Cond.selects "SharedSheet$Replica" ({ cls := "java/lang/Object", name := "getClass", desc := "()Ljava/lang/Class;" } : Jvm.MethodName) ({ cls := "java/lang/Object", name := "getClass", desc := "()Ljava/lang/Class;" } : Jvm.MethodName)) ∈ lw_all := lw_g (lw_at lw_m2 46 rfl) rfl
theorem q400 : (Jvm.Cond.fieldLink "SharedSheet$Replica" (33 : Nat) "SharedSheet$Replica" "number" "I") ∈ lw_all := lw_g (lw_at lw_m2 75 rfl) rfl
theorem q402 : (Jvm.Cond.fieldLink "SharedSheet$Replica" (11 : Nat) "SharedSheet$Replica" "lines" "[[LSharedSheet$Line;") ∈ lw_all := lw_g (lw_at lw_m2 77 rfl) rfl
theorem q404 : (Jvm.Cond.fieldLink "SharedSheet$Replica" (19 : Nat) "SharedSheet$Replica" "cells" "Ljava/util/List;") ∈ lw_all := lw_g (lw_at lw_m2 79 rfl) rfl
theorem q406 : (Jvm.Cond.fieldLink "SharedSheet$Replica" (23 : Nat) "SharedSheet$Replica" "log" "Ljava/util/List;") ∈ lw_all := lw_g (lw_at lw_m2 81 rfl) rfl
theorem q408 : (Jvm.Cond.fieldLink "SharedSheet$Replica" (26 : Nat) "SharedSheet$Replica" "received" "[I") ∈ lw_all := lw_g (lw_at lw_m2 83 rfl) rfl
theorem q410 : (Jvm.Cond.fieldLink "SharedSheet$Replica" (30 : Nat) "SharedSheet$Replica" "made" "[I") ∈ lw_all := lw_g (lw_at lw_m2 85 rfl) rfl
theorem q412 : (Jvm.Cond.fieldLink "SharedSheet$Replica" (93 : Nat) "SharedSheet$Replica" "clock" "I") ∈ lw_all := lw_g (lw_at lw_m2 87 rfl) rfl
theorem q414 : (Jvm.Cond.laysFinal "SharedSheet$Replica" "SharedSheet$Replica" "number" "I") ∈ lw_all := lw_g (lw_at lw_m2 89 rfl) rfl
theorem q415 : (Jvm.Cond.soleField "SharedSheet$Replica" "number") ∈ lw_all := lw_g (lw_at lw_m2 90 rfl) rfl
theorem q416 : (Jvm.Cond.laysFinal "SharedSheet$Replica" "SharedSheet$Replica" "lines" "[[LSharedSheet$Line;") ∈ lw_all := lw_g (lw_at lw_m2 91 rfl) rfl
theorem q417 : (Jvm.Cond.soleField "SharedSheet$Replica" "lines") ∈ lw_all := lw_g (lw_at lw_m2 92 rfl) rfl
theorem q418 : (Jvm.Cond.laysFinal "SharedSheet$Replica" "SharedSheet$Replica" "cells" "Ljava/util/List;") ∈ lw_all := lw_g (lw_at lw_m2 93 rfl) rfl
theorem q419 : (Jvm.Cond.soleField "SharedSheet$Replica" "cells") ∈ lw_all := lw_g (lw_at lw_m2 94 rfl) rfl
theorem q420 : (Jvm.Cond.laysFinal "SharedSheet$Replica" "SharedSheet$Replica" "log" "Ljava/util/List;") ∈ lw_all := lw_g (lw_at lw_m2 95 rfl) rfl
theorem q421 : (Jvm.Cond.soleField "SharedSheet$Replica" "log") ∈ lw_all := lw_g (lw_at lw_m2 96 rfl) rfl
theorem q422 : (Jvm.Cond.laysFinal "SharedSheet$Replica" "SharedSheet$Replica" "received" "[I") ∈ lw_all := lw_g (lw_at lw_m2 97 rfl) rfl
theorem q423 : (Jvm.Cond.soleField "SharedSheet$Replica" "received") ∈ lw_all := lw_g (lw_at lw_m2 98 rfl) rfl
theorem q424 : (Jvm.Cond.laysFinal "SharedSheet$Replica" "SharedSheet$Replica" "made" "[I") ∈ lw_all := lw_g (lw_at lw_m2 99 rfl) rfl
theorem q425 : (Jvm.Cond.soleField "SharedSheet$Replica" "made") ∈ lw_all := lw_g (lw_at lw_m2 100 rfl) rfl
theorem q426 : (Jvm.Cond.lays "SharedSheet$Replica" "SharedSheet$Replica" "clock" "I") ∈ lw_all := lw_g (lw_at lw_m2 101 rfl) rfl
theorem q427 : (Jvm.Cond.soleField "SharedSheet$Replica" "clock") ∈ lw_all := lw_g (lw_at lw_m2 102 rfl) rfl
theorem q428 : (Jvm.Cond.superclass "SharedSheet$Replica" "java/lang/Object") ∈ lw_all := lw_g (lw_at lw_m2 103 rfl) rfl
theorem q472 : (Jvm.Cond.instanceMethod ({ cls := "SharedSheet$Replica", name := "copy", desc := "()LSharedSheet$Replica;" } : Jvm.MethodName)) ∈ lw_all := lw_g (lw_at lw_m2 147 rfl) rfl
theorem q473 : (Jvm.Cond.selects "SharedSheet$Replica" ({ cls := "SharedSheet$Replica", name := "copy", desc := "()LSharedSheet$Replica;" } : Jvm.MethodName) ({ cls := "SharedSheet$Replica", name := "copy", desc := "()LSharedSheet$Replica;" } : Jvm.MethodName)) ∈ lw_all := lw_g (lw_at lw_m2 148 rfl) rfl
theorem q474 : (Jvm.Cond.code ({ cls := "SharedSheet$Replica", name := "copy", desc := "()LSharedSheet$Replica;" } : Jvm.MethodName) prog_11_method_2_code (4 : Nat) (Option.some (Jvm.ClassFile.FieldType.object "SharedSheet$Replica"))) ∈ lw_all := lw_g (lw_at lw_m2 149 rfl) rfl
theorem q475 : (Jvm.Cond.classLink "SharedSheet$Replica" (12 : Nat) "SharedSheet$Replica") ∈ lw_all := lw_g (lw_at lw_m2 150 rfl) rfl
theorem q476 : (Jvm.Cond.methodLink "SharedSheet$Replica" (61 : Nat) ({ cls := "SharedSheet$Replica", name := "<init>", desc := "(I)V" } : Jvm.MethodName)) ∈ lw_all := lw_g (lw_at lw_m2 151 rfl) rfl
theorem q477 : (Jvm.Cond.methodLink "SharedSheet$Replica" (66 : Nat) ({ cls := "SharedSheet$Register", name := "become", desc := "(LSharedSheet$Register;)V" } : Jvm.MethodName)) ∈ lw_all := lw_g (lw_at lw_m2 152 rfl) rfl
theorem q481 : (Jvm.Cond.interfaceEntry "SharedSheet$Replica" (77 : Nat)) ∈ lw_tbl := lw_at lw_m2 156 rfl
theorem q482 : (Jvm.Cond.methodLink "SharedSheet$Replica" (77 : Nat) ({ cls := "java/util/List", name := "get", desc := "(I)Ljava/lang/Object;" } : Jvm.MethodName)) ∈ lw_all := lw_g (lw_at lw_m2 157 rfl) rfl
theorem q500 : (Jvm.Cond.interfaceEntry "SharedSheet$Replica" (81 : Nat)) ∈ lw_tbl := lw_at lw_m2 175 rfl
theorem q501 : (Jvm.Cond.methodLink "SharedSheet$Replica" (81 : Nat) ({ cls := "java/util/List", name := "size", desc := "()I" } : Jvm.MethodName)) ∈ lw_all := lw_g (lw_at lw_m2 176 rfl) rfl
theorem q509 : (Jvm.Cond.classLink "SharedSheet$Replica" (85 : Nat) "SharedSheet$Operation") ∈ lw_all := lw_g (lw_at lw_m2 184 rfl) rfl
theorem q510 : (Jvm.Cond.methodLink "SharedSheet$Replica" (87 : Nat) ({ cls := "java/lang/System", name := "arraycopy", desc := "(Ljava/lang/Object;ILjava/lang/Object;II)V" } : Jvm.MethodName)) ∈ lw_all := lw_g (lw_at lw_m2 185 rfl) rfl
theorem q604 : (Jvm.Cond.instanceMethod ({ cls := "SharedSheet$Replica", name := "receive", desc := "(LSharedSheet$Replica;)V" } : Jvm.MethodName)) ∈ lw_all := lw_g (lw_at lw_m3 39 rfl) rfl
theorem q605 : (Jvm.Cond.selects "SharedSheet$Replica" ({ cls := "SharedSheet$Replica", name := "receive", desc := "(LSharedSheet$Replica;)V" } : Jvm.MethodName) ({ cls := "SharedSheet$Replica", name := "receive", desc := "(LSharedSheet$Replica;)V" } : Jvm.MethodName)) ∈ lw_all := lw_g (lw_at lw_m3 40 rfl) rfl
theorem q606 : (Jvm.Cond.code ({ cls := "SharedSheet$Replica", name := "receive", desc := "(LSharedSheet$Replica;)V" } : Jvm.MethodName) prog_11_method_7_code (3 : Nat) (Option.none : Option Jvm.ClassFile.FieldType)) ∈ lw_all := lw_g (lw_at lw_m3 41 rfl) rfl
theorem q607 : (Jvm.Cond.methodLink "SharedSheet$Replica" (151 : Nat) ({ cls := "java/lang/Math", name := "max", desc := "(II)I" } : Jvm.MethodName)) ∈ lw_all := lw_g (lw_at lw_m3 42 rfl) rfl
theorem q608 : (Jvm.Cond.methodLink "SharedSheet$Replica" (146 : Nat) ({ cls := "SharedSheet$Replica", name := "perform", desc := "(LSharedSheet$Operation;)V" } : Jvm.MethodName)) ∈ lw_all := lw_g (lw_at lw_m3 43 rfl) rfl
theorem q609 : (Jvm.Cond.instanceMethod ({ cls := "SharedSheet$Replica", name := "perform", desc := "(LSharedSheet$Operation;)V" } : Jvm.MethodName)) ∈ lw_all := lw_g (lw_at lw_m3 44 rfl) rfl
theorem q610 : (Jvm.Cond.selects "SharedSheet$Replica" ({ cls := "SharedSheet$Replica", name := "perform", desc := "(LSharedSheet$Operation;)V" } : Jvm.MethodName) ({ cls := "SharedSheet$Replica", name := "perform", desc := "(LSharedSheet$Operation;)V" } : Jvm.MethodName)) ∈ lw_all := lw_g (lw_at lw_m3 45 rfl) rfl
theorem q611 : (Jvm.Cond.code ({ cls := "SharedSheet$Replica", name := "perform", desc := "(LSharedSheet$Operation;)V" } : Jvm.MethodName) prog_11_method_5_code (3 : Nat) (Option.none : Option Jvm.ClassFile.FieldType)) ∈ lw_all := lw_g (lw_at lw_m3 46 rfl) rfl
theorem q612 : (Jvm.Cond.methodLink "SharedSheet$Replica" (118 : Nat) ({ cls := "java/lang/Integer", name := "valueOf", desc := "(I)Ljava/lang/Integer;" } : Jvm.MethodName)) ∈ lw_all := lw_g (lw_at lw_m3 47 rfl) rfl
theorem q613 : (Jvm.Cond.methodLink "SharedSheet$Replica" (127 : Nat) ({ cls := "SharedSheet$Register", name := "set", desc := "(Ljava/lang/Object;Ljava/lang/Comparable;)V" } : Jvm.MethodName)) ∈ lw_all := lw_g (lw_at lw_m3 48 rfl) rfl
theorem q852 : (Jvm.Cond.methodLink "SharedSheet$Replica" (130 : Nat) ({ cls := "SharedSheet$Replica", name := "cell", desc := "(II)LSharedSheet$Register;" } : Jvm.MethodName)) ∈ lw_all := lw_g (lw_at lw_m4 47 rfl) rfl
theorem q853 : (Jvm.Cond.instanceMethod ({ cls := "SharedSheet$Replica", name := "cell", desc := "(II)LSharedSheet$Register;" } : Jvm.MethodName)) ∈ lw_all := lw_g (lw_at lw_m4 48 rfl) rfl
theorem q854 : (Jvm.Cond.selects "SharedSheet$Replica" ({ cls := "SharedSheet$Replica", name := "cell", desc := "(II)LSharedSheet$Register;" } : Jvm.MethodName) ({ cls := "SharedSheet$Replica", name := "cell", desc := "(II)LSharedSheet$Register;" } : Jvm.MethodName)) ∈ lw_all := lw_g (lw_at lw_m4 49 rfl) rfl
theorem q855 : (Jvm.Cond.code ({ cls := "SharedSheet$Replica", name := "cell", desc := "(II)LSharedSheet$Register;" } : Jvm.MethodName) prog_11_method_3_code (3 : Nat) (Option.some (Jvm.ClassFile.FieldType.object "SharedSheet$Register"))) ∈ lw_all := lw_g (lw_at lw_m4 50 rfl) rfl
theorem q1150 : (Jvm.Cond.instanceMethod ({ cls := "SharedSheet$Replica", name := "shown", desc := "(I)Ljava/util/List;" } : Jvm.MethodName)) ∈ lw_all := lw_g (lw_at lw_m5 105 rfl) rfl
theorem q1151 : (Jvm.Cond.selects "SharedSheet$Replica" ({ cls := "SharedSheet$Replica", name := "shown", desc := "(I)Ljava/util/List;" } : Jvm.MethodName) ({ cls := "SharedSheet$Replica", name := "shown", desc := "(I)Ljava/util/List;" } : Jvm.MethodName)) ∈ lw_all := lw_g (lw_at lw_m5 106 rfl) rfl
theorem q1152 : (Jvm.Cond.code ({ cls := "SharedSheet$Replica", name := "shown", desc := "(I)Ljava/util/List;" } : Jvm.MethodName) prog_11_method_4_code (6 : Nat) (Option.some (Jvm.ClassFile.FieldType.object "java/util/List"))) ∈ lw_all := lw_g (lw_at lw_m5 107 rfl) rfl
theorem q1153 : (Jvm.Cond.methodLink "SharedSheet$Replica" (96 : Nat) ({ cls := "SharedSheet$Line", name := "isShown", desc := "()Z" } : Jvm.MethodName)) ∈ lw_all := lw_g (lw_at lw_m5 108 rfl) rfl
theorem q1157 : (Jvm.Cond.methodLink "SharedSheet$Replica" (100 : Nat) ({ cls := "SharedSheet$Line", name := "isBefore", desc := "(LSharedSheet$Line;)Z" } : Jvm.MethodName)) ∈ lw_all := lw_g (lw_at lw_m5 112 rfl) rfl
theorem q1163 : (Jvm.Cond.interfaceEntry "SharedSheet$Replica" (104 : Nat)) ∈ lw_tbl := lw_at lw_m5 118 rfl
theorem q1164 : (Jvm.Cond.methodLink "SharedSheet$Replica" (104 : Nat) ({ cls := "java/util/List", name := "add", desc := "(ILjava/lang/Object;)V" } : Jvm.MethodName)) ∈ lw_all := lw_g (lw_at lw_m5 119 rfl) rfl
theorem q1474 : (Jvm.Cond.instanceMethod ({ cls := "SharedSheet$Replica", name := "does", desc := "(IIIILSharedSheet$Content;)V" } : Jvm.MethodName)) ∈ lw_all := lw_g (lw_at lw_m6 189 rfl) rfl
theorem q1475 : (Jvm.Cond.selects "SharedSheet$Replica" ({ cls := "SharedSheet$Replica", name := "does", desc := "(IIIILSharedSheet$Content;)V" } : Jvm.MethodName) ({ cls := "SharedSheet$Replica", name := "does", desc := "(IIIILSharedSheet$Content;)V" } : Jvm.MethodName)) ∈ lw_all := lw_g (lw_at lw_m6 190 rfl) rfl
theorem q1476 : (Jvm.Cond.code ({ cls := "SharedSheet$Replica", name := "does", desc := "(IIIILSharedSheet$Content;)V" } : Jvm.MethodName) prog_11_method_6_code (7 : Nat) (Option.none : Option Jvm.ClassFile.FieldType)) ∈ lw_all := lw_g (lw_at lw_m6 191 rfl) rfl
theorem q1478 : (Jvm.Cond.classLink "SharedSheet$Replica" (138 : Nat) "SharedSheet$Stamp") ∈ lw_all := lw_g (lw_at lw_m6 193 rfl) rfl
theorem q1480 : (Jvm.Cond.methodLink "SharedSheet$Replica" (140 : Nat) ({ cls := "SharedSheet$Stamp", name := "<init>", desc := "(II)V" } : Jvm.MethodName)) ∈ lw_all := lw_g (lw_at lw_m6 195 rfl) rfl
theorem q1486 : (Jvm.Cond.fieldLinkNest "SharedSheet$Replica" (150 : Nat) "SharedSheet$Stamp" "clock" "I" "SharedSheet") ∈ lw_tbl := lw_at lw_m6 201 rfl
theorem q1495 : (Jvm.Cond.methodLink "SharedSheet$Replica" (143 : Nat) ({ cls := "SharedSheet$Operation", name := "<init>", desc := "(ILSharedSheet$Stamp;IIILSharedSheet$Content;)V" } : Jvm.MethodName)) ∈ lw_all := lw_g (lw_at lw_m6 210 rfl) rfl
theorem q1500 : (Jvm.Cond.fieldLinkNest "SharedSheet$Replica" (113 : Nat) "SharedSheet$Operation" "what" "I" "SharedSheet") ∈ lw_tbl := lw_at lw_m6 215 rfl
theorem q1502 : (Jvm.Cond.fieldLinkNest "SharedSheet$Replica" (124 : Nat) "SharedSheet$Operation" "stamp" "LSharedSheet$Stamp;" "SharedSheet") ∈ lw_tbl := lw_at lw_m6 217 rfl
theorem q1504 : (Jvm.Cond.fieldLinkNest "SharedSheet$Replica" (107 : Nat) "SharedSheet$Operation" "kind" "I" "SharedSheet") ∈ lw_tbl := lw_at lw_m6 219 rfl
theorem q1506 : (Jvm.Cond.fieldLinkNest "SharedSheet$Replica" (110 : Nat) "SharedSheet$Operation" "line" "I" "SharedSheet") ∈ lw_tbl := lw_at lw_m6 221 rfl
theorem q1508 : (Jvm.Cond.fieldLinkNest "SharedSheet$Replica" (116 : Nat) "SharedSheet$Operation" "place" "I" "SharedSheet") ∈ lw_tbl := lw_at lw_m6 223 rfl
theorem q1510 : (Jvm.Cond.fieldLinkNest "SharedSheet$Replica" (134 : Nat) "SharedSheet$Operation" "content" "LSharedSheet$Content;" "SharedSheet") ∈ lw_tbl := lw_at lw_m6 225 rfl
theorem q2397 : (Jvm.Cond.castable "SharedSheet$Replica" "java/lang/Object") ∈ lw_tbl := lw_at lw_m10 152 rfl
theorem in_X2 : ∀ w ∈ wsX20, w ∈ lw_all := lw_in wsX20 [414, 416, 418, 420, 422, 424, 426] (by decide +kernel) (by decide +kernel)
/-! SharedSheet$Line -/
set_option maxRecDepth 100000
def RX3 : String := "SharedSheet$Line"
def TX3 : u_T := fun k => match k with
  | 0 => ("SharedSheet$Line", "number", "I", true)
  | 1 => ("SharedSheet$Line", "place", "LSharedSheet$Register;", true)
  | 2 => ("SharedSheet$Line", "isMade", "Z", false)
  | _ => ("SharedSheet$Line", "isRemoved", "Z", false)
def tyX3 : Nat → FieldType := fun k => match k with
  | 0 => .int
  | 1 => .object "SharedSheet$Register"
  | 2 => .boolean
  | _ => .boolean
abbrev wsX30 : List Cond := u_ws RX3 TX3 4
theorem nmX3 : ∀ a, a < 4 → ∀ b, b < 4 → a ≠ b → (TX3 a).2.1 ≠ (TX3 b).2.1 := by decide +kernel
theorem tyX3_ok : ∀ k, k < 4 → parseFieldDescriptor (TX3 k).2.2.1 = some (tyX3 k) := by decide +kernel
abbrev cX3_init : ByteArray := prog_6_method_1_code
def yX3_init : MethodName := ⟨RX3, "<init>", "(I)V"⟩
def dkwX3_init_3 : List UInt8 := [181, 0, 37, 177]
abbrev dktX3_init_3 : List UInt8 := dkwX3_init_3 ++ []
def dkwX3_init_2 : List UInt8 := [184, 0, 21, 42, 180, 0, 15, 153, 0, 9, 178, 0, 27, 167, 0, 6, 178, 0, 31, 183, 0, 34]
abbrev dktX3_init_2 : List UInt8 := dkwX3_init_2 ++ dktX3_init_3
def dkwX3_init_1 : List UInt8 := [187, 0, 19, 89, 42, 180, 0, 15, 153, 0, 13, 17, 3, 232, 27, 4, 96, 104, 167, 0, 4, 2]
abbrev dktX3_init_1 : List UInt8 := dkwX3_init_1 ++ dktX3_init_2
def dkwX3_init_0 : List UInt8 := [42, 183, 0, 3, 42, 27, 181, 0, 9, 42, 27, 6, 162, 0, 7, 4, 167, 0, 4, 3, 181, 0, 15, 42]
abbrev dktX3_init_0 : List UInt8 := dkwX3_init_0 ++ dktX3_init_1
theorem dksX3_init_0 : cX3_init.data.toList.drop 0 = dktX3_init_0 := by decide +kernel
theorem dksX3_init_1 : cX3_init.data.toList.drop 24 = dktX3_init_1 := dk_seg dksX3_init_0 24 rfl rfl
theorem dksX3_init_2 : cX3_init.data.toList.drop 46 = dktX3_init_2 := dk_seg dksX3_init_1 22 rfl rfl
theorem dksX3_init_3 : cX3_init.data.toList.drop 68 = dktX3_init_3 := dk_seg dksX3_init_2 22 rfl rfl
theorem dX3_init_0 : decode cX3_init 0 = .ok (.aload_n 0, 1) := dk_42 (dk_at dksX3_init_0 0 rfl rfl)
theorem dX3_init_1 : decode cX3_init 1 = .ok (.invokespecial 3, 3) := dk_183 0 3 (dk_at dksX3_init_0 1 rfl rfl)
theorem dX3_init_4 : decode cX3_init 4 = .ok (.aload_n 0, 1) := dk_42 (dk_at dksX3_init_0 4 rfl rfl)
theorem dX3_init_5 : decode cX3_init 5 = .ok (.iload_n 1, 1) := dk_27 (dk_at dksX3_init_0 5 rfl rfl)
theorem dX3_init_6 : decode cX3_init 6 = .ok (.putfield 9, 3) := dk_181 0 9 (dk_at dksX3_init_0 6 rfl rfl)
theorem dX3_init_9 : decode cX3_init 9 = .ok (.aload_n 0, 1) := dk_42 (dk_at dksX3_init_0 9 rfl rfl)
theorem dX3_init_10 : decode cX3_init 10 = .ok (.iload_n 1, 1) := dk_27 (dk_at dksX3_init_0 10 rfl rfl)
theorem dX3_init_11 : decode cX3_init 11 = .ok (.iconst 3, 1) := dk_6 (dk_at dksX3_init_0 11 rfl rfl)
theorem dX3_init_12 : decode cX3_init 12 = .ok (.if_icmp .ge 7, 3) := dk_162 0 7 (dk_at dksX3_init_0 12 rfl rfl)
theorem dX3_init_15 : decode cX3_init 15 = .ok (.iconst 1, 1) := dk_4 (dk_at dksX3_init_0 15 rfl rfl)
theorem dX3_init_16 : decode cX3_init 16 = .ok (.goto 4, 3) := dk_167 0 4 (dk_at dksX3_init_0 16 rfl rfl)
theorem dX3_init_19 : decode cX3_init 19 = .ok (.iconst 0, 1) := dk_3 (dk_at dksX3_init_0 19 rfl rfl)
theorem dX3_init_20 : decode cX3_init 20 = .ok (.putfield 15, 3) := dk_181 0 15 (dk_at dksX3_init_0 20 rfl rfl)
theorem dX3_init_23 : decode cX3_init 23 = .ok (.aload_n 0, 1) := dk_42 (dk_at dksX3_init_0 23 rfl rfl)
theorem dX3_init_24 : decode cX3_init 24 = .ok (.new 19, 3) := dk_187 0 19 (dk_at dksX3_init_1 0 rfl rfl)
theorem dX3_init_27 : decode cX3_init 27 = .ok (.dup, 1) := dk_89 (dk_at dksX3_init_1 3 rfl rfl)
theorem dX3_init_28 : decode cX3_init 28 = .ok (.aload_n 0, 1) := dk_42 (dk_at dksX3_init_1 4 rfl rfl)
theorem dX3_init_29 : decode cX3_init 29 = .ok (.getfield 15, 3) := dk_180 0 15 (dk_at dksX3_init_1 5 rfl rfl)
theorem dX3_init_32 : decode cX3_init 32 = .ok (.ifCond .eq 13, 3) := dk_153 0 13 (dk_at dksX3_init_1 8 rfl rfl)
theorem dX3_init_35 : decode cX3_init 35 = .ok (.sipush 1000, 3) := dk_17 3 232 (dk_at dksX3_init_1 11 rfl rfl)
theorem dX3_init_38 : decode cX3_init 38 = .ok (.iload_n 1, 1) := dk_27 (dk_at dksX3_init_1 14 rfl rfl)
theorem dX3_init_39 : decode cX3_init 39 = .ok (.iconst 1, 1) := dk_4 (dk_at dksX3_init_1 15 rfl rfl)
theorem dX3_init_40 : decode cX3_init 40 = .ok (.iadd, 1) := dk_96 (dk_at dksX3_init_1 16 rfl rfl)
theorem dX3_init_41 : decode cX3_init 41 = .ok (.imul, 1) := dk_104 (dk_at dksX3_init_1 17 rfl rfl)
theorem dX3_init_42 : decode cX3_init 42 = .ok (.goto 4, 3) := dk_167 0 4 (dk_at dksX3_init_1 18 rfl rfl)
theorem dX3_init_45 : decode cX3_init 45 = .ok (.iconst (-1), 1) := dk_2 (dk_at dksX3_init_1 21 rfl rfl)
theorem dX3_init_46 : decode cX3_init 46 = .ok (.invokestatic 21, 3) := dk_184 0 21 (dk_at dksX3_init_2 0 rfl rfl)
theorem dX3_init_49 : decode cX3_init 49 = .ok (.aload_n 0, 1) := dk_42 (dk_at dksX3_init_2 3 rfl rfl)
theorem dX3_init_50 : decode cX3_init 50 = .ok (.getfield 15, 3) := dk_180 0 15 (dk_at dksX3_init_2 4 rfl rfl)
theorem dX3_init_53 : decode cX3_init 53 = .ok (.ifCond .eq 9, 3) := dk_153 0 9 (dk_at dksX3_init_2 7 rfl rfl)
theorem dX3_init_56 : decode cX3_init 56 = .ok (.getstatic 27, 3) := dk_178 0 27 (dk_at dksX3_init_2 10 rfl rfl)
theorem dX3_init_59 : decode cX3_init 59 = .ok (.goto 6, 3) := dk_167 0 6 (dk_at dksX3_init_2 13 rfl rfl)
theorem dX3_init_62 : decode cX3_init 62 = .ok (.getstatic 31, 3) := dk_178 0 31 (dk_at dksX3_init_2 16 rfl rfl)
theorem dX3_init_65 : decode cX3_init 65 = .ok (.invokespecial 34, 3) := dk_183 0 34 (dk_at dksX3_init_2 19 rfl rfl)
theorem dX3_init_68 : decode cX3_init 68 = .ok (.putfield 37, 3) := dk_181 0 37 (dk_at dksX3_init_3 0 rfl rfl)
theorem dX3_init_71 : decode cX3_init 71 = .ok (.return_, 1) := dk_177 (dk_at dksX3_init_3 3 rfl rfl)
abbrev cX3_isShown : ByteArray := prog_6_method_2_code
def yX3_isShown : MethodName := ⟨RX3, "isShown", "()Z"⟩
def dkwX3_isShown_0 : List UInt8 := [42, 180, 0, 15, 153, 0, 14, 42, 180, 0, 41, 154, 0, 7, 4, 167, 0, 4, 3, 172]
abbrev dktX3_isShown_0 : List UInt8 := dkwX3_isShown_0 ++ []
theorem dksX3_isShown_0 : cX3_isShown.data.toList.drop 0 = dktX3_isShown_0 := by decide +kernel
theorem dX3_isShown_0 : decode cX3_isShown 0 = .ok (.aload_n 0, 1) := dk_42 (dk_at dksX3_isShown_0 0 rfl rfl)
theorem dX3_isShown_1 : decode cX3_isShown 1 = .ok (.getfield 15, 3) := dk_180 0 15 (dk_at dksX3_isShown_0 1 rfl rfl)
theorem dX3_isShown_4 : decode cX3_isShown 4 = .ok (.ifCond .eq 14, 3) := dk_153 0 14 (dk_at dksX3_isShown_0 4 rfl rfl)
theorem dX3_isShown_7 : decode cX3_isShown 7 = .ok (.aload_n 0, 1) := dk_42 (dk_at dksX3_isShown_0 7 rfl rfl)
theorem dX3_isShown_8 : decode cX3_isShown 8 = .ok (.getfield 41, 3) := dk_180 0 41 (dk_at dksX3_isShown_0 8 rfl rfl)
theorem dX3_isShown_11 : decode cX3_isShown 11 = .ok (.ifCond .ne 7, 3) := dk_154 0 7 (dk_at dksX3_isShown_0 11 rfl rfl)
theorem dX3_isShown_14 : decode cX3_isShown 14 = .ok (.iconst 1, 1) := dk_4 (dk_at dksX3_isShown_0 14 rfl rfl)
theorem dX3_isShown_15 : decode cX3_isShown 15 = .ok (.goto 4, 3) := dk_167 0 4 (dk_at dksX3_isShown_0 15 rfl rfl)
theorem dX3_isShown_18 : decode cX3_isShown 18 = .ok (.iconst 0, 1) := dk_3 (dk_at dksX3_isShown_0 18 rfl rfl)
theorem dX3_isShown_19 : decode cX3_isShown 19 = .ok (.ireturn, 1) := dk_172 (dk_at dksX3_isShown_0 19 rfl rfl)
abbrev cX3_isBefore : ByteArray := prog_6_method_3_code
def yX3_isBefore : MethodName := ⟨RX3, "isBefore", "(LSharedSheet$Line;)Z"⟩
def dkwX3_isBefore_2 : List UInt8 := [162, 0, 7, 4, 167, 0, 4, 3, 172]
abbrev dktX3_isBefore_2 : List UInt8 := dkwX3_isBefore_2 ++ []
def dkwX3_isBefore_1 : List UInt8 := [28, 153, 0, 15, 28, 156, 0, 7, 4, 167, 0, 23, 3, 167, 0, 19, 42, 180, 0, 9, 43, 180, 0, 9]
abbrev dktX3_isBefore_1 : List UInt8 := dkwX3_isBefore_1 ++ dktX3_isBefore_2
def dkwX3_isBefore_0 : List UInt8 := [42, 180, 0, 37, 180, 0, 44, 192, 0, 22, 43, 180, 0, 37, 180, 0, 44, 192, 0, 22, 182, 0, 48, 61]
abbrev dktX3_isBefore_0 : List UInt8 := dkwX3_isBefore_0 ++ dktX3_isBefore_1
theorem dksX3_isBefore_0 : cX3_isBefore.data.toList.drop 0 = dktX3_isBefore_0 := by decide +kernel
theorem dksX3_isBefore_1 : cX3_isBefore.data.toList.drop 24 = dktX3_isBefore_1 := dk_seg dksX3_isBefore_0 24 rfl rfl
theorem dksX3_isBefore_2 : cX3_isBefore.data.toList.drop 48 = dktX3_isBefore_2 := dk_seg dksX3_isBefore_1 24 rfl rfl
theorem dX3_isBefore_0 : decode cX3_isBefore 0 = .ok (.aload_n 0, 1) := dk_42 (dk_at dksX3_isBefore_0 0 rfl rfl)
theorem dX3_isBefore_1 : decode cX3_isBefore 1 = .ok (.getfield 37, 3) := dk_180 0 37 (dk_at dksX3_isBefore_0 1 rfl rfl)
theorem dX3_isBefore_4 : decode cX3_isBefore 4 = .ok (.getfield 44, 3) := dk_180 0 44 (dk_at dksX3_isBefore_0 4 rfl rfl)
theorem dX3_isBefore_7 : decode cX3_isBefore 7 = .ok (.checkcast 22, 3) := dk_192 0 22 (dk_at dksX3_isBefore_0 7 rfl rfl)
theorem dX3_isBefore_10 : decode cX3_isBefore 10 = .ok (.aload_n 1, 1) := dk_43 (dk_at dksX3_isBefore_0 10 rfl rfl)
theorem dX3_isBefore_11 : decode cX3_isBefore 11 = .ok (.getfield 37, 3) := dk_180 0 37 (dk_at dksX3_isBefore_0 11 rfl rfl)
theorem dX3_isBefore_14 : decode cX3_isBefore 14 = .ok (.getfield 44, 3) := dk_180 0 44 (dk_at dksX3_isBefore_0 14 rfl rfl)
theorem dX3_isBefore_17 : decode cX3_isBefore 17 = .ok (.checkcast 22, 3) := dk_192 0 22 (dk_at dksX3_isBefore_0 17 rfl rfl)
theorem dX3_isBefore_20 : decode cX3_isBefore 20 = .ok (.invokevirtual 48, 3) := dk_182 0 48 (dk_at dksX3_isBefore_0 20 rfl rfl)
theorem dX3_isBefore_23 : decode cX3_isBefore 23 = .ok (.istore_n 2, 1) := dk_61 (dk_at dksX3_isBefore_0 23 rfl rfl)
theorem dX3_isBefore_24 : decode cX3_isBefore 24 = .ok (.iload_n 2, 1) := dk_28 (dk_at dksX3_isBefore_1 0 rfl rfl)
theorem dX3_isBefore_25 : decode cX3_isBefore 25 = .ok (.ifCond .eq 15, 3) := dk_153 0 15 (dk_at dksX3_isBefore_1 1 rfl rfl)
theorem dX3_isBefore_28 : decode cX3_isBefore 28 = .ok (.iload_n 2, 1) := dk_28 (dk_at dksX3_isBefore_1 4 rfl rfl)
theorem dX3_isBefore_29 : decode cX3_isBefore 29 = .ok (.ifCond .ge 7, 3) := dk_156 0 7 (dk_at dksX3_isBefore_1 5 rfl rfl)
theorem dX3_isBefore_32 : decode cX3_isBefore 32 = .ok (.iconst 1, 1) := dk_4 (dk_at dksX3_isBefore_1 8 rfl rfl)
theorem dX3_isBefore_33 : decode cX3_isBefore 33 = .ok (.goto 23, 3) := dk_167 0 23 (dk_at dksX3_isBefore_1 9 rfl rfl)
theorem dX3_isBefore_36 : decode cX3_isBefore 36 = .ok (.iconst 0, 1) := dk_3 (dk_at dksX3_isBefore_1 12 rfl rfl)
theorem dX3_isBefore_37 : decode cX3_isBefore 37 = .ok (.goto 19, 3) := dk_167 0 19 (dk_at dksX3_isBefore_1 13 rfl rfl)
theorem dX3_isBefore_40 : decode cX3_isBefore 40 = .ok (.aload_n 0, 1) := dk_42 (dk_at dksX3_isBefore_1 16 rfl rfl)
theorem dX3_isBefore_41 : decode cX3_isBefore 41 = .ok (.getfield 9, 3) := dk_180 0 9 (dk_at dksX3_isBefore_1 17 rfl rfl)
theorem dX3_isBefore_44 : decode cX3_isBefore 44 = .ok (.aload_n 1, 1) := dk_43 (dk_at dksX3_isBefore_1 20 rfl rfl)
theorem dX3_isBefore_45 : decode cX3_isBefore 45 = .ok (.getfield 9, 3) := dk_180 0 9 (dk_at dksX3_isBefore_1 21 rfl rfl)
theorem dX3_isBefore_48 : decode cX3_isBefore 48 = .ok (.if_icmp .ge 7, 3) := dk_162 0 7 (dk_at dksX3_isBefore_2 0 rfl rfl)
theorem dX3_isBefore_51 : decode cX3_isBefore 51 = .ok (.iconst 1, 1) := dk_4 (dk_at dksX3_isBefore_2 3 rfl rfl)
theorem dX3_isBefore_52 : decode cX3_isBefore 52 = .ok (.goto 4, 3) := dk_167 0 4 (dk_at dksX3_isBefore_2 4 rfl rfl)
theorem dX3_isBefore_55 : decode cX3_isBefore 55 = .ok (.iconst 0, 1) := dk_3 (dk_at dksX3_isBefore_2 7 rfl rfl)
theorem dX3_isBefore_56 : decode cX3_isBefore 56 = .ok (.ireturn, 1) := dk_172 (dk_at dksX3_isBefore_2 8 rfl rfl)
theorem q96 : (Jvm.Cond.initialized "SharedSheet$Line") ∈ lw_all := lw_g (lw_at lw_m1 11 rfl) rfl
theorem q226 : (Jvm.Cond.instantiable "SharedSheet$Line" (4 : Nat)) ∈ lw_all := lw_g (lw_at lw_m1 141 rfl) rfl
theorem q228 : (Jvm.Cond.instanceMethod ({ cls := "SharedSheet$Line", name := "<init>", desc := "(I)V" } : Jvm.MethodName)) ∈ lw_all := lw_g (lw_at lw_m1 143 rfl) rfl
theorem q229 : (Jvm.Cond.code ({ cls := "SharedSheet$Line", name := "<init>", desc := "(I)V" } : Jvm.MethodName) prog_6_method_1_code (2 : Nat) (Option.none : Option Jvm.ClassFile.FieldType)) ∈ lw_all := lw_g (lw_at lw_m1 144 rfl) rfl
theorem q230 : (Jvm.Cond.methodLink "SharedSheet$Line" (3 : Nat) ({ cls := "java/lang/Object", name := "<init>", desc := "()V" } : Jvm.MethodName)) ∈ lw_all := lw_g (lw_at lw_m1 145 rfl) rfl
theorem q231 : (Jvm.Cond.classLink "SharedSheet$Line" (19 : Nat) "SharedSheet$Register") ∈ lw_all := lw_g (lw_at lw_m1 146 rfl) rfl
theorem q233 : (Jvm.Cond.methodLink "SharedSheet$Line" (21 : Nat) ({ cls := "java/lang/Integer", name := "valueOf", desc := "(I)Ljava/lang/Integer;" } : Jvm.MethodName)) ∈ lw_all := lw_g (lw_at lw_m1 148 rfl) rfl
theorem q254 : (Jvm.Cond.fieldLinkNest "SharedSheet$Line" (27 : Nat) "SharedSheet" "BEGINNING" "LSharedSheet$Stamp;" "SharedSheet") ∈ lw_tbl := lw_at lw_m1 169 rfl
theorem q256 : (Jvm.Cond.fieldLinkNest "SharedSheet$Line" (31 : Nat) "SharedSheet" "NEVER" "LSharedSheet$Stamp;" "SharedSheet") ∈ lw_tbl := lw_at lw_m1 171 rfl
theorem q258 : (Jvm.Cond.methodLink "SharedSheet$Line" (34 : Nat) ({ cls := "SharedSheet$Register", name := "<init>", desc := "(Ljava/lang/Object;Ljava/lang/Comparable;)V" } : Jvm.MethodName)) ∈ lw_all := lw_g (lw_at lw_m1 173 rfl) rfl
theorem q263 : (Jvm.Cond.fieldLinkNest "SharedSheet$Line" (44 : Nat) "SharedSheet$Register" "content" "Ljava/lang/Object;" "SharedSheet") ∈ lw_tbl := lw_at lw_m1 178 rfl
theorem q273 : (Jvm.Cond.fieldLink "SharedSheet$Line" (9 : Nat) "SharedSheet$Line" "number" "I") ∈ lw_all := lw_g (lw_at lw_m1 188 rfl) rfl
theorem q277 : (Jvm.Cond.fieldLink "SharedSheet$Line" (37 : Nat) "SharedSheet$Line" "place" "LSharedSheet$Register;") ∈ lw_all := lw_g (lw_at lw_m1 192 rfl) rfl
theorem q280 : (Jvm.Cond.fieldLink "SharedSheet$Line" (15 : Nat) "SharedSheet$Line" "isMade" "Z") ∈ lw_all := lw_g (lw_at lw_m1 195 rfl) rfl
theorem q282 : (Jvm.Cond.fieldLink "SharedSheet$Line" (41 : Nat) "SharedSheet$Line" "isRemoved" "Z") ∈ lw_all := lw_g (lw_at lw_m1 197 rfl) rfl
theorem q284 : (Jvm.Cond.laysFinal "SharedSheet$Line" "SharedSheet$Line" "number" "I") ∈ lw_all := lw_g (lw_at lw_m1 199 rfl) rfl
theorem q285 : (Jvm.Cond.soleField "SharedSheet$Line" "number") ∈ lw_all := lw_g (lw_at lw_m1 200 rfl) rfl
theorem q286 : (Jvm.Cond.laysFinal "SharedSheet$Line" "SharedSheet$Line" "place" "LSharedSheet$Register;") ∈ lw_all := lw_g (lw_at lw_m1 201 rfl) rfl
theorem q287 : (Jvm.Cond.soleField "SharedSheet$Line" "place") ∈ lw_all := lw_g (lw_at lw_m1 202 rfl) rfl
theorem q288 : (Jvm.Cond.lays "SharedSheet$Line" "SharedSheet$Line" "isMade" "Z") ∈ lw_all := lw_g (lw_at lw_m1 203 rfl) rfl
theorem q289 : (Jvm.Cond.soleField "SharedSheet$Line" "isMade") ∈ lw_all := lw_g (lw_at lw_m1 204 rfl) rfl
theorem q290 : (Jvm.Cond.lays "SharedSheet$Line" "SharedSheet$Line" "isRemoved" "Z") ∈ lw_all := lw_g (lw_at lw_m1 205 rfl) rfl
theorem q291 : (Jvm.Cond.soleField "SharedSheet$Line" "isRemoved") ∈ lw_all := lw_g (lw_at lw_m1 206 rfl) rfl
theorem q292 : (Jvm.Cond.superclass "SharedSheet$Line" "java/lang/Object") ∈ lw_all := lw_g (lw_at lw_m1 207 rfl) rfl
theorem q366 : (Jvm.Cond.selects "SharedSheet$Line" ({ cls := "java/lang/Object", name := "getClass", desc := "()Ljava/lang/Class;" } : Jvm.MethodName) ({ cls := "java/lang/Object", name := "getClass", desc := "()Ljava/lang/Class;" } : Jvm.MethodName)) ∈ lw_all := lw_g (lw_at lw_m2 41 rfl) rfl
theorem q1154 : (Jvm.Cond.instanceMethod ({ cls := "SharedSheet$Line", name := "isShown", desc := "()Z" } : Jvm.MethodName)) ∈ lw_all := lw_g (lw_at lw_m5 109 rfl) rfl
theorem q1155 : (Jvm.Cond.selects "SharedSheet$Line" ({ cls := "SharedSheet$Line", name := "isShown", desc := "()Z" } : Jvm.MethodName) ({ cls := "SharedSheet$Line", name := "isShown", desc := "()Z" } : Jvm.MethodName)) ∈ lw_all := lw_g (lw_at lw_m5 110 rfl) rfl
theorem q1156 : (Jvm.Cond.code ({ cls := "SharedSheet$Line", name := "isShown", desc := "()Z" } : Jvm.MethodName) prog_6_method_2_code (1 : Nat) (Option.some Jvm.ClassFile.FieldType.boolean)) ∈ lw_all := lw_g (lw_at lw_m5 111 rfl) rfl
theorem q1158 : (Jvm.Cond.instanceMethod ({ cls := "SharedSheet$Line", name := "isBefore", desc := "(LSharedSheet$Line;)Z" } : Jvm.MethodName)) ∈ lw_all := lw_g (lw_at lw_m5 113 rfl) rfl
theorem q1159 : (Jvm.Cond.selects "SharedSheet$Line" ({ cls := "SharedSheet$Line", name := "isBefore", desc := "(LSharedSheet$Line;)Z" } : Jvm.MethodName) ({ cls := "SharedSheet$Line", name := "isBefore", desc := "(LSharedSheet$Line;)Z" } : Jvm.MethodName)) ∈ lw_all := lw_g (lw_at lw_m5 114 rfl) rfl
theorem q1160 : (Jvm.Cond.code ({ cls := "SharedSheet$Line", name := "isBefore", desc := "(LSharedSheet$Line;)Z" } : Jvm.MethodName) prog_6_method_3_code (3 : Nat) (Option.some Jvm.ClassFile.FieldType.boolean)) ∈ lw_all := lw_g (lw_at lw_m5 115 rfl) rfl
theorem q1161 : (Jvm.Cond.classLink "SharedSheet$Line" (22 : Nat) "java/lang/Integer") ∈ lw_all := lw_g (lw_at lw_m5 116 rfl) rfl
theorem q1162 : (Jvm.Cond.methodLink "SharedSheet$Line" (48 : Nat) ({ cls := "java/lang/Integer", name := "compareTo", desc := "(Ljava/lang/Integer;)I" } : Jvm.MethodName)) ∈ lw_all := lw_g (lw_at lw_m5 117 rfl) rfl
theorem q2398 : (Jvm.Cond.castable "SharedSheet$Line" "java/lang/Object") ∈ lw_tbl := lw_at lw_m10 153 rfl
theorem in_X3 : ∀ w ∈ wsX30, w ∈ lw_all := lw_in wsX30 [284, 286, 288, 290] (by decide +kernel) (by decide +kernel)
/-! SharedSheet$Register -/
set_option maxRecDepth 100000
def RX4 : String := "SharedSheet$Register"
def TX4 : u_T := fun k => match k with
  | 0 => ("SharedSheet$Register", "content", "Ljava/lang/Object;", false)
  | _ => ("SharedSheet$Register", "stamp", "Ljava/lang/Comparable;", false)
def tyX4 : Nat → FieldType := fun k => match k with
  | 0 => .object "java/lang/Object"
  | _ => .object "java/lang/Comparable"
abbrev wsX40 : List Cond := u_ws RX4 TX4 2
theorem nmX4 : ∀ a, a < 2 → ∀ b, b < 2 → a ≠ b → (TX4 a).2.1 ≠ (TX4 b).2.1 := by decide +kernel
theorem tyX4_ok : ∀ k, k < 2 → parseFieldDescriptor (TX4 k).2.2.1 = some (tyX4 k) := by decide +kernel
abbrev cX4_init : ByteArray := prog_10_method_1_code
def yX4_init : MethodName := ⟨RX4, "<init>", "(Ljava/lang/Object;Ljava/lang/Comparable;)V"⟩
def dkwX4_init_0 : List UInt8 := [42, 183, 0, 1, 42, 43, 181, 0, 7, 42, 44, 181, 0, 13, 177]
abbrev dktX4_init_0 : List UInt8 := dkwX4_init_0 ++ []
theorem dksX4_init_0 : cX4_init.data.toList.drop 0 = dktX4_init_0 := by decide +kernel
theorem dX4_init_0 : decode cX4_init 0 = .ok (.aload_n 0, 1) := dk_42 (dk_at dksX4_init_0 0 rfl rfl)
theorem dX4_init_1 : decode cX4_init 1 = .ok (.invokespecial 1, 3) := dk_183 0 1 (dk_at dksX4_init_0 1 rfl rfl)
theorem dX4_init_4 : decode cX4_init 4 = .ok (.aload_n 0, 1) := dk_42 (dk_at dksX4_init_0 4 rfl rfl)
theorem dX4_init_5 : decode cX4_init 5 = .ok (.aload_n 1, 1) := dk_43 (dk_at dksX4_init_0 5 rfl rfl)
theorem dX4_init_6 : decode cX4_init 6 = .ok (.putfield 7, 3) := dk_181 0 7 (dk_at dksX4_init_0 6 rfl rfl)
theorem dX4_init_9 : decode cX4_init 9 = .ok (.aload_n 0, 1) := dk_42 (dk_at dksX4_init_0 9 rfl rfl)
theorem dX4_init_10 : decode cX4_init 10 = .ok (.aload_n 2, 1) := dk_44 (dk_at dksX4_init_0 10 rfl rfl)
theorem dX4_init_11 : decode cX4_init 11 = .ok (.putfield 13, 3) := dk_181 0 13 (dk_at dksX4_init_0 11 rfl rfl)
theorem dX4_init_14 : decode cX4_init 14 = .ok (.return_, 1) := dk_177 (dk_at dksX4_init_0 14 rfl rfl)
abbrev cX4_become : ByteArray := prog_10_method_2_code
def yX4_become : MethodName := ⟨RX4, "become", "(LSharedSheet$Register;)V"⟩
def dkwX4_become_0 : List UInt8 := [42, 43, 180, 0, 7, 181, 0, 7, 42, 43, 180, 0, 13, 181, 0, 13, 177]
abbrev dktX4_become_0 : List UInt8 := dkwX4_become_0 ++ []
theorem dksX4_become_0 : cX4_become.data.toList.drop 0 = dktX4_become_0 := by decide +kernel
theorem dX4_become_0 : decode cX4_become 0 = .ok (.aload_n 0, 1) := dk_42 (dk_at dksX4_become_0 0 rfl rfl)
theorem dX4_become_1 : decode cX4_become 1 = .ok (.aload_n 1, 1) := dk_43 (dk_at dksX4_become_0 1 rfl rfl)
theorem dX4_become_2 : decode cX4_become 2 = .ok (.getfield 7, 3) := dk_180 0 7 (dk_at dksX4_become_0 2 rfl rfl)
theorem dX4_become_5 : decode cX4_become 5 = .ok (.putfield 7, 3) := dk_181 0 7 (dk_at dksX4_become_0 5 rfl rfl)
theorem dX4_become_8 : decode cX4_become 8 = .ok (.aload_n 0, 1) := dk_42 (dk_at dksX4_become_0 8 rfl rfl)
theorem dX4_become_9 : decode cX4_become 9 = .ok (.aload_n 1, 1) := dk_43 (dk_at dksX4_become_0 9 rfl rfl)
theorem dX4_become_10 : decode cX4_become 10 = .ok (.getfield 13, 3) := dk_180 0 13 (dk_at dksX4_become_0 10 rfl rfl)
theorem dX4_become_13 : decode cX4_become 13 = .ok (.putfield 13, 3) := dk_181 0 13 (dk_at dksX4_become_0 13 rfl rfl)
theorem dX4_become_16 : decode cX4_become 16 = .ok (.return_, 1) := dk_177 (dk_at dksX4_become_0 16 rfl rfl)
abbrev cX4_set : ByteArray := prog_10_method_3_code
def yX4_set : MethodName := ⟨RX4, "set", "(Ljava/lang/Object;Ljava/lang/Comparable;)V"⟩
def dkwX4_set_0 : List UInt8 := [44, 42, 180, 0, 13, 185, 0, 17, 2, 0, 158, 0, 13, 42, 43, 181, 0, 7, 42, 44, 181, 0, 13, 177]
abbrev dktX4_set_0 : List UInt8 := dkwX4_set_0 ++ []
theorem dksX4_set_0 : cX4_set.data.toList.drop 0 = dktX4_set_0 := by decide +kernel
theorem dX4_set_0 : decode cX4_set 0 = .ok (.aload_n 2, 1) := dk_44 (dk_at dksX4_set_0 0 rfl rfl)
theorem dX4_set_1 : decode cX4_set 1 = .ok (.aload_n 0, 1) := dk_42 (dk_at dksX4_set_0 1 rfl rfl)
theorem dX4_set_2 : decode cX4_set 2 = .ok (.getfield 13, 3) := dk_180 0 13 (dk_at dksX4_set_0 2 rfl rfl)
theorem dX4_set_5 : decode cX4_set 5 = .ok (.invokeinterface 17 2, 5) := by decide +kernel
theorem dX4_set_10 : decode cX4_set 10 = .ok (.ifCond .le 13, 3) := dk_158 0 13 (dk_at dksX4_set_0 10 rfl rfl)
theorem dX4_set_13 : decode cX4_set 13 = .ok (.aload_n 0, 1) := dk_42 (dk_at dksX4_set_0 13 rfl rfl)
theorem dX4_set_14 : decode cX4_set 14 = .ok (.aload_n 1, 1) := dk_43 (dk_at dksX4_set_0 14 rfl rfl)
theorem dX4_set_15 : decode cX4_set 15 = .ok (.putfield 7, 3) := dk_181 0 7 (dk_at dksX4_set_0 15 rfl rfl)
theorem dX4_set_18 : decode cX4_set 18 = .ok (.aload_n 0, 1) := dk_42 (dk_at dksX4_set_0 18 rfl rfl)
theorem dX4_set_19 : decode cX4_set 19 = .ok (.aload_n 2, 1) := dk_44 (dk_at dksX4_set_0 19 rfl rfl)
theorem dX4_set_20 : decode cX4_set 20 = .ok (.putfield 13, 3) := dk_181 0 13 (dk_at dksX4_set_0 20 rfl rfl)
theorem dX4_set_23 : decode cX4_set 23 = .ok (.return_, 1) := dk_177 (dk_at dksX4_set_0 23 rfl rfl)
theorem q97 : (Jvm.Cond.initialized "SharedSheet$Register") ∈ lw_all := lw_g (lw_at lw_m1 12 rfl) rfl
theorem q232 : (Jvm.Cond.instantiable "SharedSheet$Register" (2 : Nat)) ∈ lw_all := lw_g (lw_at lw_m1 147 rfl) rfl
theorem q259 : (Jvm.Cond.instanceMethod ({ cls := "SharedSheet$Register", name := "<init>", desc := "(Ljava/lang/Object;Ljava/lang/Comparable;)V" } : Jvm.MethodName)) ∈ lw_all := lw_g (lw_at lw_m1 174 rfl) rfl
theorem q260 : (Jvm.Cond.code ({ cls := "SharedSheet$Register", name := "<init>", desc := "(Ljava/lang/Object;Ljava/lang/Comparable;)V" } : Jvm.MethodName) prog_10_method_1_code (3 : Nat) (Option.none : Option Jvm.ClassFile.FieldType)) ∈ lw_all := lw_g (lw_at lw_m1 175 rfl) rfl
theorem q261 : (Jvm.Cond.methodLink "SharedSheet$Register" (1 : Nat) ({ cls := "java/lang/Object", name := "<init>", desc := "()V" } : Jvm.MethodName)) ∈ lw_all := lw_g (lw_at lw_m1 176 rfl) rfl
theorem q262 : (Jvm.Cond.fieldLink "SharedSheet$Register" (7 : Nat) "SharedSheet$Register" "content" "Ljava/lang/Object;") ∈ lw_all := lw_g (lw_at lw_m1 177 rfl) rfl
theorem q266 : (Jvm.Cond.fieldLink "SharedSheet$Register" (13 : Nat) "SharedSheet$Register" "stamp" "Ljava/lang/Comparable;") ∈ lw_all := lw_g (lw_at lw_m1 181 rfl) rfl
theorem q268 : (Jvm.Cond.lays "SharedSheet$Register" "SharedSheet$Register" "content" "Ljava/lang/Object;") ∈ lw_all := lw_g (lw_at lw_m1 183 rfl) rfl
theorem q269 : (Jvm.Cond.soleField "SharedSheet$Register" "content") ∈ lw_all := lw_g (lw_at lw_m1 184 rfl) rfl
theorem q270 : (Jvm.Cond.lays "SharedSheet$Register" "SharedSheet$Register" "stamp" "Ljava/lang/Comparable;") ∈ lw_all := lw_g (lw_at lw_m1 185 rfl) rfl
theorem q271 : (Jvm.Cond.soleField "SharedSheet$Register" "stamp") ∈ lw_all := lw_g (lw_at lw_m1 186 rfl) rfl
theorem q272 : (Jvm.Cond.superclass "SharedSheet$Register" "java/lang/Object") ∈ lw_all := lw_g (lw_at lw_m1 187 rfl) rfl
theorem q370 : (Jvm.Cond.selects "SharedSheet$Register" ({ cls := "java/lang/Object", name := "getClass", desc := "()Ljava/lang/Class;" } : Jvm.MethodName) ({ cls := "java/lang/Object", name := "getClass", desc := "()Ljava/lang/Class;" } : Jvm.MethodName)) ∈ lw_all := lw_g (lw_at lw_m2 45 rfl) rfl
theorem q478 : (Jvm.Cond.instanceMethod ({ cls := "SharedSheet$Register", name := "become", desc := "(LSharedSheet$Register;)V" } : Jvm.MethodName)) ∈ lw_all := lw_g (lw_at lw_m2 153 rfl) rfl
theorem q479 : (Jvm.Cond.selects "SharedSheet$Register" ({ cls := "SharedSheet$Register", name := "become", desc := "(LSharedSheet$Register;)V" } : Jvm.MethodName) ({ cls := "SharedSheet$Register", name := "become", desc := "(LSharedSheet$Register;)V" } : Jvm.MethodName)) ∈ lw_all := lw_g (lw_at lw_m2 154 rfl) rfl
theorem q480 : (Jvm.Cond.code ({ cls := "SharedSheet$Register", name := "become", desc := "(LSharedSheet$Register;)V" } : Jvm.MethodName) prog_10_method_2_code (2 : Nat) (Option.none : Option Jvm.ClassFile.FieldType)) ∈ lw_all := lw_g (lw_at lw_m2 155 rfl) rfl
theorem q614 : (Jvm.Cond.instanceMethod ({ cls := "SharedSheet$Register", name := "set", desc := "(Ljava/lang/Object;Ljava/lang/Comparable;)V" } : Jvm.MethodName)) ∈ lw_all := lw_g (lw_at lw_m3 49 rfl) rfl
theorem q615 : (Jvm.Cond.selects "SharedSheet$Register" ({ cls := "SharedSheet$Register", name := "set", desc := "(Ljava/lang/Object;Ljava/lang/Comparable;)V" } : Jvm.MethodName) ({ cls := "SharedSheet$Register", name := "set", desc := "(Ljava/lang/Object;Ljava/lang/Comparable;)V" } : Jvm.MethodName)) ∈ lw_all := lw_g (lw_at lw_m3 50 rfl) rfl
theorem q616 : (Jvm.Cond.code ({ cls := "SharedSheet$Register", name := "set", desc := "(Ljava/lang/Object;Ljava/lang/Comparable;)V" } : Jvm.MethodName) prog_10_method_3_code (3 : Nat) (Option.none : Option Jvm.ClassFile.FieldType)) ∈ lw_all := lw_g (lw_at lw_m3 51 rfl) rfl
theorem q617 : (Jvm.Cond.interfaceEntry "SharedSheet$Register" (17 : Nat)) ∈ lw_tbl := lw_at lw_m3 52 rfl
theorem q618 : (Jvm.Cond.methodLink "SharedSheet$Register" (17 : Nat) ({ cls := "java/lang/Comparable", name := "compareTo", desc := "(Ljava/lang/Object;)I" } : Jvm.MethodName)) ∈ lw_all := lw_g (lw_at lw_m3 53 rfl) rfl
theorem q2403 : (Jvm.Cond.castable "SharedSheet$Register" "java/lang/Object") ∈ lw_tbl := lw_at lw_m10 158 rfl
theorem in_X4 : ∀ w ∈ wsX40, w ∈ lw_all := lw_in wsX40 [268, 270] (by decide +kernel) (by decide +kernel)
/-! SharedSheet$Content -/
set_option maxRecDepth 100000
def RX5 : String := "SharedSheet$Content"
def TX5 : u_T := fun k => match k with
  | 0 => ("SharedSheet$Content", "kind", "I", true)
  | 1 => ("SharedSheet$Content", "number", "I", true)
  | _ => ("SharedSheet$Content", "parts", "Ljava/util/List;", true)
def tyX5 : Nat → FieldType := fun k => match k with
  | 0 => .int
  | 1 => .int
  | _ => .object "java/util/List"
abbrev wsX50 : List Cond := u_ws RX5 TX5 3
theorem nmX5 : ∀ a, a < 3 → ∀ b, b < 3 → a ≠ b → (TX5 a).2.1 ≠ (TX5 b).2.1 := by decide +kernel
theorem tyX5_ok : ∀ k, k < 3 → parseFieldDescriptor (TX5 k).2.2.1 = some (tyX5 k) := by decide +kernel
abbrev cX5_init : ByteArray := prog_3_method_1_code
def yX5_init : MethodName := ⟨RX5, "<init>", "(IILjava/util/List;)V"⟩
def dkwX5_init_0 : List UInt8 := [42, 183, 0, 1, 42, 27, 181, 0, 7, 42, 28, 181, 0, 13, 42, 45, 181, 0, 16, 177]
abbrev dktX5_init_0 : List UInt8 := dkwX5_init_0 ++ []
theorem dksX5_init_0 : cX5_init.data.toList.drop 0 = dktX5_init_0 := by decide +kernel
theorem dX5_init_0 : decode cX5_init 0 = .ok (.aload_n 0, 1) := dk_42 (dk_at dksX5_init_0 0 rfl rfl)
theorem dX5_init_1 : decode cX5_init 1 = .ok (.invokespecial 1, 3) := dk_183 0 1 (dk_at dksX5_init_0 1 rfl rfl)
theorem dX5_init_4 : decode cX5_init 4 = .ok (.aload_n 0, 1) := dk_42 (dk_at dksX5_init_0 4 rfl rfl)
theorem dX5_init_5 : decode cX5_init 5 = .ok (.iload_n 1, 1) := dk_27 (dk_at dksX5_init_0 5 rfl rfl)
theorem dX5_init_6 : decode cX5_init 6 = .ok (.putfield 7, 3) := dk_181 0 7 (dk_at dksX5_init_0 6 rfl rfl)
theorem dX5_init_9 : decode cX5_init 9 = .ok (.aload_n 0, 1) := dk_42 (dk_at dksX5_init_0 9 rfl rfl)
theorem dX5_init_10 : decode cX5_init 10 = .ok (.iload_n 2, 1) := dk_28 (dk_at dksX5_init_0 10 rfl rfl)
theorem dX5_init_11 : decode cX5_init 11 = .ok (.putfield 13, 3) := dk_181 0 13 (dk_at dksX5_init_0 11 rfl rfl)
theorem dX5_init_14 : decode cX5_init 14 = .ok (.aload_n 0, 1) := dk_42 (dk_at dksX5_init_0 14 rfl rfl)
theorem dX5_init_15 : decode cX5_init 15 = .ok (.aload_n 3, 1) := dk_45 (dk_at dksX5_init_0 15 rfl rfl)
theorem dX5_init_16 : decode cX5_init 16 = .ok (.putfield 16, 3) := dk_181 0 16 (dk_at dksX5_init_0 16 rfl rfl)
theorem dX5_init_19 : decode cX5_init 19 = .ok (.return_, 1) := dk_177 (dk_at dksX5_init_0 19 rfl rfl)
theorem q101 : (Jvm.Cond.initialized "SharedSheet$Content") ∈ lw_all := lw_g (lw_at lw_m1 16 rfl) rfl
theorem q297 : (Jvm.Cond.instantiable "SharedSheet$Content" (3 : Nat)) ∈ lw_all := lw_g (lw_at lw_m1 212 rfl) rfl
theorem q301 : (Jvm.Cond.instanceMethod ({ cls := "SharedSheet$Content", name := "<init>", desc := "(IILjava/util/List;)V" } : Jvm.MethodName)) ∈ lw_all := lw_g (lw_at lw_m1 216 rfl) rfl
theorem q302 : (Jvm.Cond.code ({ cls := "SharedSheet$Content", name := "<init>", desc := "(IILjava/util/List;)V" } : Jvm.MethodName) prog_3_method_1_code (4 : Nat) (Option.none : Option Jvm.ClassFile.FieldType)) ∈ lw_all := lw_g (lw_at lw_m1 217 rfl) rfl
theorem q303 : (Jvm.Cond.methodLink "SharedSheet$Content" (1 : Nat) ({ cls := "java/lang/Object", name := "<init>", desc := "()V" } : Jvm.MethodName)) ∈ lw_all := lw_g (lw_at lw_m1 218 rfl) rfl
theorem q304 : (Jvm.Cond.fieldLink "SharedSheet$Content" (7 : Nat) "SharedSheet$Content" "kind" "I") ∈ lw_all := lw_g (lw_at lw_m1 219 rfl) rfl
theorem q307 : (Jvm.Cond.fieldLink "SharedSheet$Content" (13 : Nat) "SharedSheet$Content" "number" "I") ∈ lw_all := lw_g (lw_at lw_m1 222 rfl) rfl
theorem q310 : (Jvm.Cond.fieldLink "SharedSheet$Content" (16 : Nat) "SharedSheet$Content" "parts" "Ljava/util/List;") ∈ lw_all := lw_g (lw_at lw_m1 225 rfl) rfl
theorem q313 : (Jvm.Cond.laysFinal "SharedSheet$Content" "SharedSheet$Content" "kind" "I") ∈ lw_all := lw_g (lw_at lw_m1 228 rfl) rfl
theorem q314 : (Jvm.Cond.soleField "SharedSheet$Content" "kind") ∈ lw_all := lw_g (lw_at lw_m1 229 rfl) rfl
theorem q315 : (Jvm.Cond.laysFinal "SharedSheet$Content" "SharedSheet$Content" "number" "I") ∈ lw_all := lw_g (lw_at lw_m1 230 rfl) rfl
theorem q316 : (Jvm.Cond.soleField "SharedSheet$Content" "number") ∈ lw_all := lw_g (lw_at lw_m1 231 rfl) rfl
theorem q317 : (Jvm.Cond.laysFinal "SharedSheet$Content" "SharedSheet$Content" "parts" "Ljava/util/List;") ∈ lw_all := lw_g (lw_at lw_m1 232 rfl) rfl
theorem q318 : (Jvm.Cond.soleField "SharedSheet$Content" "parts") ∈ lw_all := lw_g (lw_at lw_m1 233 rfl) rfl
theorem q319 : (Jvm.Cond.superclass "SharedSheet$Content" "java/lang/Object") ∈ lw_all := lw_g (lw_at lw_m1 234 rfl) rfl
theorem q363 : (Jvm.Cond.selects "SharedSheet$Content" ({ cls := "java/lang/Object", name := "getClass", desc := "()Ljava/lang/Class;" } : Jvm.MethodName) ({ cls := "java/lang/Object", name := "getClass", desc := "()Ljava/lang/Class;" } : Jvm.MethodName)) ∈ lw_all := lw_g (lw_at lw_m2 38 rfl) rfl
theorem q2406 : (Jvm.Cond.castable "SharedSheet$Content" "java/lang/Object") ∈ lw_tbl := lw_at lw_m10 161 rfl
theorem in_X5 : ∀ w ∈ wsX50, w ∈ lw_all := lw_in wsX50 [313, 315, 317] (by decide +kernel) (by decide +kernel)
/-! SharedSheet$Operation -/
set_option maxRecDepth 100000
def RX7 : String := "SharedSheet$Operation"
def TX7 : u_T := fun k => match k with
  | 0 => ("SharedSheet$Operation", "what", "I", true)
  | 1 => ("SharedSheet$Operation", "stamp", "LSharedSheet$Stamp;", true)
  | 2 => ("SharedSheet$Operation", "kind", "I", true)
  | 3 => ("SharedSheet$Operation", "line", "I", true)
  | 4 => ("SharedSheet$Operation", "place", "I", true)
  | _ => ("SharedSheet$Operation", "content", "LSharedSheet$Content;", true)
def tyX7 : Nat → FieldType := fun k => match k with
  | 0 => .int
  | 1 => .object "SharedSheet$Stamp"
  | 2 => .int
  | 3 => .int
  | 4 => .int
  | _ => .object "SharedSheet$Content"
abbrev wsX70 : List Cond := u_ws RX7 TX7 6
theorem nmX7 : ∀ a, a < 6 → ∀ b, b < 6 → a ≠ b → (TX7 a).2.1 ≠ (TX7 b).2.1 := by decide +kernel
theorem tyX7_ok : ∀ k, k < 6 → parseFieldDescriptor (TX7 k).2.2.1 = some (tyX7 k) := by decide +kernel
abbrev cX7_init : ByteArray := prog_7_method_1_code
def yX7_init : MethodName := ⟨RX7, "<init>", "(ILSharedSheet$Stamp;IIILSharedSheet$Content;)V"⟩
def dkwX7_init_1 : List UInt8 := [181, 0, 22, 42, 21, 5, 181, 0, 25, 42, 25, 6, 181, 0, 28, 177]
abbrev dktX7_init_1 : List UInt8 := dkwX7_init_1 ++ []
def dkwX7_init_0 : List UInt8 := [42, 183, 0, 3, 42, 27, 181, 0, 9, 42, 44, 181, 0, 15, 42, 29, 181, 0, 19, 42, 21, 4]
abbrev dktX7_init_0 : List UInt8 := dkwX7_init_0 ++ dktX7_init_1
theorem dksX7_init_0 : cX7_init.data.toList.drop 0 = dktX7_init_0 := by decide +kernel
theorem dksX7_init_1 : cX7_init.data.toList.drop 22 = dktX7_init_1 := dk_seg dksX7_init_0 22 rfl rfl
theorem dX7_init_0 : decode cX7_init 0 = .ok (.aload_n 0, 1) := dk_42 (dk_at dksX7_init_0 0 rfl rfl)
theorem dX7_init_1 : decode cX7_init 1 = .ok (.invokespecial 3, 3) := dk_183 0 3 (dk_at dksX7_init_0 1 rfl rfl)
theorem dX7_init_4 : decode cX7_init 4 = .ok (.aload_n 0, 1) := dk_42 (dk_at dksX7_init_0 4 rfl rfl)
theorem dX7_init_5 : decode cX7_init 5 = .ok (.iload_n 1, 1) := dk_27 (dk_at dksX7_init_0 5 rfl rfl)
theorem dX7_init_6 : decode cX7_init 6 = .ok (.putfield 9, 3) := dk_181 0 9 (dk_at dksX7_init_0 6 rfl rfl)
theorem dX7_init_9 : decode cX7_init 9 = .ok (.aload_n 0, 1) := dk_42 (dk_at dksX7_init_0 9 rfl rfl)
theorem dX7_init_10 : decode cX7_init 10 = .ok (.aload_n 2, 1) := dk_44 (dk_at dksX7_init_0 10 rfl rfl)
theorem dX7_init_11 : decode cX7_init 11 = .ok (.putfield 15, 3) := dk_181 0 15 (dk_at dksX7_init_0 11 rfl rfl)
theorem dX7_init_14 : decode cX7_init 14 = .ok (.aload_n 0, 1) := dk_42 (dk_at dksX7_init_0 14 rfl rfl)
theorem dX7_init_15 : decode cX7_init 15 = .ok (.iload_n 3, 1) := dk_29 (dk_at dksX7_init_0 15 rfl rfl)
theorem dX7_init_16 : decode cX7_init 16 = .ok (.putfield 19, 3) := dk_181 0 19 (dk_at dksX7_init_0 16 rfl rfl)
theorem dX7_init_19 : decode cX7_init 19 = .ok (.aload_n 0, 1) := dk_42 (dk_at dksX7_init_0 19 rfl rfl)
theorem dX7_init_20 : decode cX7_init 20 = .ok (.iload 4, 2) := dk_21 4 (dk_at dksX7_init_0 20 rfl rfl)
theorem dX7_init_22 : decode cX7_init 22 = .ok (.putfield 22, 3) := dk_181 0 22 (dk_at dksX7_init_1 0 rfl rfl)
theorem dX7_init_25 : decode cX7_init 25 = .ok (.aload_n 0, 1) := dk_42 (dk_at dksX7_init_1 3 rfl rfl)
theorem dX7_init_26 : decode cX7_init 26 = .ok (.iload 5, 2) := dk_21 5 (dk_at dksX7_init_1 4 rfl rfl)
theorem dX7_init_28 : decode cX7_init 28 = .ok (.putfield 25, 3) := dk_181 0 25 (dk_at dksX7_init_1 6 rfl rfl)
theorem dX7_init_31 : decode cX7_init 31 = .ok (.aload_n 0, 1) := dk_42 (dk_at dksX7_init_1 9 rfl rfl)
theorem dX7_init_32 : decode cX7_init 32 = .ok (.aload 6, 2) := dk_25 6 (dk_at dksX7_init_1 10 rfl rfl)
theorem dX7_init_34 : decode cX7_init 34 = .ok (.putfield 28, 3) := dk_181 0 28 (dk_at dksX7_init_1 12 rfl rfl)
theorem dX7_init_37 : decode cX7_init 37 = .ok (.return_, 1) := dk_177 (dk_at dksX7_init_1 15 rfl rfl)
abbrev cX7_property : ByteArray := prog_7_method_2_code
def yX7_property : MethodName := ⟨RX7, "property", "(I)I"⟩
def dkwX7_property_4 : List UInt8 := [167, 0, 7, 42, 180, 0, 25, 172]
abbrev dktX7_property_4 : List UInt8 := dkwX7_property_4 ++ []
def dkwX7_property_3 : List UInt8 := [167, 0, 7, 42, 180, 0, 19, 172, 42, 180, 0, 22, 172, 42, 180, 0, 9, 6, 160, 0, 7, 2]
abbrev dktX7_property_3 : List UInt8 := dkwX7_property_3 ++ dktX7_property_4
def dkwX7_property_2 : List UInt8 := [42, 180, 0, 9, 172, 42, 180, 0, 15, 180, 0, 32, 172, 42, 180, 0, 9, 7, 160, 0, 7, 2]
abbrev dktX7_property_2 : List UInt8 := dkwX7_property_2 ++ dktX7_property_3
def dkwX7_property_1 : List UInt8 := [170, 0, 0, 0, 0, 0, 66, 0, 0, 0, 0, 0, 0, 0, 3, 0, 0, 0, 31, 0, 0, 0, 36, 0, 0, 0, 44, 0, 0, 0, 61]
abbrev dktX7_property_1 : List UInt8 := dkwX7_property_1 ++ dktX7_property_2
def dkwX7_property_0 : List UInt8 := [27]
abbrev dktX7_property_0 : List UInt8 := dkwX7_property_0 ++ dktX7_property_1
theorem dksX7_property_0 : cX7_property.data.toList.drop 0 = dktX7_property_0 := by decide +kernel
theorem dksX7_property_1 : cX7_property.data.toList.drop 1 = dktX7_property_1 := dk_seg dksX7_property_0 1 rfl rfl
theorem dksX7_property_2 : cX7_property.data.toList.drop 32 = dktX7_property_2 := dk_seg dksX7_property_1 31 rfl rfl
theorem dksX7_property_3 : cX7_property.data.toList.drop 54 = dktX7_property_3 := dk_seg dksX7_property_2 22 rfl rfl
theorem dksX7_property_4 : cX7_property.data.toList.drop 76 = dktX7_property_4 := dk_seg dksX7_property_3 22 rfl rfl
theorem dX7_property_0 : decode cX7_property 0 = .ok (.iload_n 1, 1) := dk_27 (dk_at dksX7_property_0 0 rfl rfl)
theorem dX7_property_1 : decode cX7_property 1 = .ok (.tableswitch 66 0 3 #[31, 36, 44, 61], 31) := by decide +kernel
theorem dX7_property_32 : decode cX7_property 32 = .ok (.aload_n 0, 1) := dk_42 (dk_at dksX7_property_2 0 rfl rfl)
theorem dX7_property_33 : decode cX7_property 33 = .ok (.getfield 9, 3) := dk_180 0 9 (dk_at dksX7_property_2 1 rfl rfl)
theorem dX7_property_36 : decode cX7_property 36 = .ok (.ireturn, 1) := dk_172 (dk_at dksX7_property_2 4 rfl rfl)
theorem dX7_property_37 : decode cX7_property 37 = .ok (.aload_n 0, 1) := dk_42 (dk_at dksX7_property_2 5 rfl rfl)
theorem dX7_property_38 : decode cX7_property 38 = .ok (.getfield 15, 3) := dk_180 0 15 (dk_at dksX7_property_2 6 rfl rfl)
theorem dX7_property_41 : decode cX7_property 41 = .ok (.getfield 32, 3) := dk_180 0 32 (dk_at dksX7_property_2 9 rfl rfl)
theorem dX7_property_44 : decode cX7_property 44 = .ok (.ireturn, 1) := dk_172 (dk_at dksX7_property_2 12 rfl rfl)
theorem dX7_property_45 : decode cX7_property 45 = .ok (.aload_n 0, 1) := dk_42 (dk_at dksX7_property_2 13 rfl rfl)
theorem dX7_property_46 : decode cX7_property 46 = .ok (.getfield 9, 3) := dk_180 0 9 (dk_at dksX7_property_2 14 rfl rfl)
theorem dX7_property_49 : decode cX7_property 49 = .ok (.iconst 4, 1) := dk_7 (dk_at dksX7_property_2 17 rfl rfl)
theorem dX7_property_50 : decode cX7_property 50 = .ok (.if_icmp .ne 7, 3) := dk_160 0 7 (dk_at dksX7_property_2 18 rfl rfl)
theorem dX7_property_53 : decode cX7_property 53 = .ok (.iconst (-1), 1) := dk_2 (dk_at dksX7_property_2 21 rfl rfl)
theorem dX7_property_54 : decode cX7_property 54 = .ok (.goto 7, 3) := dk_167 0 7 (dk_at dksX7_property_3 0 rfl rfl)
theorem dX7_property_57 : decode cX7_property 57 = .ok (.aload_n 0, 1) := dk_42 (dk_at dksX7_property_3 3 rfl rfl)
theorem dX7_property_58 : decode cX7_property 58 = .ok (.getfield 19, 3) := dk_180 0 19 (dk_at dksX7_property_3 4 rfl rfl)
theorem dX7_property_61 : decode cX7_property 61 = .ok (.ireturn, 1) := dk_172 (dk_at dksX7_property_3 7 rfl rfl)
theorem dX7_property_62 : decode cX7_property 62 = .ok (.aload_n 0, 1) := dk_42 (dk_at dksX7_property_3 8 rfl rfl)
theorem dX7_property_63 : decode cX7_property 63 = .ok (.getfield 22, 3) := dk_180 0 22 (dk_at dksX7_property_3 9 rfl rfl)
theorem dX7_property_66 : decode cX7_property 66 = .ok (.ireturn, 1) := dk_172 (dk_at dksX7_property_3 12 rfl rfl)
theorem dX7_property_67 : decode cX7_property 67 = .ok (.aload_n 0, 1) := dk_42 (dk_at dksX7_property_3 13 rfl rfl)
theorem dX7_property_68 : decode cX7_property 68 = .ok (.getfield 9, 3) := dk_180 0 9 (dk_at dksX7_property_3 14 rfl rfl)
theorem dX7_property_71 : decode cX7_property 71 = .ok (.iconst 3, 1) := dk_6 (dk_at dksX7_property_3 17 rfl rfl)
theorem dX7_property_72 : decode cX7_property 72 = .ok (.if_icmp .ne 7, 3) := dk_160 0 7 (dk_at dksX7_property_3 18 rfl rfl)
theorem dX7_property_75 : decode cX7_property 75 = .ok (.iconst (-1), 1) := dk_2 (dk_at dksX7_property_3 21 rfl rfl)
theorem dX7_property_76 : decode cX7_property 76 = .ok (.goto 7, 3) := dk_167 0 7 (dk_at dksX7_property_4 0 rfl rfl)
theorem dX7_property_79 : decode cX7_property 79 = .ok (.aload_n 0, 1) := dk_42 (dk_at dksX7_property_4 3 rfl rfl)
theorem dX7_property_80 : decode cX7_property 80 = .ok (.getfield 25, 3) := dk_180 0 25 (dk_at dksX7_property_4 4 rfl rfl)
theorem dX7_property_83 : decode cX7_property 83 = .ok (.ireturn, 1) := dk_172 (dk_at dksX7_property_4 7 rfl rfl)
theorem q117 : (Jvm.Cond.initialized "SharedSheet$Operation") ∈ lw_all := lw_g (lw_at lw_m1 32 rfl) rfl
theorem q367 : (Jvm.Cond.selects "SharedSheet$Operation" ({ cls := "java/lang/Object", name := "getClass", desc := "()Ljava/lang/Class;" } : Jvm.MethodName) ({ cls := "java/lang/Object", name := "getClass", desc := "()Ljava/lang/Class;" } : Jvm.MethodName)) ∈ lw_all := lw_g (lw_at lw_m2 42 rfl) rfl
theorem q1477 : (Jvm.Cond.instantiable "SharedSheet$Operation" (6 : Nat)) ∈ lw_all := lw_g (lw_at lw_m6 192 rfl) rfl
theorem q1485 : (Jvm.Cond.fieldLinkNest "SharedSheet$Operation" (32 : Nat) "SharedSheet$Stamp" "clock" "I" "SharedSheet") ∈ lw_tbl := lw_at lw_m6 200 rfl
theorem q1496 : (Jvm.Cond.instanceMethod ({ cls := "SharedSheet$Operation", name := "<init>", desc := "(ILSharedSheet$Stamp;IIILSharedSheet$Content;)V" } : Jvm.MethodName)) ∈ lw_all := lw_g (lw_at lw_m6 211 rfl) rfl
theorem q1497 : (Jvm.Cond.code ({ cls := "SharedSheet$Operation", name := "<init>", desc := "(ILSharedSheet$Stamp;IIILSharedSheet$Content;)V" } : Jvm.MethodName) prog_7_method_1_code (7 : Nat) (Option.none : Option Jvm.ClassFile.FieldType)) ∈ lw_all := lw_g (lw_at lw_m6 212 rfl) rfl
theorem q1498 : (Jvm.Cond.methodLink "SharedSheet$Operation" (3 : Nat) ({ cls := "java/lang/Object", name := "<init>", desc := "()V" } : Jvm.MethodName)) ∈ lw_all := lw_g (lw_at lw_m6 213 rfl) rfl
theorem q1499 : (Jvm.Cond.fieldLink "SharedSheet$Operation" (9 : Nat) "SharedSheet$Operation" "what" "I") ∈ lw_all := lw_g (lw_at lw_m6 214 rfl) rfl
theorem q1501 : (Jvm.Cond.fieldLink "SharedSheet$Operation" (15 : Nat) "SharedSheet$Operation" "stamp" "LSharedSheet$Stamp;") ∈ lw_all := lw_g (lw_at lw_m6 216 rfl) rfl
theorem q1503 : (Jvm.Cond.fieldLink "SharedSheet$Operation" (19 : Nat) "SharedSheet$Operation" "kind" "I") ∈ lw_all := lw_g (lw_at lw_m6 218 rfl) rfl
theorem q1505 : (Jvm.Cond.fieldLink "SharedSheet$Operation" (22 : Nat) "SharedSheet$Operation" "line" "I") ∈ lw_all := lw_g (lw_at lw_m6 220 rfl) rfl
theorem q1507 : (Jvm.Cond.fieldLink "SharedSheet$Operation" (25 : Nat) "SharedSheet$Operation" "place" "I") ∈ lw_all := lw_g (lw_at lw_m6 222 rfl) rfl
theorem q1509 : (Jvm.Cond.fieldLink "SharedSheet$Operation" (28 : Nat) "SharedSheet$Operation" "content" "LSharedSheet$Content;") ∈ lw_all := lw_g (lw_at lw_m6 224 rfl) rfl
theorem q1511 : (Jvm.Cond.laysFinal "SharedSheet$Operation" "SharedSheet$Operation" "what" "I") ∈ lw_all := lw_g (lw_at lw_m6 226 rfl) rfl
theorem q1512 : (Jvm.Cond.soleField "SharedSheet$Operation" "what") ∈ lw_all := lw_g (lw_at lw_m6 227 rfl) rfl
theorem q1513 : (Jvm.Cond.laysFinal "SharedSheet$Operation" "SharedSheet$Operation" "stamp" "LSharedSheet$Stamp;") ∈ lw_all := lw_g (lw_at lw_m6 228 rfl) rfl
theorem q1514 : (Jvm.Cond.soleField "SharedSheet$Operation" "stamp") ∈ lw_all := lw_g (lw_at lw_m6 229 rfl) rfl
theorem q1515 : (Jvm.Cond.laysFinal "SharedSheet$Operation" "SharedSheet$Operation" "kind" "I") ∈ lw_all := lw_g (lw_at lw_m6 230 rfl) rfl
theorem q1516 : (Jvm.Cond.soleField "SharedSheet$Operation" "kind") ∈ lw_all := lw_g (lw_at lw_m6 231 rfl) rfl
theorem q1517 : (Jvm.Cond.laysFinal "SharedSheet$Operation" "SharedSheet$Operation" "line" "I") ∈ lw_all := lw_g (lw_at lw_m6 232 rfl) rfl
theorem q1518 : (Jvm.Cond.soleField "SharedSheet$Operation" "line") ∈ lw_all := lw_g (lw_at lw_m6 233 rfl) rfl
theorem q1519 : (Jvm.Cond.laysFinal "SharedSheet$Operation" "SharedSheet$Operation" "place" "I") ∈ lw_all := lw_g (lw_at lw_m6 234 rfl) rfl
theorem q1520 : (Jvm.Cond.soleField "SharedSheet$Operation" "place") ∈ lw_all := lw_g (lw_at lw_m6 235 rfl) rfl
theorem q1521 : (Jvm.Cond.laysFinal "SharedSheet$Operation" "SharedSheet$Operation" "content" "LSharedSheet$Content;") ∈ lw_all := lw_g (lw_at lw_m6 236 rfl) rfl
theorem q1522 : (Jvm.Cond.soleField "SharedSheet$Operation" "content") ∈ lw_all := lw_g (lw_at lw_m6 237 rfl) rfl
theorem q1523 : (Jvm.Cond.superclass "SharedSheet$Operation" "java/lang/Object") ∈ lw_all := lw_g (lw_at lw_m6 238 rfl) rfl
theorem q1869 : (Jvm.Cond.instanceMethod ({ cls := "SharedSheet$Operation", name := "property", desc := "(I)I" } : Jvm.MethodName)) ∈ lw_all := lw_g (lw_at lw_m8 104 rfl) rfl
theorem q1870 : (Jvm.Cond.selects "SharedSheet$Operation" ({ cls := "SharedSheet$Operation", name := "property", desc := "(I)I" } : Jvm.MethodName) ({ cls := "SharedSheet$Operation", name := "property", desc := "(I)I" } : Jvm.MethodName)) ∈ lw_all := lw_g (lw_at lw_m8 105 rfl) rfl
theorem q1871 : (Jvm.Cond.code ({ cls := "SharedSheet$Operation", name := "property", desc := "(I)I" } : Jvm.MethodName) prog_7_method_2_code (2 : Nat) (Option.some Jvm.ClassFile.FieldType.int)) ∈ lw_all := lw_g (lw_at lw_m8 106 rfl) rfl
theorem q2413 : (Jvm.Cond.castable "SharedSheet$Operation" "java/lang/Object") ∈ lw_tbl := lw_at lw_m10 168 rfl
theorem in_X7 : ∀ w ∈ wsX70, w ∈ lw_all := lw_in wsX70 [1511, 1513, 1515, 1517, 1519, 1521] (by decide +kernel) (by decide +kernel)
/-! SharedSheet$Stamp -/
set_option maxRecDepth 100000
def RX8 : String := "SharedSheet$Stamp"
def TX8 : u_T := fun k => match k with
  | 0 => ("SharedSheet$Stamp", "clock", "I", true)
  | _ => ("SharedSheet$Stamp", "replica", "I", true)
def tyX8 : Nat → FieldType := fun k => match k with
  | 0 => .int
  | _ => .int
abbrev wsX80 : List Cond := u_ws RX8 TX8 2
theorem nmX8 : ∀ a, a < 2 → ∀ b, b < 2 → a ≠ b → (TX8 a).2.1 ≠ (TX8 b).2.1 := by decide +kernel
theorem tyX8_ok : ∀ k, k < 2 → parseFieldDescriptor (TX8 k).2.2.1 = some (tyX8 k) := by decide +kernel
abbrev cX8_compareTo : ByteArray := prog_12_method_3_code
def yX8_compareTo : MethodName := ⟨RX8, "compareTo", "(Ljava/lang/Object;)I"⟩
def dkwX8_compareTo_0 : List UInt8 := [42, 43, 192, 0, 8, 182, 0, 22, 172]
abbrev dktX8_compareTo_0 : List UInt8 := dkwX8_compareTo_0 ++ []
theorem dksX8_compareTo_0 : cX8_compareTo.data.toList.drop 0 = dktX8_compareTo_0 := by decide +kernel
theorem dX8_compareTo_0 : decode cX8_compareTo 0 = .ok (.aload_n 0, 1) := dk_42 (dk_at dksX8_compareTo_0 0 rfl rfl)
theorem dX8_compareTo_1 : decode cX8_compareTo 1 = .ok (.aload_n 1, 1) := dk_43 (dk_at dksX8_compareTo_0 1 rfl rfl)
theorem dX8_compareTo_2 : decode cX8_compareTo 2 = .ok (.checkcast 8, 3) := dk_192 0 8 (dk_at dksX8_compareTo_0 2 rfl rfl)
theorem dX8_compareTo_5 : decode cX8_compareTo 5 = .ok (.invokevirtual 22, 3) := dk_182 0 22 (dk_at dksX8_compareTo_0 5 rfl rfl)
theorem dX8_compareTo_8 : decode cX8_compareTo 8 = .ok (.ireturn, 1) := dk_172 (dk_at dksX8_compareTo_0 8 rfl rfl)
abbrev cX8_compareTo_2 : ByteArray := prog_12_method_2_code
def yX8_compareTo_2 : MethodName := ⟨RX8, "compareTo", "(LSharedSheet$Stamp;)I"⟩
def dkwX8_compareTo_2_1 : List UInt8 := [167, 0, 14, 42, 180, 0, 13, 43, 180, 0, 13, 184, 0, 16, 172]
abbrev dktX8_compareTo_2_1 : List UInt8 := dkwX8_compareTo_2_1 ++ []
def dkwX8_compareTo_2_0 : List UInt8 := [42, 180, 0, 7, 43, 180, 0, 7, 159, 0, 17, 42, 180, 0, 7, 43, 180, 0, 7, 184, 0, 16]
abbrev dktX8_compareTo_2_0 : List UInt8 := dkwX8_compareTo_2_0 ++ dktX8_compareTo_2_1
theorem dksX8_compareTo_2_0 : cX8_compareTo_2.data.toList.drop 0 = dktX8_compareTo_2_0 := by decide +kernel
theorem dksX8_compareTo_2_1 : cX8_compareTo_2.data.toList.drop 22 = dktX8_compareTo_2_1 := dk_seg dksX8_compareTo_2_0 22 rfl rfl
theorem dX8_compareTo_2_0 : decode cX8_compareTo_2 0 = .ok (.aload_n 0, 1) := dk_42 (dk_at dksX8_compareTo_2_0 0 rfl rfl)
theorem dX8_compareTo_2_1 : decode cX8_compareTo_2 1 = .ok (.getfield 7, 3) := dk_180 0 7 (dk_at dksX8_compareTo_2_0 1 rfl rfl)
theorem dX8_compareTo_2_4 : decode cX8_compareTo_2 4 = .ok (.aload_n 1, 1) := dk_43 (dk_at dksX8_compareTo_2_0 4 rfl rfl)
theorem dX8_compareTo_2_5 : decode cX8_compareTo_2 5 = .ok (.getfield 7, 3) := dk_180 0 7 (dk_at dksX8_compareTo_2_0 5 rfl rfl)
theorem dX8_compareTo_2_8 : decode cX8_compareTo_2 8 = .ok (.if_icmp .eq 17, 3) := dk_159 0 17 (dk_at dksX8_compareTo_2_0 8 rfl rfl)
theorem dX8_compareTo_2_11 : decode cX8_compareTo_2 11 = .ok (.aload_n 0, 1) := dk_42 (dk_at dksX8_compareTo_2_0 11 rfl rfl)
theorem dX8_compareTo_2_12 : decode cX8_compareTo_2 12 = .ok (.getfield 7, 3) := dk_180 0 7 (dk_at dksX8_compareTo_2_0 12 rfl rfl)
theorem dX8_compareTo_2_15 : decode cX8_compareTo_2 15 = .ok (.aload_n 1, 1) := dk_43 (dk_at dksX8_compareTo_2_0 15 rfl rfl)
theorem dX8_compareTo_2_16 : decode cX8_compareTo_2 16 = .ok (.getfield 7, 3) := dk_180 0 7 (dk_at dksX8_compareTo_2_0 16 rfl rfl)
theorem dX8_compareTo_2_19 : decode cX8_compareTo_2 19 = .ok (.invokestatic 16, 3) := dk_184 0 16 (dk_at dksX8_compareTo_2_0 19 rfl rfl)
theorem dX8_compareTo_2_22 : decode cX8_compareTo_2 22 = .ok (.goto 14, 3) := dk_167 0 14 (dk_at dksX8_compareTo_2_1 0 rfl rfl)
theorem dX8_compareTo_2_25 : decode cX8_compareTo_2 25 = .ok (.aload_n 0, 1) := dk_42 (dk_at dksX8_compareTo_2_1 3 rfl rfl)
theorem dX8_compareTo_2_26 : decode cX8_compareTo_2 26 = .ok (.getfield 13, 3) := dk_180 0 13 (dk_at dksX8_compareTo_2_1 4 rfl rfl)
theorem dX8_compareTo_2_29 : decode cX8_compareTo_2 29 = .ok (.aload_n 1, 1) := dk_43 (dk_at dksX8_compareTo_2_1 7 rfl rfl)
theorem dX8_compareTo_2_30 : decode cX8_compareTo_2 30 = .ok (.getfield 13, 3) := dk_180 0 13 (dk_at dksX8_compareTo_2_1 8 rfl rfl)
theorem dX8_compareTo_2_33 : decode cX8_compareTo_2 33 = .ok (.invokestatic 16, 3) := dk_184 0 16 (dk_at dksX8_compareTo_2_1 11 rfl rfl)
theorem dX8_compareTo_2_36 : decode cX8_compareTo_2 36 = .ok (.ireturn, 1) := dk_172 (dk_at dksX8_compareTo_2_1 14 rfl rfl)
abbrev cX8_init : ByteArray := prog_12_method_1_code
def yX8_init : MethodName := ⟨RX8, "<init>", "(II)V"⟩
def dkwX8_init_0 : List UInt8 := [42, 183, 0, 1, 42, 27, 181, 0, 7, 42, 28, 181, 0, 13, 177]
abbrev dktX8_init_0 : List UInt8 := dkwX8_init_0 ++ []
theorem dksX8_init_0 : cX8_init.data.toList.drop 0 = dktX8_init_0 := by decide +kernel
theorem dX8_init_0 : decode cX8_init 0 = .ok (.aload_n 0, 1) := dk_42 (dk_at dksX8_init_0 0 rfl rfl)
theorem dX8_init_1 : decode cX8_init 1 = .ok (.invokespecial 1, 3) := dk_183 0 1 (dk_at dksX8_init_0 1 rfl rfl)
theorem dX8_init_4 : decode cX8_init 4 = .ok (.aload_n 0, 1) := dk_42 (dk_at dksX8_init_0 4 rfl rfl)
theorem dX8_init_5 : decode cX8_init 5 = .ok (.iload_n 1, 1) := dk_27 (dk_at dksX8_init_0 5 rfl rfl)
theorem dX8_init_6 : decode cX8_init 6 = .ok (.putfield 7, 3) := dk_181 0 7 (dk_at dksX8_init_0 6 rfl rfl)
theorem dX8_init_9 : decode cX8_init 9 = .ok (.aload_n 0, 1) := dk_42 (dk_at dksX8_init_0 9 rfl rfl)
theorem dX8_init_10 : decode cX8_init 10 = .ok (.iload_n 2, 1) := dk_28 (dk_at dksX8_init_0 10 rfl rfl)
theorem dX8_init_11 : decode cX8_init 11 = .ok (.putfield 13, 3) := dk_181 0 13 (dk_at dksX8_init_0 11 rfl rfl)
theorem dX8_init_14 : decode cX8_init 14 = .ok (.return_, 1) := dk_177 (dk_at dksX8_init_0 14 rfl rfl)
theorem q118 : (Jvm.Cond.initialized "SharedSheet$Stamp") ∈ lw_all := lw_g (lw_at lw_m1 33 rfl) rfl
theorem q372 : (Jvm.Cond.selects "SharedSheet$Stamp" ({ cls := "java/lang/Object", name := "getClass", desc := "()Ljava/lang/Class;" } : Jvm.MethodName) ({ cls := "java/lang/Object", name := "getClass", desc := "()Ljava/lang/Class;" } : Jvm.MethodName)) ∈ lw_all := lw_g (lw_at lw_m2 47 rfl) rfl
theorem q621 : (Jvm.Cond.castable "SharedSheet$Stamp" "java/lang/Comparable") ∈ lw_tbl := lw_at lw_m3 56 rfl
theorem q622 : (Jvm.Cond.selects "SharedSheet$Stamp" ({ cls := "java/lang/Comparable", name := "compareTo", desc := "(Ljava/lang/Object;)I" } : Jvm.MethodName) ({ cls := "SharedSheet$Stamp", name := "compareTo", desc := "(Ljava/lang/Object;)I" } : Jvm.MethodName)) ∈ lw_all := lw_g (lw_at lw_m3 57 rfl) rfl
theorem q623 : (Jvm.Cond.unhidden "SharedSheet$Stamp" "compareTo" "(Ljava/lang/Object;)I") ∈ lw_tbl := lw_at lw_m3 58 rfl
theorem q624 : (Jvm.Cond.instanceMethod ({ cls := "SharedSheet$Stamp", name := "compareTo", desc := "(Ljava/lang/Object;)I" } : Jvm.MethodName)) ∈ lw_all := lw_g (lw_at lw_m3 59 rfl) rfl
theorem q625 : (Jvm.Cond.publicMethod ({ cls := "SharedSheet$Stamp", name := "compareTo", desc := "(Ljava/lang/Object;)I" } : Jvm.MethodName)) ∈ lw_tbl := lw_at lw_m3 60 rfl
theorem q626 : (Jvm.Cond.code ({ cls := "SharedSheet$Stamp", name := "compareTo", desc := "(Ljava/lang/Object;)I" } : Jvm.MethodName) prog_12_method_3_code (2 : Nat) (Option.some Jvm.ClassFile.FieldType.int)) ∈ lw_all := lw_g (lw_at lw_m3 61 rfl) rfl
theorem q627 : (Jvm.Cond.classLink "SharedSheet$Stamp" (8 : Nat) "SharedSheet$Stamp") ∈ lw_all := lw_g (lw_at lw_m3 62 rfl) rfl
theorem q628 : (Jvm.Cond.methodLink "SharedSheet$Stamp" (22 : Nat) ({ cls := "SharedSheet$Stamp", name := "compareTo", desc := "(LSharedSheet$Stamp;)I" } : Jvm.MethodName)) ∈ lw_all := lw_g (lw_at lw_m3 63 rfl) rfl
theorem q629 : (Jvm.Cond.instanceMethod ({ cls := "SharedSheet$Stamp", name := "compareTo", desc := "(LSharedSheet$Stamp;)I" } : Jvm.MethodName)) ∈ lw_all := lw_g (lw_at lw_m3 64 rfl) rfl
theorem q630 : (Jvm.Cond.selects "SharedSheet$Stamp" ({ cls := "SharedSheet$Stamp", name := "compareTo", desc := "(LSharedSheet$Stamp;)I" } : Jvm.MethodName) ({ cls := "SharedSheet$Stamp", name := "compareTo", desc := "(LSharedSheet$Stamp;)I" } : Jvm.MethodName)) ∈ lw_all := lw_g (lw_at lw_m3 65 rfl) rfl
theorem q631 : (Jvm.Cond.code ({ cls := "SharedSheet$Stamp", name := "compareTo", desc := "(LSharedSheet$Stamp;)I" } : Jvm.MethodName) prog_12_method_2_code (2 : Nat) (Option.some Jvm.ClassFile.FieldType.int)) ∈ lw_all := lw_g (lw_at lw_m3 66 rfl) rfl
theorem q632 : (Jvm.Cond.methodLink "SharedSheet$Stamp" (16 : Nat) ({ cls := "java/lang/Integer", name := "compare", desc := "(II)I" } : Jvm.MethodName)) ∈ lw_all := lw_g (lw_at lw_m3 67 rfl) rfl
theorem q1479 : (Jvm.Cond.instantiable "SharedSheet$Stamp" (2 : Nat)) ∈ lw_all := lw_g (lw_at lw_m6 194 rfl) rfl
theorem q1481 : (Jvm.Cond.instanceMethod ({ cls := "SharedSheet$Stamp", name := "<init>", desc := "(II)V" } : Jvm.MethodName)) ∈ lw_all := lw_g (lw_at lw_m6 196 rfl) rfl
theorem q1482 : (Jvm.Cond.code ({ cls := "SharedSheet$Stamp", name := "<init>", desc := "(II)V" } : Jvm.MethodName) prog_12_method_1_code (3 : Nat) (Option.none : Option Jvm.ClassFile.FieldType)) ∈ lw_all := lw_g (lw_at lw_m6 197 rfl) rfl
theorem q1483 : (Jvm.Cond.methodLink "SharedSheet$Stamp" (1 : Nat) ({ cls := "java/lang/Object", name := "<init>", desc := "()V" } : Jvm.MethodName)) ∈ lw_all := lw_g (lw_at lw_m6 198 rfl) rfl
theorem q1484 : (Jvm.Cond.fieldLink "SharedSheet$Stamp" (7 : Nat) "SharedSheet$Stamp" "clock" "I") ∈ lw_all := lw_g (lw_at lw_m6 199 rfl) rfl
theorem q1488 : (Jvm.Cond.fieldLink "SharedSheet$Stamp" (13 : Nat) "SharedSheet$Stamp" "replica" "I") ∈ lw_all := lw_g (lw_at lw_m6 203 rfl) rfl
theorem q1490 : (Jvm.Cond.laysFinal "SharedSheet$Stamp" "SharedSheet$Stamp" "clock" "I") ∈ lw_all := lw_g (lw_at lw_m6 205 rfl) rfl
theorem q1491 : (Jvm.Cond.soleField "SharedSheet$Stamp" "clock") ∈ lw_all := lw_g (lw_at lw_m6 206 rfl) rfl
theorem q1492 : (Jvm.Cond.laysFinal "SharedSheet$Stamp" "SharedSheet$Stamp" "replica" "I") ∈ lw_all := lw_g (lw_at lw_m6 207 rfl) rfl
theorem q1493 : (Jvm.Cond.soleField "SharedSheet$Stamp" "replica") ∈ lw_all := lw_g (lw_at lw_m6 208 rfl) rfl
theorem q1494 : (Jvm.Cond.superclass "SharedSheet$Stamp" "java/lang/Object") ∈ lw_all := lw_g (lw_at lw_m6 209 rfl) rfl
theorem q2405 : (Jvm.Cond.castable "SharedSheet$Stamp" "java/lang/Object") ∈ lw_tbl := lw_at lw_m10 160 rfl
theorem in_X8 : ∀ w ∈ wsX80, w ∈ lw_all := lw_in wsX80 [1490, 1492] (by decide +kernel) (by decide +kernel)
