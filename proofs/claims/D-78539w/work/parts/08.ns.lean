/-! SharedSheet -/
set_option maxRecDepth 100000
def RX1 : String := "SharedSheet"
def TX1 : u_T := fun k => match k with
  | 0 => ("SharedSheet", "replicas", "[LSharedSheet$Replica;", false)
  | 1 => ("SharedSheet", "saved", "Ljava/util/ArrayDeque;", true)
  | 2 => ("SharedSheet", "text", "Ljava/lang/StringBuilder;", true)
  | _ => ("SharedSheet", "hash", "J", false)
def tyX1 : Nat → FieldType := fun k => match k with
  | 0 => .array (.object "SharedSheet$Replica")
  | 1 => .object "java/util/ArrayDeque"
  | 2 => .object "java/lang/StringBuilder"
  | _ => .long
abbrev wsX10 : List Cond := u_ws RX1 TX1 4
theorem nmX1 : ∀ a, a < 4 → ∀ b, b < 4 → a ≠ b → (TX1 a).2.1 ≠ (TX1 b).2.1 := by decide +kernel
theorem tyX1_ok : ∀ k, k < 4 → parseFieldDescriptor (TX1 k).2.2.1 = some (tyX1 k) := by decide +kernel
abbrev cX1_init : ByteArray := prog_1_method_3_code
def yX1_init : MethodName := ⟨RX1, "<init>", "()V"⟩
def dkwX1_init_2 : List UInt8 := [187, 0, 17, 89, 27, 183, 0, 37, 83, 132, 1, 1, 167, 255, 234, 177]
abbrev dktX1_init_2 : List UInt8 := dkwX1_init_2 ++ []
def dkwX1_init_1 : List UInt8 := [187, 0, 30, 89, 183, 0, 32, 181, 0, 33, 3, 60, 27, 6, 162, 0, 23, 42, 180, 0, 19, 27]
abbrev dktX1_init_1 : List UInt8 := dkwX1_init_1 ++ dktX1_init_2
def dkwX1_init_0 : List UInt8 := [42, 183, 0, 14, 42, 6, 189, 0, 17, 181, 0, 19, 42, 187, 0, 23, 89, 183, 0, 25, 181, 0, 26, 42]
abbrev dktX1_init_0 : List UInt8 := dkwX1_init_0 ++ dktX1_init_1
theorem dksX1_init_0 : cX1_init.data.toList.drop 0 = dktX1_init_0 := by decide +kernel
theorem dksX1_init_1 : cX1_init.data.toList.drop 24 = dktX1_init_1 := dk_seg dksX1_init_0 24 rfl rfl
theorem dksX1_init_2 : cX1_init.data.toList.drop 46 = dktX1_init_2 := dk_seg dksX1_init_1 22 rfl rfl
theorem dX1_init_0 : decode cX1_init 0 = .ok (.aload_n 0, 1) := dk_42 (dk_at dksX1_init_0 0 rfl rfl)
theorem dX1_init_1 : decode cX1_init 1 = .ok (.invokespecial 14, 3) := dk_183 0 14 (dk_at dksX1_init_0 1 rfl rfl)
theorem dX1_init_4 : decode cX1_init 4 = .ok (.aload_n 0, 1) := dk_42 (dk_at dksX1_init_0 4 rfl rfl)
theorem dX1_init_5 : decode cX1_init 5 = .ok (.iconst 3, 1) := dk_6 (dk_at dksX1_init_0 5 rfl rfl)
theorem dX1_init_6 : decode cX1_init 6 = .ok (.anewarray 17, 3) := dk_189 0 17 (dk_at dksX1_init_0 6 rfl rfl)
theorem dX1_init_9 : decode cX1_init 9 = .ok (.putfield 19, 3) := dk_181 0 19 (dk_at dksX1_init_0 9 rfl rfl)
theorem dX1_init_12 : decode cX1_init 12 = .ok (.aload_n 0, 1) := dk_42 (dk_at dksX1_init_0 12 rfl rfl)
theorem dX1_init_13 : decode cX1_init 13 = .ok (.new 23, 3) := dk_187 0 23 (dk_at dksX1_init_0 13 rfl rfl)
theorem dX1_init_16 : decode cX1_init 16 = .ok (.dup, 1) := dk_89 (dk_at dksX1_init_0 16 rfl rfl)
theorem dX1_init_17 : decode cX1_init 17 = .ok (.invokespecial 25, 3) := dk_183 0 25 (dk_at dksX1_init_0 17 rfl rfl)
theorem dX1_init_20 : decode cX1_init 20 = .ok (.putfield 26, 3) := dk_181 0 26 (dk_at dksX1_init_0 20 rfl rfl)
theorem dX1_init_23 : decode cX1_init 23 = .ok (.aload_n 0, 1) := dk_42 (dk_at dksX1_init_0 23 rfl rfl)
theorem dX1_init_24 : decode cX1_init 24 = .ok (.new 30, 3) := dk_187 0 30 (dk_at dksX1_init_1 0 rfl rfl)
theorem dX1_init_27 : decode cX1_init 27 = .ok (.dup, 1) := dk_89 (dk_at dksX1_init_1 3 rfl rfl)
theorem dX1_init_28 : decode cX1_init 28 = .ok (.invokespecial 32, 3) := dk_183 0 32 (dk_at dksX1_init_1 4 rfl rfl)
theorem dX1_init_31 : decode cX1_init 31 = .ok (.putfield 33, 3) := dk_181 0 33 (dk_at dksX1_init_1 7 rfl rfl)
theorem dX1_init_34 : decode cX1_init 34 = .ok (.iconst 0, 1) := dk_3 (dk_at dksX1_init_1 10 rfl rfl)
theorem dX1_init_35 : decode cX1_init 35 = .ok (.istore_n 1, 1) := dk_60 (dk_at dksX1_init_1 11 rfl rfl)
theorem dX1_init_36 : decode cX1_init 36 = .ok (.iload_n 1, 1) := dk_27 (dk_at dksX1_init_1 12 rfl rfl)
theorem dX1_init_37 : decode cX1_init 37 = .ok (.iconst 3, 1) := dk_6 (dk_at dksX1_init_1 13 rfl rfl)
theorem dX1_init_38 : decode cX1_init 38 = .ok (.if_icmp .ge 23, 3) := dk_162 0 23 (dk_at dksX1_init_1 14 rfl rfl)
theorem dX1_init_41 : decode cX1_init 41 = .ok (.aload_n 0, 1) := dk_42 (dk_at dksX1_init_1 17 rfl rfl)
theorem dX1_init_42 : decode cX1_init 42 = .ok (.getfield 19, 3) := dk_180 0 19 (dk_at dksX1_init_1 18 rfl rfl)
theorem dX1_init_45 : decode cX1_init 45 = .ok (.iload_n 1, 1) := dk_27 (dk_at dksX1_init_1 21 rfl rfl)
theorem dX1_init_46 : decode cX1_init 46 = .ok (.new 17, 3) := dk_187 0 17 (dk_at dksX1_init_2 0 rfl rfl)
theorem dX1_init_49 : decode cX1_init 49 = .ok (.dup, 1) := dk_89 (dk_at dksX1_init_2 3 rfl rfl)
theorem dX1_init_50 : decode cX1_init 50 = .ok (.iload_n 1, 1) := dk_27 (dk_at dksX1_init_2 4 rfl rfl)
theorem dX1_init_51 : decode cX1_init 51 = .ok (.invokespecial 37, 3) := dk_183 0 37 (dk_at dksX1_init_2 5 rfl rfl)
theorem dX1_init_54 : decode cX1_init 54 = .ok (.aastore, 1) := dk_83 (dk_at dksX1_init_2 8 rfl rfl)
theorem dX1_init_55 : decode cX1_init 55 = .ok (.iinc 1 1, 3) := dk_132 1 1 (dk_at dksX1_init_2 9 rfl rfl)
theorem dX1_init_58 : decode cX1_init 58 = .ok (.goto (-22), 3) := dk_167 255 234 (dk_at dksX1_init_2 12 rfl rfl)
theorem dX1_init_61 : decode cX1_init 61 = .ok (.return_, 1) := dk_177 (dk_at dksX1_init_2 15 rfl rfl)
abbrev cX1_empty : ByteArray := prog_1_method_2_code
def yX1_empty : MethodName := ⟨RX1, "empty", "()LSharedSheet$Content;"⟩
def dkwX1_empty_0 : List UInt8 := [187, 0, 1, 89, 3, 3, 187, 0, 5, 89, 183, 0, 7, 183, 0, 11, 176]
abbrev dktX1_empty_0 : List UInt8 := dkwX1_empty_0 ++ []
theorem dksX1_empty_0 : cX1_empty.data.toList.drop 0 = dktX1_empty_0 := by decide +kernel
theorem dX1_empty_0 : decode cX1_empty 0 = .ok (.new 1, 3) := dk_187 0 1 (dk_at dksX1_empty_0 0 rfl rfl)
theorem dX1_empty_3 : decode cX1_empty 3 = .ok (.dup, 1) := dk_89 (dk_at dksX1_empty_0 3 rfl rfl)
theorem dX1_empty_4 : decode cX1_empty 4 = .ok (.iconst 0, 1) := dk_3 (dk_at dksX1_empty_0 4 rfl rfl)
theorem dX1_empty_5 : decode cX1_empty 5 = .ok (.iconst 0, 1) := dk_3 (dk_at dksX1_empty_0 5 rfl rfl)
theorem dX1_empty_6 : decode cX1_empty 6 = .ok (.new 5, 3) := dk_187 0 5 (dk_at dksX1_empty_0 6 rfl rfl)
theorem dX1_empty_9 : decode cX1_empty 9 = .ok (.dup, 1) := dk_89 (dk_at dksX1_empty_0 9 rfl rfl)
theorem dX1_empty_10 : decode cX1_empty 10 = .ok (.invokespecial 7, 3) := dk_183 0 7 (dk_at dksX1_empty_0 10 rfl rfl)
theorem dX1_empty_13 : decode cX1_empty 13 = .ok (.invokespecial 11, 3) := dk_183 0 11 (dk_at dksX1_empty_0 13 rfl rfl)
theorem dX1_empty_16 : decode cX1_empty 16 = .ok (.areturn, 1) := dk_176 (dk_at dksX1_empty_0 16 rfl rfl)
abbrev cX1_settle : ByteArray := prog_1_method_37_code
def yX1_settle : MethodName := ⟨RX1, "settle", "()I"⟩
def dkwX1_settle_2 : List UInt8 := [45, 25, 4, 182, 1, 14, 132, 1, 1, 167, 255, 232, 132, 2, 1, 167, 255, 201, 27, 172]
abbrev dktX1_settle_2 : List UInt8 := dkwX1_settle_2 ++ []
def dkwX1_settle_1 : List UInt8 := [180, 0, 19, 28, 6, 112, 50, 58, 4, 45, 25, 4, 165, 0, 24, 45, 25, 4, 184, 1, 10, 158, 0, 15]
abbrev dktX1_settle_1 : List UInt8 := dkwX1_settle_1 ++ dktX1_settle_2
def dkwX1_settle_0 : List UInt8 := [42, 182, 0, 128, 3, 60, 3, 61, 28, 16, 9, 162, 0, 55, 42, 180, 0, 19, 28, 6, 108, 50, 78, 42]
abbrev dktX1_settle_0 : List UInt8 := dkwX1_settle_0 ++ dktX1_settle_1
theorem dksX1_settle_0 : cX1_settle.data.toList.drop 0 = dktX1_settle_0 := by decide +kernel
theorem dksX1_settle_1 : cX1_settle.data.toList.drop 24 = dktX1_settle_1 := dk_seg dksX1_settle_0 24 rfl rfl
theorem dksX1_settle_2 : cX1_settle.data.toList.drop 48 = dktX1_settle_2 := dk_seg dksX1_settle_1 24 rfl rfl
theorem dX1_settle_0 : decode cX1_settle 0 = .ok (.aload_n 0, 1) := dk_42 (dk_at dksX1_settle_0 0 rfl rfl)
theorem dX1_settle_1 : decode cX1_settle 1 = .ok (.invokevirtual 128, 3) := dk_182 0 128 (dk_at dksX1_settle_0 1 rfl rfl)
theorem dX1_settle_4 : decode cX1_settle 4 = .ok (.iconst 0, 1) := dk_3 (dk_at dksX1_settle_0 4 rfl rfl)
theorem dX1_settle_5 : decode cX1_settle 5 = .ok (.istore_n 1, 1) := dk_60 (dk_at dksX1_settle_0 5 rfl rfl)
theorem dX1_settle_6 : decode cX1_settle 6 = .ok (.iconst 0, 1) := dk_3 (dk_at dksX1_settle_0 6 rfl rfl)
theorem dX1_settle_7 : decode cX1_settle 7 = .ok (.istore_n 2, 1) := dk_61 (dk_at dksX1_settle_0 7 rfl rfl)
theorem dX1_settle_8 : decode cX1_settle 8 = .ok (.iload_n 2, 1) := dk_28 (dk_at dksX1_settle_0 8 rfl rfl)
theorem dX1_settle_9 : decode cX1_settle 9 = .ok (.bipush 9, 2) := dk_16 9 (dk_at dksX1_settle_0 9 rfl rfl)
theorem dX1_settle_11 : decode cX1_settle 11 = .ok (.if_icmp .ge 55, 3) := dk_162 0 55 (dk_at dksX1_settle_0 11 rfl rfl)
theorem dX1_settle_14 : decode cX1_settle 14 = .ok (.aload_n 0, 1) := dk_42 (dk_at dksX1_settle_0 14 rfl rfl)
theorem dX1_settle_15 : decode cX1_settle 15 = .ok (.getfield 19, 3) := dk_180 0 19 (dk_at dksX1_settle_0 15 rfl rfl)
theorem dX1_settle_18 : decode cX1_settle 18 = .ok (.iload_n 2, 1) := dk_28 (dk_at dksX1_settle_0 18 rfl rfl)
theorem dX1_settle_19 : decode cX1_settle 19 = .ok (.iconst 3, 1) := dk_6 (dk_at dksX1_settle_0 19 rfl rfl)
theorem dX1_settle_20 : decode cX1_settle 20 = .ok (.idiv, 1) := dk_108 (dk_at dksX1_settle_0 20 rfl rfl)
theorem dX1_settle_21 : decode cX1_settle 21 = .ok (.aaload, 1) := dk_50 (dk_at dksX1_settle_0 21 rfl rfl)
theorem dX1_settle_22 : decode cX1_settle 22 = .ok (.astore_n 3, 1) := dk_78 (dk_at dksX1_settle_0 22 rfl rfl)
theorem dX1_settle_23 : decode cX1_settle 23 = .ok (.aload_n 0, 1) := dk_42 (dk_at dksX1_settle_0 23 rfl rfl)
theorem dX1_settle_24 : decode cX1_settle 24 = .ok (.getfield 19, 3) := dk_180 0 19 (dk_at dksX1_settle_1 0 rfl rfl)
theorem dX1_settle_27 : decode cX1_settle 27 = .ok (.iload_n 2, 1) := dk_28 (dk_at dksX1_settle_1 3 rfl rfl)
theorem dX1_settle_28 : decode cX1_settle 28 = .ok (.iconst 3, 1) := dk_6 (dk_at dksX1_settle_1 4 rfl rfl)
theorem dX1_settle_29 : decode cX1_settle 29 = .ok (.irem, 1) := dk_112 (dk_at dksX1_settle_1 5 rfl rfl)
theorem dX1_settle_30 : decode cX1_settle 30 = .ok (.aaload, 1) := dk_50 (dk_at dksX1_settle_1 6 rfl rfl)
theorem dX1_settle_31 : decode cX1_settle 31 = .ok (.astore 4, 2) := dk_58 4 (dk_at dksX1_settle_1 7 rfl rfl)
theorem dX1_settle_33 : decode cX1_settle 33 = .ok (.aload_n 3, 1) := dk_45 (dk_at dksX1_settle_1 9 rfl rfl)
theorem dX1_settle_34 : decode cX1_settle 34 = .ok (.aload 4, 2) := dk_25 4 (dk_at dksX1_settle_1 10 rfl rfl)
theorem dX1_settle_36 : decode cX1_settle 36 = .ok (.if_acmp .eq 24, 3) := dk_165 0 24 (dk_at dksX1_settle_1 12 rfl rfl)
theorem dX1_settle_39 : decode cX1_settle 39 = .ok (.aload_n 3, 1) := dk_45 (dk_at dksX1_settle_1 15 rfl rfl)
theorem dX1_settle_40 : decode cX1_settle 40 = .ok (.aload 4, 2) := dk_25 4 (dk_at dksX1_settle_1 16 rfl rfl)
theorem dX1_settle_42 : decode cX1_settle 42 = .ok (.invokestatic 266, 3) := dk_184 1 10 (dk_at dksX1_settle_1 18 rfl rfl)
theorem dX1_settle_45 : decode cX1_settle 45 = .ok (.ifCond .le 15, 3) := dk_158 0 15 (dk_at dksX1_settle_1 21 rfl rfl)
theorem dX1_settle_48 : decode cX1_settle 48 = .ok (.aload_n 3, 1) := dk_45 (dk_at dksX1_settle_2 0 rfl rfl)
theorem dX1_settle_49 : decode cX1_settle 49 = .ok (.aload 4, 2) := dk_25 4 (dk_at dksX1_settle_2 1 rfl rfl)
theorem dX1_settle_51 : decode cX1_settle 51 = .ok (.invokevirtual 270, 3) := dk_182 1 14 (dk_at dksX1_settle_2 3 rfl rfl)
theorem dX1_settle_54 : decode cX1_settle 54 = .ok (.iinc 1 1, 3) := dk_132 1 1 (dk_at dksX1_settle_2 6 rfl rfl)
theorem dX1_settle_57 : decode cX1_settle 57 = .ok (.goto (-24), 3) := dk_167 255 232 (dk_at dksX1_settle_2 9 rfl rfl)
theorem dX1_settle_60 : decode cX1_settle 60 = .ok (.iinc 2 1, 3) := dk_132 2 1 (dk_at dksX1_settle_2 12 rfl rfl)
theorem dX1_settle_63 : decode cX1_settle 63 = .ok (.goto (-55), 3) := dk_167 255 201 (dk_at dksX1_settle_2 15 rfl rfl)
theorem dX1_settle_66 : decode cX1_settle 66 = .ok (.iload_n 1, 1) := dk_27 (dk_at dksX1_settle_2 18 rfl rfl)
theorem dX1_settle_67 : decode cX1_settle 67 = .ok (.ireturn, 1) := dk_172 (dk_at dksX1_settle_2 19 rfl rfl)
abbrev cX1_save : ByteArray := prog_1_method_11_code
def yX1_save : MethodName := ⟨RX1, "save", "()V"⟩
def dkwX1_save_2 : List UInt8 := [167, 255, 236, 42, 180, 0, 26, 43, 182, 0, 84, 177]
abbrev dktX1_save_2 : List UInt8 := dkwX1_save_2 ++ []
def dkwX1_save_1 : List UInt8 := [3, 61, 28, 6, 162, 0, 21, 43, 28, 42, 180, 0, 19, 28, 50, 182, 0, 80, 83, 132, 2, 1]
abbrev dktX1_save_1 : List UInt8 := dkwX1_save_1 ++ dktX1_save_2
def dkwX1_save_0 : List UInt8 := [42, 180, 0, 26, 182, 0, 75, 7, 160, 0, 11, 42, 180, 0, 26, 182, 0, 76, 87, 6, 189, 0, 17, 76]
abbrev dktX1_save_0 : List UInt8 := dkwX1_save_0 ++ dktX1_save_1
theorem dksX1_save_0 : cX1_save.data.toList.drop 0 = dktX1_save_0 := by decide +kernel
theorem dksX1_save_1 : cX1_save.data.toList.drop 24 = dktX1_save_1 := dk_seg dksX1_save_0 24 rfl rfl
theorem dksX1_save_2 : cX1_save.data.toList.drop 46 = dktX1_save_2 := dk_seg dksX1_save_1 22 rfl rfl
theorem dX1_save_0 : decode cX1_save 0 = .ok (.aload_n 0, 1) := dk_42 (dk_at dksX1_save_0 0 rfl rfl)
theorem dX1_save_1 : decode cX1_save 1 = .ok (.getfield 26, 3) := dk_180 0 26 (dk_at dksX1_save_0 1 rfl rfl)
theorem dX1_save_4 : decode cX1_save 4 = .ok (.invokevirtual 75, 3) := dk_182 0 75 (dk_at dksX1_save_0 4 rfl rfl)
theorem dX1_save_7 : decode cX1_save 7 = .ok (.iconst 4, 1) := dk_7 (dk_at dksX1_save_0 7 rfl rfl)
theorem dX1_save_8 : decode cX1_save 8 = .ok (.if_icmp .ne 11, 3) := dk_160 0 11 (dk_at dksX1_save_0 8 rfl rfl)
theorem dX1_save_11 : decode cX1_save 11 = .ok (.aload_n 0, 1) := dk_42 (dk_at dksX1_save_0 11 rfl rfl)
theorem dX1_save_12 : decode cX1_save 12 = .ok (.getfield 26, 3) := dk_180 0 26 (dk_at dksX1_save_0 12 rfl rfl)
theorem dX1_save_15 : decode cX1_save 15 = .ok (.invokevirtual 76, 3) := dk_182 0 76 (dk_at dksX1_save_0 15 rfl rfl)
theorem dX1_save_18 : decode cX1_save 18 = .ok (.pop, 1) := dk_87 (dk_at dksX1_save_0 18 rfl rfl)
theorem dX1_save_19 : decode cX1_save 19 = .ok (.iconst 3, 1) := dk_6 (dk_at dksX1_save_0 19 rfl rfl)
theorem dX1_save_20 : decode cX1_save 20 = .ok (.anewarray 17, 3) := dk_189 0 17 (dk_at dksX1_save_0 20 rfl rfl)
theorem dX1_save_23 : decode cX1_save 23 = .ok (.astore_n 1, 1) := dk_76 (dk_at dksX1_save_0 23 rfl rfl)
theorem dX1_save_24 : decode cX1_save 24 = .ok (.iconst 0, 1) := dk_3 (dk_at dksX1_save_1 0 rfl rfl)
theorem dX1_save_25 : decode cX1_save 25 = .ok (.istore_n 2, 1) := dk_61 (dk_at dksX1_save_1 1 rfl rfl)
theorem dX1_save_26 : decode cX1_save 26 = .ok (.iload_n 2, 1) := dk_28 (dk_at dksX1_save_1 2 rfl rfl)
theorem dX1_save_27 : decode cX1_save 27 = .ok (.iconst 3, 1) := dk_6 (dk_at dksX1_save_1 3 rfl rfl)
theorem dX1_save_28 : decode cX1_save 28 = .ok (.if_icmp .ge 21, 3) := dk_162 0 21 (dk_at dksX1_save_1 4 rfl rfl)
theorem dX1_save_31 : decode cX1_save 31 = .ok (.aload_n 1, 1) := dk_43 (dk_at dksX1_save_1 7 rfl rfl)
theorem dX1_save_32 : decode cX1_save 32 = .ok (.iload_n 2, 1) := dk_28 (dk_at dksX1_save_1 8 rfl rfl)
theorem dX1_save_33 : decode cX1_save 33 = .ok (.aload_n 0, 1) := dk_42 (dk_at dksX1_save_1 9 rfl rfl)
theorem dX1_save_34 : decode cX1_save 34 = .ok (.getfield 19, 3) := dk_180 0 19 (dk_at dksX1_save_1 10 rfl rfl)
theorem dX1_save_37 : decode cX1_save 37 = .ok (.iload_n 2, 1) := dk_28 (dk_at dksX1_save_1 13 rfl rfl)
theorem dX1_save_38 : decode cX1_save 38 = .ok (.aaload, 1) := dk_50 (dk_at dksX1_save_1 14 rfl rfl)
theorem dX1_save_39 : decode cX1_save 39 = .ok (.invokevirtual 80, 3) := dk_182 0 80 (dk_at dksX1_save_1 15 rfl rfl)
theorem dX1_save_42 : decode cX1_save 42 = .ok (.aastore, 1) := dk_83 (dk_at dksX1_save_1 18 rfl rfl)
theorem dX1_save_43 : decode cX1_save 43 = .ok (.iinc 2 1, 3) := dk_132 2 1 (dk_at dksX1_save_1 19 rfl rfl)
theorem dX1_save_46 : decode cX1_save 46 = .ok (.goto (-20), 3) := dk_167 255 236 (dk_at dksX1_save_2 0 rfl rfl)
theorem dX1_save_49 : decode cX1_save 49 = .ok (.aload_n 0, 1) := dk_42 (dk_at dksX1_save_2 3 rfl rfl)
theorem dX1_save_50 : decode cX1_save 50 = .ok (.getfield 26, 3) := dk_180 0 26 (dk_at dksX1_save_2 4 rfl rfl)
theorem dX1_save_53 : decode cX1_save 53 = .ok (.aload_n 1, 1) := dk_43 (dk_at dksX1_save_2 7 rfl rfl)
theorem dX1_save_54 : decode cX1_save 54 = .ok (.invokevirtual 84, 3) := dk_182 0 84 (dk_at dksX1_save_2 8 rfl rfl)
theorem dX1_save_57 : decode cX1_save 57 = .ok (.return_, 1) := dk_177 (dk_at dksX1_save_2 11 rfl rfl)
abbrev cX1_missing : ByteArray := prog_1_method_35_code
def yX1_missing : MethodName := ⟨RX1, "missing", "(LSharedSheet$Replica;LSharedSheet$Replica;)I"⟩
def dkwX1_missing_0 : List UInt8 := [43, 180, 0, 71, 185, 0, 65, 1, 0, 42, 180, 1, 6, 43, 180, 1, 9, 46, 100, 172]
abbrev dktX1_missing_0 : List UInt8 := dkwX1_missing_0 ++ []
theorem dksX1_missing_0 : cX1_missing.data.toList.drop 0 = dktX1_missing_0 := by decide +kernel
theorem dX1_missing_0 : decode cX1_missing 0 = .ok (.aload_n 1, 1) := dk_43 (dk_at dksX1_missing_0 0 rfl rfl)
theorem dX1_missing_1 : decode cX1_missing 1 = .ok (.getfield 71, 3) := dk_180 0 71 (dk_at dksX1_missing_0 1 rfl rfl)
theorem dX1_missing_4 : decode cX1_missing 4 = .ok (.invokeinterface 65 1, 5) := by decide +kernel
theorem dX1_missing_9 : decode cX1_missing 9 = .ok (.aload_n 0, 1) := dk_42 (dk_at dksX1_missing_0 9 rfl rfl)
theorem dX1_missing_10 : decode cX1_missing 10 = .ok (.getfield 262, 3) := dk_180 1 6 (dk_at dksX1_missing_0 10 rfl rfl)
theorem dX1_missing_13 : decode cX1_missing 13 = .ok (.aload_n 1, 1) := dk_43 (dk_at dksX1_missing_0 13 rfl rfl)
theorem dX1_missing_14 : decode cX1_missing 14 = .ok (.getfield 265, 3) := dk_180 1 9 (dk_at dksX1_missing_0 14 rfl rfl)
theorem dX1_missing_17 : decode cX1_missing 17 = .ok (.iaload, 1) := dk_46 (dk_at dksX1_missing_0 17 rfl rfl)
theorem dX1_missing_18 : decode cX1_missing 18 = .ok (.isub, 1) := dk_100 (dk_at dksX1_missing_0 18 rfl rfl)
theorem dX1_missing_19 : decode cX1_missing 19 = .ok (.ireturn, 1) := dk_172 (dk_at dksX1_missing_0 19 rfl rfl)
abbrev cX1_clearText : ByteArray := prog_1_method_46_code
def yX1_clearText : MethodName := ⟨RX1, "clearText", "()I"⟩
def dkwX1_clearText_0 : List UInt8 := [42, 180, 0, 33, 182, 0, 248, 60, 42, 180, 0, 33, 3, 182, 0, 235, 27, 172]
abbrev dktX1_clearText_0 : List UInt8 := dkwX1_clearText_0 ++ []
theorem dksX1_clearText_0 : cX1_clearText.data.toList.drop 0 = dktX1_clearText_0 := by decide +kernel
theorem dX1_clearText_0 : decode cX1_clearText 0 = .ok (.aload_n 0, 1) := dk_42 (dk_at dksX1_clearText_0 0 rfl rfl)
theorem dX1_clearText_1 : decode cX1_clearText 1 = .ok (.getfield 33, 3) := dk_180 0 33 (dk_at dksX1_clearText_0 1 rfl rfl)
theorem dX1_clearText_4 : decode cX1_clearText 4 = .ok (.invokevirtual 248, 3) := dk_182 0 248 (dk_at dksX1_clearText_0 4 rfl rfl)
theorem dX1_clearText_7 : decode cX1_clearText 7 = .ok (.istore_n 1, 1) := dk_60 (dk_at dksX1_clearText_0 7 rfl rfl)
theorem dX1_clearText_8 : decode cX1_clearText 8 = .ok (.aload_n 0, 1) := dk_42 (dk_at dksX1_clearText_0 8 rfl rfl)
theorem dX1_clearText_9 : decode cX1_clearText 9 = .ok (.getfield 33, 3) := dk_180 0 33 (dk_at dksX1_clearText_0 9 rfl rfl)
theorem dX1_clearText_12 : decode cX1_clearText 12 = .ok (.iconst 0, 1) := dk_3 (dk_at dksX1_clearText_0 12 rfl rfl)
theorem dX1_clearText_13 : decode cX1_clearText 13 = .ok (.invokevirtual 235, 3) := dk_182 0 235 (dk_at dksX1_clearText_0 13 rfl rfl)
theorem dX1_clearText_16 : decode cX1_clearText 16 = .ok (.iload_n 1, 1) := dk_27 (dk_at dksX1_clearText_0 16 rfl rfl)
theorem dX1_clearText_17 : decode cX1_clearText 17 = .ok (.ireturn, 1) := dk_172 (dk_at dksX1_clearText_0 17 rfl rfl)
abbrev cX1_character : ByteArray := prog_1_method_48_code
def yX1_character : MethodName := ⟨RX1, "character", "(I)I"⟩
def dkwX1_character_1 : List UInt8 := [182, 1, 48, 167, 0, 4, 2, 172]
abbrev dktX1_character_1 : List UInt8 := dkwX1_character_1 ++ []
def dkwX1_character_0 : List UInt8 := [27, 3, 42, 180, 0, 33, 182, 0, 248, 4, 100, 184, 0, 49, 153, 0, 14, 42, 180, 0, 33, 27]
abbrev dktX1_character_0 : List UInt8 := dkwX1_character_0 ++ dktX1_character_1
theorem dksX1_character_0 : cX1_character.data.toList.drop 0 = dktX1_character_0 := by decide +kernel
theorem dksX1_character_1 : cX1_character.data.toList.drop 22 = dktX1_character_1 := dk_seg dksX1_character_0 22 rfl rfl
theorem dX1_character_0 : decode cX1_character 0 = .ok (.iload_n 1, 1) := dk_27 (dk_at dksX1_character_0 0 rfl rfl)
theorem dX1_character_1 : decode cX1_character 1 = .ok (.iconst 0, 1) := dk_3 (dk_at dksX1_character_0 1 rfl rfl)
theorem dX1_character_2 : decode cX1_character 2 = .ok (.aload_n 0, 1) := dk_42 (dk_at dksX1_character_0 2 rfl rfl)
theorem dX1_character_3 : decode cX1_character 3 = .ok (.getfield 33, 3) := dk_180 0 33 (dk_at dksX1_character_0 3 rfl rfl)
theorem dX1_character_6 : decode cX1_character 6 = .ok (.invokevirtual 248, 3) := dk_182 0 248 (dk_at dksX1_character_0 6 rfl rfl)
theorem dX1_character_9 : decode cX1_character 9 = .ok (.iconst 1, 1) := dk_4 (dk_at dksX1_character_0 9 rfl rfl)
theorem dX1_character_10 : decode cX1_character 10 = .ok (.isub, 1) := dk_100 (dk_at dksX1_character_0 10 rfl rfl)
theorem dX1_character_11 : decode cX1_character 11 = .ok (.invokestatic 49, 3) := dk_184 0 49 (dk_at dksX1_character_0 11 rfl rfl)
theorem dX1_character_14 : decode cX1_character 14 = .ok (.ifCond .eq 14, 3) := dk_153 0 14 (dk_at dksX1_character_0 14 rfl rfl)
theorem dX1_character_17 : decode cX1_character 17 = .ok (.aload_n 0, 1) := dk_42 (dk_at dksX1_character_0 17 rfl rfl)
theorem dX1_character_18 : decode cX1_character 18 = .ok (.getfield 33, 3) := dk_180 0 33 (dk_at dksX1_character_0 18 rfl rfl)
theorem dX1_character_21 : decode cX1_character 21 = .ok (.iload_n 1, 1) := dk_27 (dk_at dksX1_character_0 21 rfl rfl)
theorem dX1_character_22 : decode cX1_character 22 = .ok (.invokevirtual 304, 3) := dk_182 1 48 (dk_at dksX1_character_1 0 rfl rfl)
theorem dX1_character_25 : decode cX1_character 25 = .ok (.goto 4, 3) := dk_167 0 4 (dk_at dksX1_character_1 3 rfl rfl)
theorem dX1_character_28 : decode cX1_character 28 = .ok (.iconst (-1), 1) := dk_2 (dk_at dksX1_character_1 6 rfl rfl)
theorem dX1_character_29 : decode cX1_character 29 = .ok (.ireturn, 1) := dk_172 (dk_at dksX1_character_1 7 rfl rfl)
abbrev cX1_isIn : ByteArray := prog_1_method_1_code
def yX1_isIn : MethodName := ⟨RX1, "isIn", "(III)Z"⟩
def dkwX1_isIn_0 : List UInt8 := [26, 27, 161, 0, 12, 26, 28, 163, 0, 7, 4, 167, 0, 4, 3, 172]
abbrev dktX1_isIn_0 : List UInt8 := dkwX1_isIn_0 ++ []
theorem dksX1_isIn_0 : cX1_isIn.data.toList.drop 0 = dktX1_isIn_0 := by decide +kernel
theorem dX1_isIn_0 : decode cX1_isIn 0 = .ok (.iload_n 0, 1) := dk_26 (dk_at dksX1_isIn_0 0 rfl rfl)
theorem dX1_isIn_1 : decode cX1_isIn 1 = .ok (.iload_n 1, 1) := dk_27 (dk_at dksX1_isIn_0 1 rfl rfl)
theorem dX1_isIn_2 : decode cX1_isIn 2 = .ok (.if_icmp .lt 12, 3) := dk_161 0 12 (dk_at dksX1_isIn_0 2 rfl rfl)
theorem dX1_isIn_5 : decode cX1_isIn 5 = .ok (.iload_n 0, 1) := dk_26 (dk_at dksX1_isIn_0 5 rfl rfl)
theorem dX1_isIn_6 : decode cX1_isIn 6 = .ok (.iload_n 2, 1) := dk_28 (dk_at dksX1_isIn_0 6 rfl rfl)
theorem dX1_isIn_7 : decode cX1_isIn 7 = .ok (.if_icmp .gt 7, 3) := dk_163 0 7 (dk_at dksX1_isIn_0 7 rfl rfl)
theorem dX1_isIn_10 : decode cX1_isIn 10 = .ok (.iconst 1, 1) := dk_4 (dk_at dksX1_isIn_0 10 rfl rfl)
theorem dX1_isIn_11 : decode cX1_isIn 11 = .ok (.goto 4, 3) := dk_167 0 4 (dk_at dksX1_isIn_0 11 rfl rfl)
theorem dX1_isIn_14 : decode cX1_isIn 14 = .ok (.iconst 0, 1) := dk_3 (dk_at dksX1_isIn_0 14 rfl rfl)
theorem dX1_isIn_15 : decode cX1_isIn 15 = .ok (.ireturn, 1) := dk_172 (dk_at dksX1_isIn_0 15 rfl rfl)
abbrev cX1_checksum : ByteArray := prog_1_method_53_code
def yX1_checksum : MethodName := ⟨RX1, "checksum", "()J"⟩
def dkwX1_checksum_2 : List UInt8 := [182, 0, 75, 133, 182, 1, 66, 42, 180, 1, 62, 173]
abbrev dktX1_checksum_2 : List UInt8 := dkwX1_checksum_2 ++ []
def dkwX1_checksum_1 : List UInt8 := [132, 1, 1, 167, 255, 238, 42, 42, 180, 0, 33, 182, 0, 248, 133, 182, 1, 66, 42, 42, 180, 0, 26]
abbrev dktX1_checksum_1 : List UInt8 := dkwX1_checksum_1 ++ dktX1_checksum_2
def dkwX1_checksum_0 : List UInt8 := [42, 20, 1, 74, 181, 1, 62, 3, 60, 27, 6, 162, 0, 19, 42, 42, 180, 0, 19, 27, 50, 182, 1, 76]
abbrev dktX1_checksum_0 : List UInt8 := dkwX1_checksum_0 ++ dktX1_checksum_1
theorem dksX1_checksum_0 : cX1_checksum.data.toList.drop 0 = dktX1_checksum_0 := by decide +kernel
theorem dksX1_checksum_1 : cX1_checksum.data.toList.drop 24 = dktX1_checksum_1 := dk_seg dksX1_checksum_0 24 rfl rfl
theorem dksX1_checksum_2 : cX1_checksum.data.toList.drop 47 = dktX1_checksum_2 := dk_seg dksX1_checksum_1 23 rfl rfl
theorem dX1_checksum_0 : decode cX1_checksum 0 = .ok (.aload_n 0, 1) := dk_42 (dk_at dksX1_checksum_0 0 rfl rfl)
theorem dX1_checksum_1 : decode cX1_checksum 1 = .ok (.ldc2_w 330, 3) := dk_20 1 74 (dk_at dksX1_checksum_0 1 rfl rfl)
theorem dX1_checksum_4 : decode cX1_checksum 4 = .ok (.putfield 318, 3) := dk_181 1 62 (dk_at dksX1_checksum_0 4 rfl rfl)
theorem dX1_checksum_7 : decode cX1_checksum 7 = .ok (.iconst 0, 1) := dk_3 (dk_at dksX1_checksum_0 7 rfl rfl)
theorem dX1_checksum_8 : decode cX1_checksum 8 = .ok (.istore_n 1, 1) := dk_60 (dk_at dksX1_checksum_0 8 rfl rfl)
theorem dX1_checksum_9 : decode cX1_checksum 9 = .ok (.iload_n 1, 1) := dk_27 (dk_at dksX1_checksum_0 9 rfl rfl)
theorem dX1_checksum_10 : decode cX1_checksum 10 = .ok (.iconst 3, 1) := dk_6 (dk_at dksX1_checksum_0 10 rfl rfl)
theorem dX1_checksum_11 : decode cX1_checksum 11 = .ok (.if_icmp .ge 19, 3) := dk_162 0 19 (dk_at dksX1_checksum_0 11 rfl rfl)
theorem dX1_checksum_14 : decode cX1_checksum 14 = .ok (.aload_n 0, 1) := dk_42 (dk_at dksX1_checksum_0 14 rfl rfl)
theorem dX1_checksum_15 : decode cX1_checksum 15 = .ok (.aload_n 0, 1) := dk_42 (dk_at dksX1_checksum_0 15 rfl rfl)
theorem dX1_checksum_16 : decode cX1_checksum 16 = .ok (.getfield 19, 3) := dk_180 0 19 (dk_at dksX1_checksum_0 16 rfl rfl)
theorem dX1_checksum_19 : decode cX1_checksum 19 = .ok (.iload_n 1, 1) := dk_27 (dk_at dksX1_checksum_0 19 rfl rfl)
theorem dX1_checksum_20 : decode cX1_checksum 20 = .ok (.aaload, 1) := dk_50 (dk_at dksX1_checksum_0 20 rfl rfl)
theorem dX1_checksum_21 : decode cX1_checksum 21 = .ok (.invokevirtual 332, 3) := dk_182 1 76 (dk_at dksX1_checksum_0 21 rfl rfl)
theorem dX1_checksum_24 : decode cX1_checksum 24 = .ok (.iinc 1 1, 3) := dk_132 1 1 (dk_at dksX1_checksum_1 0 rfl rfl)
theorem dX1_checksum_27 : decode cX1_checksum 27 = .ok (.goto (-18), 3) := dk_167 255 238 (dk_at dksX1_checksum_1 3 rfl rfl)
theorem dX1_checksum_30 : decode cX1_checksum 30 = .ok (.aload_n 0, 1) := dk_42 (dk_at dksX1_checksum_1 6 rfl rfl)
theorem dX1_checksum_31 : decode cX1_checksum 31 = .ok (.aload_n 0, 1) := dk_42 (dk_at dksX1_checksum_1 7 rfl rfl)
theorem dX1_checksum_32 : decode cX1_checksum 32 = .ok (.getfield 33, 3) := dk_180 0 33 (dk_at dksX1_checksum_1 8 rfl rfl)
theorem dX1_checksum_35 : decode cX1_checksum 35 = .ok (.invokevirtual 248, 3) := dk_182 0 248 (dk_at dksX1_checksum_1 11 rfl rfl)
theorem dX1_checksum_38 : decode cX1_checksum 38 = .ok (.i2l, 1) := dk_133 (dk_at dksX1_checksum_1 14 rfl rfl)
theorem dX1_checksum_39 : decode cX1_checksum 39 = .ok (.invokevirtual 322, 3) := dk_182 1 66 (dk_at dksX1_checksum_1 15 rfl rfl)
theorem dX1_checksum_42 : decode cX1_checksum 42 = .ok (.aload_n 0, 1) := dk_42 (dk_at dksX1_checksum_1 18 rfl rfl)
theorem dX1_checksum_43 : decode cX1_checksum 43 = .ok (.aload_n 0, 1) := dk_42 (dk_at dksX1_checksum_1 19 rfl rfl)
theorem dX1_checksum_44 : decode cX1_checksum 44 = .ok (.getfield 26, 3) := dk_180 0 26 (dk_at dksX1_checksum_1 20 rfl rfl)
theorem dX1_checksum_47 : decode cX1_checksum 47 = .ok (.invokevirtual 75, 3) := dk_182 0 75 (dk_at dksX1_checksum_2 0 rfl rfl)
theorem dX1_checksum_50 : decode cX1_checksum 50 = .ok (.i2l, 1) := dk_133 (dk_at dksX1_checksum_2 3 rfl rfl)
theorem dX1_checksum_51 : decode cX1_checksum 51 = .ok (.invokevirtual 322, 3) := dk_182 1 66 (dk_at dksX1_checksum_2 4 rfl rfl)
theorem dX1_checksum_54 : decode cX1_checksum 54 = .ok (.aload_n 0, 1) := dk_42 (dk_at dksX1_checksum_2 7 rfl rfl)
theorem dX1_checksum_55 : decode cX1_checksum 55 = .ok (.getfield 318, 3) := dk_180 1 62 (dk_at dksX1_checksum_2 8 rfl rfl)
theorem dX1_checksum_58 : decode cX1_checksum 58 = .ok (.lreturn, 1) := dk_173 (dk_at dksX1_checksum_2 11 rfl rfl)
abbrev cX1_mixReplica : ByteArray := prog_1_method_52_code
def yX1_mixReplica : MethodName := ⟨RX1, "mixReplica", "(LSharedSheet$Replica;)V"⟩
def dkwX1_mixReplica_8 : List UInt8 := [182, 0, 106, 184, 1, 2, 133, 182, 1, 66, 132, 4, 1, 167, 255, 219, 177]
abbrev dktX1_mixReplica_8 : List UInt8 := dkwX1_mixReplica_8 ++ []
def dkwX1_mixReplica_7 : List UInt8 := [21, 4, 45, 185, 0, 65, 1, 0, 162, 0, 32, 42, 44, 45, 21, 4, 185, 0, 88, 2, 0, 192, 0, 104]
abbrev dktX1_mixReplica_7 : List UInt8 := dkwX1_mixReplica_7 ++ dktX1_mixReplica_8
def dkwX1_mixReplica_6 : List UInt8 := [132, 3, 1, 167, 255, 199, 42, 44, 184, 0, 251, 133, 182, 1, 66, 44, 182, 0, 255, 78, 3, 54, 4]
abbrev dktX1_mixReplica_6 : List UInt8 := dkwX1_mixReplica_6 ++ dktX1_mixReplica_7
def dkwX1_mixReplica_5 : List UInt8 := [167, 255, 235, 42, 44, 29, 182, 0, 224, 182, 1, 66, 42, 44, 29, 182, 0, 228, 133, 182, 1, 66]
abbrev dktX1_mixReplica_5 : List UInt8 := dkwX1_mixReplica_5 ++ dktX1_mixReplica_6
def dkwX1_mixReplica_4 : List UInt8 := [3, 54, 4, 21, 4, 7, 162, 0, 21, 42, 44, 29, 21, 4, 184, 0, 220, 133, 182, 1, 66, 132, 4, 1]
abbrev dktX1_mixReplica_4 : List UInt8 := dkwX1_mixReplica_4 ++ dktX1_mixReplica_5
def dkwX1_mixReplica_3 : List UInt8 := [180, 1, 21, 182, 1, 70, 42, 44, 180, 1, 28, 182, 1, 70, 3, 62, 29, 44, 180, 0, 208, 162, 0, 55]
abbrev dktX1_mixReplica_3 : List UInt8 := dkwX1_mixReplica_3 ++ dktX1_mixReplica_4
def dkwX1_mixReplica_2 : List UInt8 := [184, 1, 10, 133, 182, 1, 66, 132, 2, 1, 167, 255, 225, 187, 0, 143, 89, 43, 183, 0, 214, 77, 42, 44]
abbrev dktX1_mixReplica_2 : List UInt8 := dkwX1_mixReplica_2 ++ dktX1_mixReplica_3
def dkwX1_mixReplica_1 : List UInt8 := [61, 28, 6, 162, 0, 32, 28, 43, 180, 1, 9, 159, 0, 18, 42, 43, 42, 180, 0, 19, 28, 50]
abbrev dktX1_mixReplica_1 : List UInt8 := dkwX1_mixReplica_1 ++ dktX1_mixReplica_2
def dkwX1_mixReplica_0 : List UInt8 := [42, 43, 180, 0, 154, 133, 182, 1, 66, 42, 43, 180, 0, 71, 185, 0, 65, 1, 0, 133, 182, 1, 66, 3]
abbrev dktX1_mixReplica_0 : List UInt8 := dkwX1_mixReplica_0 ++ dktX1_mixReplica_1
theorem dksX1_mixReplica_0 : cX1_mixReplica.data.toList.drop 0 = dktX1_mixReplica_0 := by decide +kernel
theorem dksX1_mixReplica_1 : cX1_mixReplica.data.toList.drop 24 = dktX1_mixReplica_1 := dk_seg dksX1_mixReplica_0 24 rfl rfl
theorem dksX1_mixReplica_2 : cX1_mixReplica.data.toList.drop 46 = dktX1_mixReplica_2 := dk_seg dksX1_mixReplica_1 22 rfl rfl
theorem dksX1_mixReplica_3 : cX1_mixReplica.data.toList.drop 70 = dktX1_mixReplica_3 := dk_seg dksX1_mixReplica_2 24 rfl rfl
theorem dksX1_mixReplica_4 : cX1_mixReplica.data.toList.drop 94 = dktX1_mixReplica_4 := dk_seg dksX1_mixReplica_3 24 rfl rfl
theorem dksX1_mixReplica_5 : cX1_mixReplica.data.toList.drop 118 = dktX1_mixReplica_5 := dk_seg dksX1_mixReplica_4 24 rfl rfl
theorem dksX1_mixReplica_6 : cX1_mixReplica.data.toList.drop 140 = dktX1_mixReplica_6 := dk_seg dksX1_mixReplica_5 22 rfl rfl
theorem dksX1_mixReplica_7 : cX1_mixReplica.data.toList.drop 163 = dktX1_mixReplica_7 := dk_seg dksX1_mixReplica_6 23 rfl rfl
theorem dksX1_mixReplica_8 : cX1_mixReplica.data.toList.drop 187 = dktX1_mixReplica_8 := dk_seg dksX1_mixReplica_7 24 rfl rfl
theorem dX1_mixReplica_0 : decode cX1_mixReplica 0 = .ok (.aload_n 0, 1) := dk_42 (dk_at dksX1_mixReplica_0 0 rfl rfl)
theorem dX1_mixReplica_1 : decode cX1_mixReplica 1 = .ok (.aload_n 1, 1) := dk_43 (dk_at dksX1_mixReplica_0 1 rfl rfl)
theorem dX1_mixReplica_2 : decode cX1_mixReplica 2 = .ok (.getfield 154, 3) := dk_180 0 154 (dk_at dksX1_mixReplica_0 2 rfl rfl)
theorem dX1_mixReplica_5 : decode cX1_mixReplica 5 = .ok (.i2l, 1) := dk_133 (dk_at dksX1_mixReplica_0 5 rfl rfl)
theorem dX1_mixReplica_6 : decode cX1_mixReplica 6 = .ok (.invokevirtual 322, 3) := dk_182 1 66 (dk_at dksX1_mixReplica_0 6 rfl rfl)
theorem dX1_mixReplica_9 : decode cX1_mixReplica 9 = .ok (.aload_n 0, 1) := dk_42 (dk_at dksX1_mixReplica_0 9 rfl rfl)
theorem dX1_mixReplica_10 : decode cX1_mixReplica 10 = .ok (.aload_n 1, 1) := dk_43 (dk_at dksX1_mixReplica_0 10 rfl rfl)
theorem dX1_mixReplica_11 : decode cX1_mixReplica 11 = .ok (.getfield 71, 3) := dk_180 0 71 (dk_at dksX1_mixReplica_0 11 rfl rfl)
theorem dX1_mixReplica_14 : decode cX1_mixReplica 14 = .ok (.invokeinterface 65 1, 5) := by decide +kernel
theorem dX1_mixReplica_19 : decode cX1_mixReplica 19 = .ok (.i2l, 1) := dk_133 (dk_at dksX1_mixReplica_0 19 rfl rfl)
theorem dX1_mixReplica_20 : decode cX1_mixReplica 20 = .ok (.invokevirtual 322, 3) := dk_182 1 66 (dk_at dksX1_mixReplica_0 20 rfl rfl)
theorem dX1_mixReplica_23 : decode cX1_mixReplica 23 = .ok (.iconst 0, 1) := dk_3 (dk_at dksX1_mixReplica_0 23 rfl rfl)
theorem dX1_mixReplica_24 : decode cX1_mixReplica 24 = .ok (.istore_n 2, 1) := dk_61 (dk_at dksX1_mixReplica_1 0 rfl rfl)
theorem dX1_mixReplica_25 : decode cX1_mixReplica 25 = .ok (.iload_n 2, 1) := dk_28 (dk_at dksX1_mixReplica_1 1 rfl rfl)
theorem dX1_mixReplica_26 : decode cX1_mixReplica 26 = .ok (.iconst 3, 1) := dk_6 (dk_at dksX1_mixReplica_1 2 rfl rfl)
theorem dX1_mixReplica_27 : decode cX1_mixReplica 27 = .ok (.if_icmp .ge 32, 3) := dk_162 0 32 (dk_at dksX1_mixReplica_1 3 rfl rfl)
theorem dX1_mixReplica_30 : decode cX1_mixReplica 30 = .ok (.iload_n 2, 1) := dk_28 (dk_at dksX1_mixReplica_1 6 rfl rfl)
theorem dX1_mixReplica_31 : decode cX1_mixReplica 31 = .ok (.aload_n 1, 1) := dk_43 (dk_at dksX1_mixReplica_1 7 rfl rfl)
theorem dX1_mixReplica_32 : decode cX1_mixReplica 32 = .ok (.getfield 265, 3) := dk_180 1 9 (dk_at dksX1_mixReplica_1 8 rfl rfl)
theorem dX1_mixReplica_35 : decode cX1_mixReplica 35 = .ok (.if_icmp .eq 18, 3) := dk_159 0 18 (dk_at dksX1_mixReplica_1 11 rfl rfl)
theorem dX1_mixReplica_38 : decode cX1_mixReplica 38 = .ok (.aload_n 0, 1) := dk_42 (dk_at dksX1_mixReplica_1 14 rfl rfl)
theorem dX1_mixReplica_39 : decode cX1_mixReplica 39 = .ok (.aload_n 1, 1) := dk_43 (dk_at dksX1_mixReplica_1 15 rfl rfl)
theorem dX1_mixReplica_40 : decode cX1_mixReplica 40 = .ok (.aload_n 0, 1) := dk_42 (dk_at dksX1_mixReplica_1 16 rfl rfl)
theorem dX1_mixReplica_41 : decode cX1_mixReplica 41 = .ok (.getfield 19, 3) := dk_180 0 19 (dk_at dksX1_mixReplica_1 17 rfl rfl)
theorem dX1_mixReplica_44 : decode cX1_mixReplica 44 = .ok (.iload_n 2, 1) := dk_28 (dk_at dksX1_mixReplica_1 20 rfl rfl)
theorem dX1_mixReplica_45 : decode cX1_mixReplica 45 = .ok (.aaload, 1) := dk_50 (dk_at dksX1_mixReplica_1 21 rfl rfl)
theorem dX1_mixReplica_46 : decode cX1_mixReplica 46 = .ok (.invokestatic 266, 3) := dk_184 1 10 (dk_at dksX1_mixReplica_2 0 rfl rfl)
theorem dX1_mixReplica_49 : decode cX1_mixReplica 49 = .ok (.i2l, 1) := dk_133 (dk_at dksX1_mixReplica_2 3 rfl rfl)
theorem dX1_mixReplica_50 : decode cX1_mixReplica 50 = .ok (.invokevirtual 322, 3) := dk_182 1 66 (dk_at dksX1_mixReplica_2 4 rfl rfl)
theorem dX1_mixReplica_53 : decode cX1_mixReplica 53 = .ok (.iinc 2 1, 3) := dk_132 2 1 (dk_at dksX1_mixReplica_2 7 rfl rfl)
theorem dX1_mixReplica_56 : decode cX1_mixReplica 56 = .ok (.goto (-31), 3) := dk_167 255 225 (dk_at dksX1_mixReplica_2 10 rfl rfl)
theorem dX1_mixReplica_59 : decode cX1_mixReplica 59 = .ok (.new 143, 3) := dk_187 0 143 (dk_at dksX1_mixReplica_2 13 rfl rfl)
theorem dX1_mixReplica_62 : decode cX1_mixReplica 62 = .ok (.dup, 1) := dk_89 (dk_at dksX1_mixReplica_2 16 rfl rfl)
theorem dX1_mixReplica_63 : decode cX1_mixReplica 63 = .ok (.aload_n 1, 1) := dk_43 (dk_at dksX1_mixReplica_2 17 rfl rfl)
theorem dX1_mixReplica_64 : decode cX1_mixReplica 64 = .ok (.invokespecial 214, 3) := dk_183 0 214 (dk_at dksX1_mixReplica_2 18 rfl rfl)
theorem dX1_mixReplica_67 : decode cX1_mixReplica 67 = .ok (.astore_n 2, 1) := dk_77 (dk_at dksX1_mixReplica_2 21 rfl rfl)
theorem dX1_mixReplica_68 : decode cX1_mixReplica 68 = .ok (.aload_n 0, 1) := dk_42 (dk_at dksX1_mixReplica_2 22 rfl rfl)
theorem dX1_mixReplica_69 : decode cX1_mixReplica 69 = .ok (.aload_n 2, 1) := dk_44 (dk_at dksX1_mixReplica_2 23 rfl rfl)
theorem dX1_mixReplica_70 : decode cX1_mixReplica 70 = .ok (.getfield 277, 3) := dk_180 1 21 (dk_at dksX1_mixReplica_3 0 rfl rfl)
theorem dX1_mixReplica_73 : decode cX1_mixReplica 73 = .ok (.invokevirtual 326, 3) := dk_182 1 70 (dk_at dksX1_mixReplica_3 3 rfl rfl)
theorem dX1_mixReplica_76 : decode cX1_mixReplica 76 = .ok (.aload_n 0, 1) := dk_42 (dk_at dksX1_mixReplica_3 6 rfl rfl)
theorem dX1_mixReplica_77 : decode cX1_mixReplica 77 = .ok (.aload_n 2, 1) := dk_44 (dk_at dksX1_mixReplica_3 7 rfl rfl)
theorem dX1_mixReplica_78 : decode cX1_mixReplica 78 = .ok (.getfield 284, 3) := dk_180 1 28 (dk_at dksX1_mixReplica_3 8 rfl rfl)
theorem dX1_mixReplica_81 : decode cX1_mixReplica 81 = .ok (.invokevirtual 326, 3) := dk_182 1 70 (dk_at dksX1_mixReplica_3 11 rfl rfl)
theorem dX1_mixReplica_84 : decode cX1_mixReplica 84 = .ok (.iconst 0, 1) := dk_3 (dk_at dksX1_mixReplica_3 14 rfl rfl)
theorem dX1_mixReplica_85 : decode cX1_mixReplica 85 = .ok (.istore_n 3, 1) := dk_62 (dk_at dksX1_mixReplica_3 15 rfl rfl)
theorem dX1_mixReplica_86 : decode cX1_mixReplica 86 = .ok (.iload_n 3, 1) := dk_29 (dk_at dksX1_mixReplica_3 16 rfl rfl)
theorem dX1_mixReplica_87 : decode cX1_mixReplica 87 = .ok (.aload_n 2, 1) := dk_44 (dk_at dksX1_mixReplica_3 17 rfl rfl)
theorem dX1_mixReplica_88 : decode cX1_mixReplica 88 = .ok (.getfield 208, 3) := dk_180 0 208 (dk_at dksX1_mixReplica_3 18 rfl rfl)
theorem dX1_mixReplica_91 : decode cX1_mixReplica 91 = .ok (.if_icmp .ge 55, 3) := dk_162 0 55 (dk_at dksX1_mixReplica_3 21 rfl rfl)
theorem dX1_mixReplica_94 : decode cX1_mixReplica 94 = .ok (.iconst 0, 1) := dk_3 (dk_at dksX1_mixReplica_4 0 rfl rfl)
theorem dX1_mixReplica_95 : decode cX1_mixReplica 95 = .ok (.istore 4, 2) := dk_54 4 (dk_at dksX1_mixReplica_4 1 rfl rfl)
theorem dX1_mixReplica_97 : decode cX1_mixReplica 97 = .ok (.iload 4, 2) := dk_21 4 (dk_at dksX1_mixReplica_4 3 rfl rfl)
theorem dX1_mixReplica_99 : decode cX1_mixReplica 99 = .ok (.iconst 4, 1) := dk_7 (dk_at dksX1_mixReplica_4 5 rfl rfl)
theorem dX1_mixReplica_100 : decode cX1_mixReplica 100 = .ok (.if_icmp .ge 21, 3) := dk_162 0 21 (dk_at dksX1_mixReplica_4 6 rfl rfl)
theorem dX1_mixReplica_103 : decode cX1_mixReplica 103 = .ok (.aload_n 0, 1) := dk_42 (dk_at dksX1_mixReplica_4 9 rfl rfl)
theorem dX1_mixReplica_104 : decode cX1_mixReplica 104 = .ok (.aload_n 2, 1) := dk_44 (dk_at dksX1_mixReplica_4 10 rfl rfl)
theorem dX1_mixReplica_105 : decode cX1_mixReplica 105 = .ok (.iload_n 3, 1) := dk_29 (dk_at dksX1_mixReplica_4 11 rfl rfl)
theorem dX1_mixReplica_106 : decode cX1_mixReplica 106 = .ok (.iload 4, 2) := dk_21 4 (dk_at dksX1_mixReplica_4 12 rfl rfl)
theorem dX1_mixReplica_108 : decode cX1_mixReplica 108 = .ok (.invokestatic 220, 3) := dk_184 0 220 (dk_at dksX1_mixReplica_4 14 rfl rfl)
theorem dX1_mixReplica_111 : decode cX1_mixReplica 111 = .ok (.i2l, 1) := dk_133 (dk_at dksX1_mixReplica_4 17 rfl rfl)
theorem dX1_mixReplica_112 : decode cX1_mixReplica 112 = .ok (.invokevirtual 322, 3) := dk_182 1 66 (dk_at dksX1_mixReplica_4 18 rfl rfl)
theorem dX1_mixReplica_115 : decode cX1_mixReplica 115 = .ok (.iinc 4 1, 3) := dk_132 4 1 (dk_at dksX1_mixReplica_4 21 rfl rfl)
theorem dX1_mixReplica_118 : decode cX1_mixReplica 118 = .ok (.goto (-21), 3) := dk_167 255 235 (dk_at dksX1_mixReplica_5 0 rfl rfl)
theorem dX1_mixReplica_121 : decode cX1_mixReplica 121 = .ok (.aload_n 0, 1) := dk_42 (dk_at dksX1_mixReplica_5 3 rfl rfl)
theorem dX1_mixReplica_122 : decode cX1_mixReplica 122 = .ok (.aload_n 2, 1) := dk_44 (dk_at dksX1_mixReplica_5 4 rfl rfl)
theorem dX1_mixReplica_123 : decode cX1_mixReplica 123 = .ok (.iload_n 3, 1) := dk_29 (dk_at dksX1_mixReplica_5 5 rfl rfl)
theorem dX1_mixReplica_124 : decode cX1_mixReplica 124 = .ok (.invokevirtual 224, 3) := dk_182 0 224 (dk_at dksX1_mixReplica_5 6 rfl rfl)
theorem dX1_mixReplica_127 : decode cX1_mixReplica 127 = .ok (.invokevirtual 322, 3) := dk_182 1 66 (dk_at dksX1_mixReplica_5 9 rfl rfl)
theorem dX1_mixReplica_130 : decode cX1_mixReplica 130 = .ok (.aload_n 0, 1) := dk_42 (dk_at dksX1_mixReplica_5 12 rfl rfl)
theorem dX1_mixReplica_131 : decode cX1_mixReplica 131 = .ok (.aload_n 2, 1) := dk_44 (dk_at dksX1_mixReplica_5 13 rfl rfl)
theorem dX1_mixReplica_132 : decode cX1_mixReplica 132 = .ok (.iload_n 3, 1) := dk_29 (dk_at dksX1_mixReplica_5 14 rfl rfl)
theorem dX1_mixReplica_133 : decode cX1_mixReplica 133 = .ok (.invokevirtual 228, 3) := dk_182 0 228 (dk_at dksX1_mixReplica_5 15 rfl rfl)
theorem dX1_mixReplica_136 : decode cX1_mixReplica 136 = .ok (.i2l, 1) := dk_133 (dk_at dksX1_mixReplica_5 18 rfl rfl)
theorem dX1_mixReplica_137 : decode cX1_mixReplica 137 = .ok (.invokevirtual 322, 3) := dk_182 1 66 (dk_at dksX1_mixReplica_5 19 rfl rfl)
theorem dX1_mixReplica_140 : decode cX1_mixReplica 140 = .ok (.iinc 3 1, 3) := dk_132 3 1 (dk_at dksX1_mixReplica_6 0 rfl rfl)
theorem dX1_mixReplica_143 : decode cX1_mixReplica 143 = .ok (.goto (-57), 3) := dk_167 255 199 (dk_at dksX1_mixReplica_6 3 rfl rfl)
theorem dX1_mixReplica_146 : decode cX1_mixReplica 146 = .ok (.aload_n 0, 1) := dk_42 (dk_at dksX1_mixReplica_6 6 rfl rfl)
theorem dX1_mixReplica_147 : decode cX1_mixReplica 147 = .ok (.aload_n 2, 1) := dk_44 (dk_at dksX1_mixReplica_6 7 rfl rfl)
theorem dX1_mixReplica_148 : decode cX1_mixReplica 148 = .ok (.invokestatic 251, 3) := dk_184 0 251 (dk_at dksX1_mixReplica_6 8 rfl rfl)
theorem dX1_mixReplica_151 : decode cX1_mixReplica 151 = .ok (.i2l, 1) := dk_133 (dk_at dksX1_mixReplica_6 11 rfl rfl)
theorem dX1_mixReplica_152 : decode cX1_mixReplica 152 = .ok (.invokevirtual 322, 3) := dk_182 1 66 (dk_at dksX1_mixReplica_6 12 rfl rfl)
theorem dX1_mixReplica_155 : decode cX1_mixReplica 155 = .ok (.aload_n 2, 1) := dk_44 (dk_at dksX1_mixReplica_6 15 rfl rfl)
theorem dX1_mixReplica_156 : decode cX1_mixReplica 156 = .ok (.invokevirtual 255, 3) := dk_182 0 255 (dk_at dksX1_mixReplica_6 16 rfl rfl)
theorem dX1_mixReplica_159 : decode cX1_mixReplica 159 = .ok (.astore_n 3, 1) := dk_78 (dk_at dksX1_mixReplica_6 19 rfl rfl)
theorem dX1_mixReplica_160 : decode cX1_mixReplica 160 = .ok (.iconst 0, 1) := dk_3 (dk_at dksX1_mixReplica_6 20 rfl rfl)
theorem dX1_mixReplica_161 : decode cX1_mixReplica 161 = .ok (.istore 4, 2) := dk_54 4 (dk_at dksX1_mixReplica_6 21 rfl rfl)
theorem dX1_mixReplica_163 : decode cX1_mixReplica 163 = .ok (.iload 4, 2) := dk_21 4 (dk_at dksX1_mixReplica_7 0 rfl rfl)
theorem dX1_mixReplica_165 : decode cX1_mixReplica 165 = .ok (.aload_n 3, 1) := dk_45 (dk_at dksX1_mixReplica_7 2 rfl rfl)
theorem dX1_mixReplica_166 : decode cX1_mixReplica 166 = .ok (.invokeinterface 65 1, 5) := by decide +kernel
theorem dX1_mixReplica_171 : decode cX1_mixReplica 171 = .ok (.if_icmp .ge 32, 3) := dk_162 0 32 (dk_at dksX1_mixReplica_7 8 rfl rfl)
theorem dX1_mixReplica_174 : decode cX1_mixReplica 174 = .ok (.aload_n 0, 1) := dk_42 (dk_at dksX1_mixReplica_7 11 rfl rfl)
theorem dX1_mixReplica_175 : decode cX1_mixReplica 175 = .ok (.aload_n 2, 1) := dk_44 (dk_at dksX1_mixReplica_7 12 rfl rfl)
theorem dX1_mixReplica_176 : decode cX1_mixReplica 176 = .ok (.aload_n 3, 1) := dk_45 (dk_at dksX1_mixReplica_7 13 rfl rfl)
theorem dX1_mixReplica_177 : decode cX1_mixReplica 177 = .ok (.iload 4, 2) := dk_21 4 (dk_at dksX1_mixReplica_7 14 rfl rfl)
theorem dX1_mixReplica_179 : decode cX1_mixReplica 179 = .ok (.invokeinterface 88 2, 5) := by decide +kernel
theorem dX1_mixReplica_184 : decode cX1_mixReplica 184 = .ok (.checkcast 104, 3) := dk_192 0 104 (dk_at dksX1_mixReplica_7 21 rfl rfl)
theorem dX1_mixReplica_187 : decode cX1_mixReplica 187 = .ok (.invokevirtual 106, 3) := dk_182 0 106 (dk_at dksX1_mixReplica_8 0 rfl rfl)
theorem dX1_mixReplica_190 : decode cX1_mixReplica 190 = .ok (.invokestatic 258, 3) := dk_184 1 2 (dk_at dksX1_mixReplica_8 3 rfl rfl)
theorem dX1_mixReplica_193 : decode cX1_mixReplica 193 = .ok (.i2l, 1) := dk_133 (dk_at dksX1_mixReplica_8 6 rfl rfl)
theorem dX1_mixReplica_194 : decode cX1_mixReplica 194 = .ok (.invokevirtual 322, 3) := dk_182 1 66 (dk_at dksX1_mixReplica_8 7 rfl rfl)
theorem dX1_mixReplica_197 : decode cX1_mixReplica 197 = .ok (.iinc 4 1, 3) := dk_132 4 1 (dk_at dksX1_mixReplica_8 10 rfl rfl)
theorem dX1_mixReplica_200 : decode cX1_mixReplica 200 = .ok (.goto (-37), 3) := dk_167 255 219 (dk_at dksX1_mixReplica_8 13 rfl rfl)
theorem dX1_mixReplica_203 : decode cX1_mixReplica 203 = .ok (.return_, 1) := dk_177 (dk_at dksX1_mixReplica_8 16 rfl rfl)
abbrev cX1_mix : ByteArray := prog_1_method_50_code
def yX1_mix : MethodName := ⟨RX1, "mix", "(J)V"⟩
def dkwX1_mix_0 : List UInt8 := [42, 20, 1, 60, 42, 180, 1, 62, 105, 31, 97, 181, 1, 62, 177]
abbrev dktX1_mix_0 : List UInt8 := dkwX1_mix_0 ++ []
theorem dksX1_mix_0 : cX1_mix.data.toList.drop 0 = dktX1_mix_0 := by decide +kernel
theorem dX1_mix_0 : decode cX1_mix 0 = .ok (.aload_n 0, 1) := dk_42 (dk_at dksX1_mix_0 0 rfl rfl)
theorem dX1_mix_1 : decode cX1_mix 1 = .ok (.ldc2_w 316, 3) := dk_20 1 60 (dk_at dksX1_mix_0 1 rfl rfl)
theorem dX1_mix_4 : decode cX1_mix 4 = .ok (.aload_n 0, 1) := dk_42 (dk_at dksX1_mix_0 4 rfl rfl)
theorem dX1_mix_5 : decode cX1_mix 5 = .ok (.getfield 318, 3) := dk_180 1 62 (dk_at dksX1_mix_0 5 rfl rfl)
theorem dX1_mix_8 : decode cX1_mix 8 = .ok (.lmul, 1) := dk_105 (dk_at dksX1_mix_0 8 rfl rfl)
theorem dX1_mix_9 : decode cX1_mix 9 = .ok (.lload_n 1, 1) := dk_31 (dk_at dksX1_mix_0 9 rfl rfl)
theorem dX1_mix_10 : decode cX1_mix 10 = .ok (.ladd, 1) := dk_97 (dk_at dksX1_mix_0 10 rfl rfl)
theorem dX1_mix_11 : decode cX1_mix 11 = .ok (.putfield 318, 3) := dk_181 1 62 (dk_at dksX1_mix_0 11 rfl rfl)
theorem dX1_mix_14 : decode cX1_mix 14 = .ok (.return_, 1) := dk_177 (dk_at dksX1_mix_0 14 rfl rfl)
abbrev cX1_mixLines : ByteArray := prog_1_method_51_code
def yX1_mixLines : MethodName := ⟨RX1, "mixLines", "(Ljava/util/List;)V"⟩
def dkwX1_mixLines_3 : List UInt8 := [132, 2, 1, 167, 255, 198, 177]
abbrev dktX1_mixLines_3 : List UInt8 := dkwX1_mixLines_3 ++ []
def dkwX1_mixLines_2 : List UInt8 := [185, 0, 88, 2, 0, 192, 0, 92, 180, 0, 94, 180, 0, 98, 192, 0, 104, 182, 0, 106, 133, 182, 1, 66]
abbrev dktX1_mixLines_2 : List UInt8 := dkwX1_mixLines_2 ++ dktX1_mixLines_3
def dkwX1_mixLines_1 : List UInt8 := [43, 28, 185, 0, 88, 2, 0, 192, 0, 92, 180, 0, 138, 133, 182, 1, 66, 42, 43, 28]
abbrev dktX1_mixLines_1 : List UInt8 := dkwX1_mixLines_1 ++ dktX1_mixLines_2
def dkwX1_mixLines_0 : List UInt8 := [42, 43, 185, 0, 65, 1, 0, 133, 182, 1, 66, 3, 61, 28, 43, 185, 0, 65, 1, 0, 162, 0, 54, 42]
abbrev dktX1_mixLines_0 : List UInt8 := dkwX1_mixLines_0 ++ dktX1_mixLines_1
theorem dksX1_mixLines_0 : cX1_mixLines.data.toList.drop 0 = dktX1_mixLines_0 := by decide +kernel
theorem dksX1_mixLines_1 : cX1_mixLines.data.toList.drop 24 = dktX1_mixLines_1 := dk_seg dksX1_mixLines_0 24 rfl rfl
theorem dksX1_mixLines_2 : cX1_mixLines.data.toList.drop 44 = dktX1_mixLines_2 := dk_seg dksX1_mixLines_1 20 rfl rfl
theorem dksX1_mixLines_3 : cX1_mixLines.data.toList.drop 68 = dktX1_mixLines_3 := dk_seg dksX1_mixLines_2 24 rfl rfl
theorem dX1_mixLines_0 : decode cX1_mixLines 0 = .ok (.aload_n 0, 1) := dk_42 (dk_at dksX1_mixLines_0 0 rfl rfl)
theorem dX1_mixLines_1 : decode cX1_mixLines 1 = .ok (.aload_n 1, 1) := dk_43 (dk_at dksX1_mixLines_0 1 rfl rfl)
theorem dX1_mixLines_2 : decode cX1_mixLines 2 = .ok (.invokeinterface 65 1, 5) := by decide +kernel
theorem dX1_mixLines_7 : decode cX1_mixLines 7 = .ok (.i2l, 1) := dk_133 (dk_at dksX1_mixLines_0 7 rfl rfl)
theorem dX1_mixLines_8 : decode cX1_mixLines 8 = .ok (.invokevirtual 322, 3) := dk_182 1 66 (dk_at dksX1_mixLines_0 8 rfl rfl)
theorem dX1_mixLines_11 : decode cX1_mixLines 11 = .ok (.iconst 0, 1) := dk_3 (dk_at dksX1_mixLines_0 11 rfl rfl)
theorem dX1_mixLines_12 : decode cX1_mixLines 12 = .ok (.istore_n 2, 1) := dk_61 (dk_at dksX1_mixLines_0 12 rfl rfl)
theorem dX1_mixLines_13 : decode cX1_mixLines 13 = .ok (.iload_n 2, 1) := dk_28 (dk_at dksX1_mixLines_0 13 rfl rfl)
theorem dX1_mixLines_14 : decode cX1_mixLines 14 = .ok (.aload_n 1, 1) := dk_43 (dk_at dksX1_mixLines_0 14 rfl rfl)
theorem dX1_mixLines_15 : decode cX1_mixLines 15 = .ok (.invokeinterface 65 1, 5) := by decide +kernel
theorem dX1_mixLines_20 : decode cX1_mixLines 20 = .ok (.if_icmp .ge 54, 3) := dk_162 0 54 (dk_at dksX1_mixLines_0 20 rfl rfl)
theorem dX1_mixLines_23 : decode cX1_mixLines 23 = .ok (.aload_n 0, 1) := dk_42 (dk_at dksX1_mixLines_0 23 rfl rfl)
theorem dX1_mixLines_24 : decode cX1_mixLines 24 = .ok (.aload_n 1, 1) := dk_43 (dk_at dksX1_mixLines_1 0 rfl rfl)
theorem dX1_mixLines_25 : decode cX1_mixLines 25 = .ok (.iload_n 2, 1) := dk_28 (dk_at dksX1_mixLines_1 1 rfl rfl)
theorem dX1_mixLines_26 : decode cX1_mixLines 26 = .ok (.invokeinterface 88 2, 5) := by decide +kernel
theorem dX1_mixLines_31 : decode cX1_mixLines 31 = .ok (.checkcast 92, 3) := dk_192 0 92 (dk_at dksX1_mixLines_1 7 rfl rfl)
theorem dX1_mixLines_34 : decode cX1_mixLines 34 = .ok (.getfield 138, 3) := dk_180 0 138 (dk_at dksX1_mixLines_1 10 rfl rfl)
theorem dX1_mixLines_37 : decode cX1_mixLines 37 = .ok (.i2l, 1) := dk_133 (dk_at dksX1_mixLines_1 13 rfl rfl)
theorem dX1_mixLines_38 : decode cX1_mixLines 38 = .ok (.invokevirtual 322, 3) := dk_182 1 66 (dk_at dksX1_mixLines_1 14 rfl rfl)
theorem dX1_mixLines_41 : decode cX1_mixLines 41 = .ok (.aload_n 0, 1) := dk_42 (dk_at dksX1_mixLines_1 17 rfl rfl)
theorem dX1_mixLines_42 : decode cX1_mixLines 42 = .ok (.aload_n 1, 1) := dk_43 (dk_at dksX1_mixLines_1 18 rfl rfl)
theorem dX1_mixLines_43 : decode cX1_mixLines 43 = .ok (.iload_n 2, 1) := dk_28 (dk_at dksX1_mixLines_1 19 rfl rfl)
theorem dX1_mixLines_44 : decode cX1_mixLines 44 = .ok (.invokeinterface 88 2, 5) := by decide +kernel
theorem dX1_mixLines_49 : decode cX1_mixLines 49 = .ok (.checkcast 92, 3) := dk_192 0 92 (dk_at dksX1_mixLines_2 5 rfl rfl)
theorem dX1_mixLines_52 : decode cX1_mixLines 52 = .ok (.getfield 94, 3) := dk_180 0 94 (dk_at dksX1_mixLines_2 8 rfl rfl)
theorem dX1_mixLines_55 : decode cX1_mixLines 55 = .ok (.getfield 98, 3) := dk_180 0 98 (dk_at dksX1_mixLines_2 11 rfl rfl)
theorem dX1_mixLines_58 : decode cX1_mixLines 58 = .ok (.checkcast 104, 3) := dk_192 0 104 (dk_at dksX1_mixLines_2 14 rfl rfl)
theorem dX1_mixLines_61 : decode cX1_mixLines 61 = .ok (.invokevirtual 106, 3) := dk_182 0 106 (dk_at dksX1_mixLines_2 17 rfl rfl)
theorem dX1_mixLines_64 : decode cX1_mixLines 64 = .ok (.i2l, 1) := dk_133 (dk_at dksX1_mixLines_2 20 rfl rfl)
theorem dX1_mixLines_65 : decode cX1_mixLines 65 = .ok (.invokevirtual 322, 3) := dk_182 1 66 (dk_at dksX1_mixLines_2 21 rfl rfl)
theorem dX1_mixLines_68 : decode cX1_mixLines 68 = .ok (.iinc 2 1, 3) := dk_132 2 1 (dk_at dksX1_mixLines_3 0 rfl rfl)
theorem dX1_mixLines_71 : decode cX1_mixLines 71 = .ok (.goto (-58), 3) := dk_167 255 198 (dk_at dksX1_mixLines_3 3 rfl rfl)
theorem dX1_mixLines_74 : decode cX1_mixLines 74 = .ok (.return_, 1) := dk_177 (dk_at dksX1_mixLines_3 6 rfl rfl)
abbrev cX1_property : ByteArray := prog_1_method_26_code
def yX1_property : MethodName := ⟨RX1, "property", "(LSharedSheet$View;II)I"⟩
def dkwX1_property_7 : List UInt8 := [27, 182, 0, 210, 153, 0, 7, 4, 167, 0, 4, 3, 172]
abbrev dktX1_property_7 : List UInt8 := dkwX1_property_7 ++ []
def dkwX1_property_6 : List UInt8 := [50, 27, 51, 153, 0, 7, 4, 167, 0, 4, 3, 96, 54, 4, 132, 5, 1, 167, 255, 222, 21, 4, 172, 42]
abbrev dktX1_property_6 : List UInt8 := dkwX1_property_6 ++ dktX1_property_7
def dkwX1_property_5 : List UInt8 := [172, 3, 54, 4, 3, 54, 5, 21, 5, 42, 180, 0, 208, 162, 0, 31, 21, 4, 42, 180, 0, 200, 21, 5]
abbrev dktX1_property_5 : List UInt8 := dkwX1_property_5 ++ dktX1_property_6
def dkwX1_property_4 : List UInt8 := [180, 0, 196, 172, 45, 180, 0, 98, 192, 0, 1, 180, 0, 199, 172, 42, 180, 0, 200, 27, 50, 184, 0, 204]
abbrev dktX1_property_4 : List UInt8 := dkwX1_property_4 ++ dktX1_property_5
def dkwX1_property_3 : List UInt8 := [180, 0, 189, 192, 0, 193, 180, 0, 195, 156, 0, 7, 2, 167, 0, 13, 45, 180, 0, 189, 192, 0, 193]
abbrev dktX1_property_3 : List UInt8 := dkwX1_property_3 ++ dktX1_property_4
def dkwX1_property_2 : List UInt8 := [45, 180, 0, 98, 192, 0, 1, 180, 0, 186, 172, 45, 180, 0, 189, 192, 0, 193, 180, 0, 195, 172, 45]
abbrev dktX1_property_2 : List UInt8 := dkwX1_property_2 ++ dktX1_property_3
def dkwX1_property_1 : List UInt8 := [170, 0, 0, 0, 154, 0, 0, 0, 0, 0, 0, 0, 5, 0, 0, 0, 37, 0, 0, 0, 48, 0, 0, 0, 59, 0, 0, 0, 87, 0, 0, 0, 98, 0, 0, 0, 108]
abbrev dktX1_property_1 : List UInt8 := dkwX1_property_1 ++ dktX1_property_2
def dkwX1_property_0 : List UInt8 := [42, 27, 182, 0, 182, 78, 28]
abbrev dktX1_property_0 : List UInt8 := dkwX1_property_0 ++ dktX1_property_1
theorem dksX1_property_0 : cX1_property.data.toList.drop 0 = dktX1_property_0 := by decide +kernel
theorem dksX1_property_1 : cX1_property.data.toList.drop 7 = dktX1_property_1 := dk_seg dksX1_property_0 7 rfl rfl
theorem dksX1_property_2 : cX1_property.data.toList.drop 44 = dktX1_property_2 := dk_seg dksX1_property_1 37 rfl rfl
theorem dksX1_property_3 : cX1_property.data.toList.drop 67 = dktX1_property_3 := dk_seg dksX1_property_2 23 rfl rfl
theorem dksX1_property_4 : cX1_property.data.toList.drop 90 = dktX1_property_4 := dk_seg dksX1_property_3 23 rfl rfl
theorem dksX1_property_5 : cX1_property.data.toList.drop 114 = dktX1_property_5 := dk_seg dksX1_property_4 24 rfl rfl
theorem dksX1_property_6 : cX1_property.data.toList.drop 138 = dktX1_property_6 := dk_seg dksX1_property_5 24 rfl rfl
theorem dksX1_property_7 : cX1_property.data.toList.drop 162 = dktX1_property_7 := dk_seg dksX1_property_6 24 rfl rfl
theorem dX1_property_0 : decode cX1_property 0 = .ok (.aload_n 0, 1) := dk_42 (dk_at dksX1_property_0 0 rfl rfl)
theorem dX1_property_1 : decode cX1_property 1 = .ok (.iload_n 1, 1) := dk_27 (dk_at dksX1_property_0 1 rfl rfl)
theorem dX1_property_2 : decode cX1_property 2 = .ok (.invokevirtual 182, 3) := dk_182 0 182 (dk_at dksX1_property_0 2 rfl rfl)
theorem dX1_property_5 : decode cX1_property 5 = .ok (.astore_n 3, 1) := dk_78 (dk_at dksX1_property_0 5 rfl rfl)
theorem dX1_property_6 : decode cX1_property 6 = .ok (.iload_n 2, 1) := dk_28 (dk_at dksX1_property_0 6 rfl rfl)
theorem dX1_property_7 : decode cX1_property 7 = .ok (.tableswitch 154 0 5 #[37, 48, 59, 87, 98, 108], 37) := by decide +kernel
theorem dX1_property_44 : decode cX1_property 44 = .ok (.aload_n 3, 1) := dk_45 (dk_at dksX1_property_2 0 rfl rfl)
theorem dX1_property_45 : decode cX1_property 45 = .ok (.getfield 98, 3) := dk_180 0 98 (dk_at dksX1_property_2 1 rfl rfl)
theorem dX1_property_48 : decode cX1_property 48 = .ok (.checkcast 1, 3) := dk_192 0 1 (dk_at dksX1_property_2 4 rfl rfl)
theorem dX1_property_51 : decode cX1_property 51 = .ok (.getfield 186, 3) := dk_180 0 186 (dk_at dksX1_property_2 7 rfl rfl)
theorem dX1_property_54 : decode cX1_property 54 = .ok (.ireturn, 1) := dk_172 (dk_at dksX1_property_2 10 rfl rfl)
theorem dX1_property_55 : decode cX1_property 55 = .ok (.aload_n 3, 1) := dk_45 (dk_at dksX1_property_2 11 rfl rfl)
theorem dX1_property_56 : decode cX1_property 56 = .ok (.getfield 189, 3) := dk_180 0 189 (dk_at dksX1_property_2 12 rfl rfl)
theorem dX1_property_59 : decode cX1_property 59 = .ok (.checkcast 193, 3) := dk_192 0 193 (dk_at dksX1_property_2 15 rfl rfl)
theorem dX1_property_62 : decode cX1_property 62 = .ok (.getfield 195, 3) := dk_180 0 195 (dk_at dksX1_property_2 18 rfl rfl)
theorem dX1_property_65 : decode cX1_property 65 = .ok (.ireturn, 1) := dk_172 (dk_at dksX1_property_2 21 rfl rfl)
theorem dX1_property_66 : decode cX1_property 66 = .ok (.aload_n 3, 1) := dk_45 (dk_at dksX1_property_2 22 rfl rfl)
theorem dX1_property_67 : decode cX1_property 67 = .ok (.getfield 189, 3) := dk_180 0 189 (dk_at dksX1_property_3 0 rfl rfl)
theorem dX1_property_70 : decode cX1_property 70 = .ok (.checkcast 193, 3) := dk_192 0 193 (dk_at dksX1_property_3 3 rfl rfl)
theorem dX1_property_73 : decode cX1_property 73 = .ok (.getfield 195, 3) := dk_180 0 195 (dk_at dksX1_property_3 6 rfl rfl)
theorem dX1_property_76 : decode cX1_property 76 = .ok (.ifCond .ge 7, 3) := dk_156 0 7 (dk_at dksX1_property_3 9 rfl rfl)
theorem dX1_property_79 : decode cX1_property 79 = .ok (.iconst (-1), 1) := dk_2 (dk_at dksX1_property_3 12 rfl rfl)
theorem dX1_property_80 : decode cX1_property 80 = .ok (.goto 13, 3) := dk_167 0 13 (dk_at dksX1_property_3 13 rfl rfl)
theorem dX1_property_83 : decode cX1_property 83 = .ok (.aload_n 3, 1) := dk_45 (dk_at dksX1_property_3 16 rfl rfl)
theorem dX1_property_84 : decode cX1_property 84 = .ok (.getfield 189, 3) := dk_180 0 189 (dk_at dksX1_property_3 17 rfl rfl)
theorem dX1_property_87 : decode cX1_property 87 = .ok (.checkcast 193, 3) := dk_192 0 193 (dk_at dksX1_property_3 20 rfl rfl)
theorem dX1_property_90 : decode cX1_property 90 = .ok (.getfield 196, 3) := dk_180 0 196 (dk_at dksX1_property_4 0 rfl rfl)
theorem dX1_property_93 : decode cX1_property 93 = .ok (.ireturn, 1) := dk_172 (dk_at dksX1_property_4 3 rfl rfl)
theorem dX1_property_94 : decode cX1_property 94 = .ok (.aload_n 3, 1) := dk_45 (dk_at dksX1_property_4 4 rfl rfl)
theorem dX1_property_95 : decode cX1_property 95 = .ok (.getfield 98, 3) := dk_180 0 98 (dk_at dksX1_property_4 5 rfl rfl)
theorem dX1_property_98 : decode cX1_property 98 = .ok (.checkcast 1, 3) := dk_192 0 1 (dk_at dksX1_property_4 8 rfl rfl)
theorem dX1_property_101 : decode cX1_property 101 = .ok (.getfield 199, 3) := dk_180 0 199 (dk_at dksX1_property_4 11 rfl rfl)
theorem dX1_property_104 : decode cX1_property 104 = .ok (.ireturn, 1) := dk_172 (dk_at dksX1_property_4 14 rfl rfl)
theorem dX1_property_105 : decode cX1_property 105 = .ok (.aload_n 0, 1) := dk_42 (dk_at dksX1_property_4 15 rfl rfl)
theorem dX1_property_106 : decode cX1_property 106 = .ok (.getfield 200, 3) := dk_180 0 200 (dk_at dksX1_property_4 16 rfl rfl)
theorem dX1_property_109 : decode cX1_property 109 = .ok (.iload_n 1, 1) := dk_27 (dk_at dksX1_property_4 19 rfl rfl)
theorem dX1_property_110 : decode cX1_property 110 = .ok (.aaload, 1) := dk_50 (dk_at dksX1_property_4 20 rfl rfl)
theorem dX1_property_111 : decode cX1_property 111 = .ok (.invokestatic 204, 3) := dk_184 0 204 (dk_at dksX1_property_4 21 rfl rfl)
theorem dX1_property_114 : decode cX1_property 114 = .ok (.ireturn, 1) := dk_172 (dk_at dksX1_property_5 0 rfl rfl)
theorem dX1_property_115 : decode cX1_property 115 = .ok (.iconst 0, 1) := dk_3 (dk_at dksX1_property_5 1 rfl rfl)
theorem dX1_property_116 : decode cX1_property 116 = .ok (.istore 4, 2) := dk_54 4 (dk_at dksX1_property_5 2 rfl rfl)
theorem dX1_property_118 : decode cX1_property 118 = .ok (.iconst 0, 1) := dk_3 (dk_at dksX1_property_5 4 rfl rfl)
theorem dX1_property_119 : decode cX1_property 119 = .ok (.istore 5, 2) := dk_54 5 (dk_at dksX1_property_5 5 rfl rfl)
theorem dX1_property_121 : decode cX1_property 121 = .ok (.iload 5, 2) := dk_21 5 (dk_at dksX1_property_5 7 rfl rfl)
theorem dX1_property_123 : decode cX1_property 123 = .ok (.aload_n 0, 1) := dk_42 (dk_at dksX1_property_5 9 rfl rfl)
theorem dX1_property_124 : decode cX1_property 124 = .ok (.getfield 208, 3) := dk_180 0 208 (dk_at dksX1_property_5 10 rfl rfl)
theorem dX1_property_127 : decode cX1_property 127 = .ok (.if_icmp .ge 31, 3) := dk_162 0 31 (dk_at dksX1_property_5 13 rfl rfl)
theorem dX1_property_130 : decode cX1_property 130 = .ok (.iload 4, 2) := dk_21 4 (dk_at dksX1_property_5 16 rfl rfl)
theorem dX1_property_132 : decode cX1_property 132 = .ok (.aload_n 0, 1) := dk_42 (dk_at dksX1_property_5 18 rfl rfl)
theorem dX1_property_133 : decode cX1_property 133 = .ok (.getfield 200, 3) := dk_180 0 200 (dk_at dksX1_property_5 19 rfl rfl)
theorem dX1_property_136 : decode cX1_property 136 = .ok (.iload 5, 2) := dk_21 5 (dk_at dksX1_property_5 22 rfl rfl)
theorem dX1_property_138 : decode cX1_property 138 = .ok (.aaload, 1) := dk_50 (dk_at dksX1_property_6 0 rfl rfl)
theorem dX1_property_139 : decode cX1_property 139 = .ok (.iload_n 1, 1) := dk_27 (dk_at dksX1_property_6 1 rfl rfl)
theorem dX1_property_140 : decode cX1_property 140 = .ok (.baload, 1) := dk_51 (dk_at dksX1_property_6 2 rfl rfl)
theorem dX1_property_141 : decode cX1_property 141 = .ok (.ifCond .eq 7, 3) := dk_153 0 7 (dk_at dksX1_property_6 3 rfl rfl)
theorem dX1_property_144 : decode cX1_property 144 = .ok (.iconst 1, 1) := dk_4 (dk_at dksX1_property_6 6 rfl rfl)
theorem dX1_property_145 : decode cX1_property 145 = .ok (.goto 4, 3) := dk_167 0 4 (dk_at dksX1_property_6 7 rfl rfl)
theorem dX1_property_148 : decode cX1_property 148 = .ok (.iconst 0, 1) := dk_3 (dk_at dksX1_property_6 10 rfl rfl)
theorem dX1_property_149 : decode cX1_property 149 = .ok (.iadd, 1) := dk_96 (dk_at dksX1_property_6 11 rfl rfl)
theorem dX1_property_150 : decode cX1_property 150 = .ok (.istore 4, 2) := dk_54 4 (dk_at dksX1_property_6 12 rfl rfl)
theorem dX1_property_152 : decode cX1_property 152 = .ok (.iinc 5 1, 3) := dk_132 5 1 (dk_at dksX1_property_6 14 rfl rfl)
theorem dX1_property_155 : decode cX1_property 155 = .ok (.goto (-34), 3) := dk_167 255 222 (dk_at dksX1_property_6 17 rfl rfl)
theorem dX1_property_158 : decode cX1_property 158 = .ok (.iload 4, 2) := dk_21 4 (dk_at dksX1_property_6 20 rfl rfl)
theorem dX1_property_160 : decode cX1_property 160 = .ok (.ireturn, 1) := dk_172 (dk_at dksX1_property_6 22 rfl rfl)
theorem dX1_property_161 : decode cX1_property 161 = .ok (.aload_n 0, 1) := dk_42 (dk_at dksX1_property_6 23 rfl rfl)
theorem dX1_property_162 : decode cX1_property 162 = .ok (.iload_n 1, 1) := dk_27 (dk_at dksX1_property_7 0 rfl rfl)
theorem dX1_property_163 : decode cX1_property 163 = .ok (.invokevirtual 210, 3) := dk_182 0 210 (dk_at dksX1_property_7 1 rfl rfl)
theorem dX1_property_166 : decode cX1_property 166 = .ok (.ifCond .eq 7, 3) := dk_153 0 7 (dk_at dksX1_property_7 4 rfl rfl)
theorem dX1_property_169 : decode cX1_property 169 = .ok (.iconst 1, 1) := dk_4 (dk_at dksX1_property_7 7 rfl rfl)
theorem dX1_property_170 : decode cX1_property 170 = .ok (.goto 4, 3) := dk_167 0 4 (dk_at dksX1_property_7 8 rfl rfl)
theorem dX1_property_173 : decode cX1_property 173 = .ok (.iconst 0, 1) := dk_3 (dk_at dksX1_property_7 11 rfl rfl)
theorem dX1_property_174 : decode cX1_property 174 = .ok (.ireturn, 1) := dk_172 (dk_at dksX1_property_7 12 rfl rfl)
abbrev cX1_countOf : ByteArray := prog_1_method_25_code
def yX1_countOf : MethodName := ⟨RX1, "countOf", "([Z)I"⟩
def dkwX1_countOf_1 : List UInt8 := [132, 2, 1, 167, 255, 233, 27, 172]
abbrev dktX1_countOf_1 : List UInt8 := dkwX1_countOf_1 ++ []
def dkwX1_countOf_0 : List UInt8 := [3, 60, 3, 61, 28, 42, 190, 162, 0, 23, 27, 42, 28, 51, 153, 0, 7, 4, 167, 0, 4, 3, 96, 60]
abbrev dktX1_countOf_0 : List UInt8 := dkwX1_countOf_0 ++ dktX1_countOf_1
theorem dksX1_countOf_0 : cX1_countOf.data.toList.drop 0 = dktX1_countOf_0 := by decide +kernel
theorem dksX1_countOf_1 : cX1_countOf.data.toList.drop 24 = dktX1_countOf_1 := dk_seg dksX1_countOf_0 24 rfl rfl
theorem dX1_countOf_0 : decode cX1_countOf 0 = .ok (.iconst 0, 1) := dk_3 (dk_at dksX1_countOf_0 0 rfl rfl)
theorem dX1_countOf_1 : decode cX1_countOf 1 = .ok (.istore_n 1, 1) := dk_60 (dk_at dksX1_countOf_0 1 rfl rfl)
theorem dX1_countOf_2 : decode cX1_countOf 2 = .ok (.iconst 0, 1) := dk_3 (dk_at dksX1_countOf_0 2 rfl rfl)
theorem dX1_countOf_3 : decode cX1_countOf 3 = .ok (.istore_n 2, 1) := dk_61 (dk_at dksX1_countOf_0 3 rfl rfl)
theorem dX1_countOf_4 : decode cX1_countOf 4 = .ok (.iload_n 2, 1) := dk_28 (dk_at dksX1_countOf_0 4 rfl rfl)
theorem dX1_countOf_5 : decode cX1_countOf 5 = .ok (.aload_n 0, 1) := dk_42 (dk_at dksX1_countOf_0 5 rfl rfl)
theorem dX1_countOf_6 : decode cX1_countOf 6 = .ok (.arraylength, 1) := dk_190 (dk_at dksX1_countOf_0 6 rfl rfl)
theorem dX1_countOf_7 : decode cX1_countOf 7 = .ok (.if_icmp .ge 23, 3) := dk_162 0 23 (dk_at dksX1_countOf_0 7 rfl rfl)
theorem dX1_countOf_10 : decode cX1_countOf 10 = .ok (.iload_n 1, 1) := dk_27 (dk_at dksX1_countOf_0 10 rfl rfl)
theorem dX1_countOf_11 : decode cX1_countOf 11 = .ok (.aload_n 0, 1) := dk_42 (dk_at dksX1_countOf_0 11 rfl rfl)
theorem dX1_countOf_12 : decode cX1_countOf 12 = .ok (.iload_n 2, 1) := dk_28 (dk_at dksX1_countOf_0 12 rfl rfl)
theorem dX1_countOf_13 : decode cX1_countOf 13 = .ok (.baload, 1) := dk_51 (dk_at dksX1_countOf_0 13 rfl rfl)
theorem dX1_countOf_14 : decode cX1_countOf 14 = .ok (.ifCond .eq 7, 3) := dk_153 0 7 (dk_at dksX1_countOf_0 14 rfl rfl)
theorem dX1_countOf_17 : decode cX1_countOf 17 = .ok (.iconst 1, 1) := dk_4 (dk_at dksX1_countOf_0 17 rfl rfl)
theorem dX1_countOf_18 : decode cX1_countOf 18 = .ok (.goto 4, 3) := dk_167 0 4 (dk_at dksX1_countOf_0 18 rfl rfl)
theorem dX1_countOf_21 : decode cX1_countOf 21 = .ok (.iconst 0, 1) := dk_3 (dk_at dksX1_countOf_0 21 rfl rfl)
theorem dX1_countOf_22 : decode cX1_countOf 22 = .ok (.iadd, 1) := dk_96 (dk_at dksX1_countOf_0 22 rfl rfl)
theorem dX1_countOf_23 : decode cX1_countOf 23 = .ok (.istore_n 1, 1) := dk_60 (dk_at dksX1_countOf_0 23 rfl rfl)
theorem dX1_countOf_24 : decode cX1_countOf 24 = .ok (.iinc 2 1, 3) := dk_132 2 1 (dk_at dksX1_countOf_1 0 rfl rfl)
theorem dX1_countOf_27 : decode cX1_countOf 27 = .ok (.goto (-23), 3) := dk_167 255 233 (dk_at dksX1_countOf_1 3 rfl rfl)
theorem dX1_countOf_30 : decode cX1_countOf 30 = .ok (.iload_n 1, 1) := dk_27 (dk_at dksX1_countOf_1 6 rfl rfl)
theorem dX1_countOf_31 : decode cX1_countOf 31 = .ok (.ireturn, 1) := dk_172 (dk_at dksX1_countOf_1 7 rfl rfl)
abbrev cX1_cyclesOf : ByteArray := prog_1_method_31_code
def yX1_cyclesOf : MethodName := ⟨RX1, "cyclesOf", "(LSharedSheet$View;)I"⟩
def dkwX1_cyclesOf_1 : List UInt8 := [167, 0, 4, 3, 96, 60, 132, 2, 1, 167, 255, 229, 27, 172]
abbrev dktX1_cyclesOf_1 : List UInt8 := dkwX1_cyclesOf_1 ++ []
def dkwX1_cyclesOf_0 : List UInt8 := [3, 60, 3, 61, 28, 42, 180, 0, 208, 162, 0, 25, 27, 42, 28, 182, 0, 210, 153, 0, 7, 4]
abbrev dktX1_cyclesOf_0 : List UInt8 := dkwX1_cyclesOf_0 ++ dktX1_cyclesOf_1
theorem dksX1_cyclesOf_0 : cX1_cyclesOf.data.toList.drop 0 = dktX1_cyclesOf_0 := by decide +kernel
theorem dksX1_cyclesOf_1 : cX1_cyclesOf.data.toList.drop 22 = dktX1_cyclesOf_1 := dk_seg dksX1_cyclesOf_0 22 rfl rfl
theorem dX1_cyclesOf_0 : decode cX1_cyclesOf 0 = .ok (.iconst 0, 1) := dk_3 (dk_at dksX1_cyclesOf_0 0 rfl rfl)
theorem dX1_cyclesOf_1 : decode cX1_cyclesOf 1 = .ok (.istore_n 1, 1) := dk_60 (dk_at dksX1_cyclesOf_0 1 rfl rfl)
theorem dX1_cyclesOf_2 : decode cX1_cyclesOf 2 = .ok (.iconst 0, 1) := dk_3 (dk_at dksX1_cyclesOf_0 2 rfl rfl)
theorem dX1_cyclesOf_3 : decode cX1_cyclesOf 3 = .ok (.istore_n 2, 1) := dk_61 (dk_at dksX1_cyclesOf_0 3 rfl rfl)
theorem dX1_cyclesOf_4 : decode cX1_cyclesOf 4 = .ok (.iload_n 2, 1) := dk_28 (dk_at dksX1_cyclesOf_0 4 rfl rfl)
theorem dX1_cyclesOf_5 : decode cX1_cyclesOf 5 = .ok (.aload_n 0, 1) := dk_42 (dk_at dksX1_cyclesOf_0 5 rfl rfl)
theorem dX1_cyclesOf_6 : decode cX1_cyclesOf 6 = .ok (.getfield 208, 3) := dk_180 0 208 (dk_at dksX1_cyclesOf_0 6 rfl rfl)
theorem dX1_cyclesOf_9 : decode cX1_cyclesOf 9 = .ok (.if_icmp .ge 25, 3) := dk_162 0 25 (dk_at dksX1_cyclesOf_0 9 rfl rfl)
theorem dX1_cyclesOf_12 : decode cX1_cyclesOf 12 = .ok (.iload_n 1, 1) := dk_27 (dk_at dksX1_cyclesOf_0 12 rfl rfl)
theorem dX1_cyclesOf_13 : decode cX1_cyclesOf 13 = .ok (.aload_n 0, 1) := dk_42 (dk_at dksX1_cyclesOf_0 13 rfl rfl)
theorem dX1_cyclesOf_14 : decode cX1_cyclesOf 14 = .ok (.iload_n 2, 1) := dk_28 (dk_at dksX1_cyclesOf_0 14 rfl rfl)
theorem dX1_cyclesOf_15 : decode cX1_cyclesOf 15 = .ok (.invokevirtual 210, 3) := dk_182 0 210 (dk_at dksX1_cyclesOf_0 15 rfl rfl)
theorem dX1_cyclesOf_18 : decode cX1_cyclesOf 18 = .ok (.ifCond .eq 7, 3) := dk_153 0 7 (dk_at dksX1_cyclesOf_0 18 rfl rfl)
theorem dX1_cyclesOf_21 : decode cX1_cyclesOf 21 = .ok (.iconst 1, 1) := dk_4 (dk_at dksX1_cyclesOf_0 21 rfl rfl)
theorem dX1_cyclesOf_22 : decode cX1_cyclesOf 22 = .ok (.goto 4, 3) := dk_167 0 4 (dk_at dksX1_cyclesOf_1 0 rfl rfl)
theorem dX1_cyclesOf_25 : decode cX1_cyclesOf 25 = .ok (.iconst 0, 1) := dk_3 (dk_at dksX1_cyclesOf_1 3 rfl rfl)
theorem dX1_cyclesOf_26 : decode cX1_cyclesOf 26 = .ok (.iadd, 1) := dk_96 (dk_at dksX1_cyclesOf_1 4 rfl rfl)
theorem dX1_cyclesOf_27 : decode cX1_cyclesOf 27 = .ok (.istore_n 1, 1) := dk_60 (dk_at dksX1_cyclesOf_1 5 rfl rfl)
theorem dX1_cyclesOf_28 : decode cX1_cyclesOf 28 = .ok (.iinc 2 1, 3) := dk_132 2 1 (dk_at dksX1_cyclesOf_1 6 rfl rfl)
theorem dX1_cyclesOf_31 : decode cX1_cyclesOf 31 = .ok (.goto (-27), 3) := dk_167 255 229 (dk_at dksX1_cyclesOf_1 9 rfl rfl)
theorem dX1_cyclesOf_34 : decode cX1_cyclesOf 34 = .ok (.iload_n 1, 1) := dk_27 (dk_at dksX1_cyclesOf_1 12 rfl rfl)
theorem dX1_cyclesOf_35 : decode cX1_cyclesOf 35 = .ok (.ireturn, 1) := dk_172 (dk_at dksX1_cyclesOf_1 13 rfl rfl)
abbrev cX1_toldAs : ByteArray := prog_1_method_33_code
def yX1_toldAs : MethodName := ⟨RX1, "toldAs", "(LSharedSheet$View;I)I"⟩
def dkwX1_toldAs_0 : List UInt8 := [16, 100, 27, 42, 180, 0, 217, 108, 104, 27, 42, 180, 0, 217, 112, 96, 172]
abbrev dktX1_toldAs_0 : List UInt8 := dkwX1_toldAs_0 ++ []
theorem dksX1_toldAs_0 : cX1_toldAs.data.toList.drop 0 = dktX1_toldAs_0 := by decide +kernel
theorem dX1_toldAs_0 : decode cX1_toldAs 0 = .ok (.bipush 100, 2) := dk_16 100 (dk_at dksX1_toldAs_0 0 rfl rfl)
theorem dX1_toldAs_2 : decode cX1_toldAs 2 = .ok (.iload_n 1, 1) := dk_27 (dk_at dksX1_toldAs_0 2 rfl rfl)
theorem dX1_toldAs_3 : decode cX1_toldAs 3 = .ok (.aload_n 0, 1) := dk_42 (dk_at dksX1_toldAs_0 3 rfl rfl)
theorem dX1_toldAs_4 : decode cX1_toldAs 4 = .ok (.getfield 217, 3) := dk_180 0 217 (dk_at dksX1_toldAs_0 4 rfl rfl)
theorem dX1_toldAs_7 : decode cX1_toldAs 7 = .ok (.idiv, 1) := dk_108 (dk_at dksX1_toldAs_0 7 rfl rfl)
theorem dX1_toldAs_8 : decode cX1_toldAs 8 = .ok (.imul, 1) := dk_104 (dk_at dksX1_toldAs_0 8 rfl rfl)
theorem dX1_toldAs_9 : decode cX1_toldAs 9 = .ok (.iload_n 1, 1) := dk_27 (dk_at dksX1_toldAs_0 9 rfl rfl)
theorem dX1_toldAs_10 : decode cX1_toldAs 10 = .ok (.aload_n 0, 1) := dk_42 (dk_at dksX1_toldAs_0 10 rfl rfl)
theorem dX1_toldAs_11 : decode cX1_toldAs 11 = .ok (.getfield 217, 3) := dk_180 0 217 (dk_at dksX1_toldAs_0 11 rfl rfl)
theorem dX1_toldAs_14 : decode cX1_toldAs 14 = .ok (.irem, 1) := dk_112 (dk_at dksX1_toldAs_0 14 rfl rfl)
theorem dX1_toldAs_15 : decode cX1_toldAs 15 = .ok (.iadd, 1) := dk_96 (dk_at dksX1_toldAs_0 15 rfl rfl)
theorem dX1_toldAs_16 : decode cX1_toldAs 16 = .ok (.ireturn, 1) := dk_172 (dk_at dksX1_toldAs_0 16 rfl rfl)
abbrev cX1_make : ByteArray := prog_1_method_13_code
def yX1_make : MethodName := ⟨RX1, "make", "(IZI)I"⟩
def dkwX1_make_5 : List UInt8 := [21, 7, 1, 182, 0, 131, 21, 8, 172]
abbrev dktX1_make_5 : List UInt8 := dkwX1_make_5 ++ []
def dkwX1_make_4 : List UInt8 := [46, 96, 54, 8, 25, 4, 180, 0, 117, 21, 5, 92, 46, 4, 96, 79, 25, 4, 4, 21, 5, 21, 8]
abbrev dktX1_make_4 : List UInt8 := dkwX1_make_4 ++ dktX1_make_5
def dkwX1_make_3 : List UInt8 := [4, 167, 0, 4, 3, 184, 0, 125, 42, 182, 0, 128, 6, 6, 27, 104, 96, 25, 4, 180, 0, 117, 21, 5]
abbrev dktX1_make_3 : List UInt8 := dkwX1_make_3 ++ dktX1_make_4
def dkwX1_make_2 : List UInt8 := [180, 0, 117, 21, 5, 46, 6, 162, 0, 21, 21, 7, 2, 159, 0, 15, 25, 4, 184, 0, 121, 153, 0, 7]
abbrev dktX1_make_2 : List UInt8 := dkwX1_make_2 ++ dktX1_make_3
def dkwX1_make_1 : List UInt8 := [25, 6, 185, 0, 65, 1, 0, 184, 0, 49, 184, 0, 53, 25, 6, 29, 184, 0, 113, 54, 7, 25, 4]
abbrev dktX1_make_1 : List UInt8 := dkwX1_make_1 ++ dktX1_make_2
def dkwX1_make_0 : List UInt8 := [42, 27, 182, 0, 57, 58, 4, 28, 184, 0, 109, 54, 5, 25, 4, 21, 5, 182, 0, 61, 58, 6, 29, 3]
abbrev dktX1_make_0 : List UInt8 := dkwX1_make_0 ++ dktX1_make_1
theorem dksX1_make_0 : cX1_make.data.toList.drop 0 = dktX1_make_0 := by decide +kernel
theorem dksX1_make_1 : cX1_make.data.toList.drop 24 = dktX1_make_1 := dk_seg dksX1_make_0 24 rfl rfl
theorem dksX1_make_2 : cX1_make.data.toList.drop 47 = dktX1_make_2 := dk_seg dksX1_make_1 23 rfl rfl
theorem dksX1_make_3 : cX1_make.data.toList.drop 71 = dktX1_make_3 := dk_seg dksX1_make_2 24 rfl rfl
theorem dksX1_make_4 : cX1_make.data.toList.drop 95 = dktX1_make_4 := dk_seg dksX1_make_3 24 rfl rfl
theorem dksX1_make_5 : cX1_make.data.toList.drop 118 = dktX1_make_5 := dk_seg dksX1_make_4 23 rfl rfl
theorem dX1_make_0 : decode cX1_make 0 = .ok (.aload_n 0, 1) := dk_42 (dk_at dksX1_make_0 0 rfl rfl)
theorem dX1_make_1 : decode cX1_make 1 = .ok (.iload_n 1, 1) := dk_27 (dk_at dksX1_make_0 1 rfl rfl)
theorem dX1_make_2 : decode cX1_make 2 = .ok (.invokevirtual 57, 3) := dk_182 0 57 (dk_at dksX1_make_0 2 rfl rfl)
theorem dX1_make_5 : decode cX1_make 5 = .ok (.astore 4, 2) := dk_58 4 (dk_at dksX1_make_0 5 rfl rfl)
theorem dX1_make_7 : decode cX1_make 7 = .ok (.iload_n 2, 1) := dk_28 (dk_at dksX1_make_0 7 rfl rfl)
theorem dX1_make_8 : decode cX1_make 8 = .ok (.invokestatic 109, 3) := dk_184 0 109 (dk_at dksX1_make_0 8 rfl rfl)
theorem dX1_make_11 : decode cX1_make 11 = .ok (.istore 5, 2) := dk_54 5 (dk_at dksX1_make_0 11 rfl rfl)
theorem dX1_make_13 : decode cX1_make 13 = .ok (.aload 4, 2) := dk_25 4 (dk_at dksX1_make_0 13 rfl rfl)
theorem dX1_make_15 : decode cX1_make 15 = .ok (.iload 5, 2) := dk_21 5 (dk_at dksX1_make_0 15 rfl rfl)
theorem dX1_make_17 : decode cX1_make 17 = .ok (.invokevirtual 61, 3) := dk_182 0 61 (dk_at dksX1_make_0 17 rfl rfl)
theorem dX1_make_20 : decode cX1_make 20 = .ok (.astore 6, 2) := dk_58 6 (dk_at dksX1_make_0 20 rfl rfl)
theorem dX1_make_22 : decode cX1_make 22 = .ok (.iload_n 3, 1) := dk_29 (dk_at dksX1_make_0 22 rfl rfl)
theorem dX1_make_23 : decode cX1_make 23 = .ok (.iconst 0, 1) := dk_3 (dk_at dksX1_make_0 23 rfl rfl)
theorem dX1_make_24 : decode cX1_make 24 = .ok (.aload 6, 2) := dk_25 6 (dk_at dksX1_make_1 0 rfl rfl)
theorem dX1_make_26 : decode cX1_make 26 = .ok (.invokeinterface 65 1, 5) := by decide +kernel
theorem dX1_make_31 : decode cX1_make 31 = .ok (.invokestatic 49, 3) := dk_184 0 49 (dk_at dksX1_make_1 7 rfl rfl)
theorem dX1_make_34 : decode cX1_make 34 = .ok (.invokestatic 53, 3) := dk_184 0 53 (dk_at dksX1_make_1 10 rfl rfl)
theorem dX1_make_37 : decode cX1_make 37 = .ok (.aload 6, 2) := dk_25 6 (dk_at dksX1_make_1 13 rfl rfl)
theorem dX1_make_39 : decode cX1_make 39 = .ok (.iload_n 3, 1) := dk_29 (dk_at dksX1_make_1 15 rfl rfl)
theorem dX1_make_40 : decode cX1_make 40 = .ok (.invokestatic 113, 3) := dk_184 0 113 (dk_at dksX1_make_1 16 rfl rfl)
theorem dX1_make_43 : decode cX1_make 43 = .ok (.istore 7, 2) := dk_54 7 (dk_at dksX1_make_1 19 rfl rfl)
theorem dX1_make_45 : decode cX1_make 45 = .ok (.aload 4, 2) := dk_25 4 (dk_at dksX1_make_1 21 rfl rfl)
theorem dX1_make_47 : decode cX1_make 47 = .ok (.getfield 117, 3) := dk_180 0 117 (dk_at dksX1_make_2 0 rfl rfl)
theorem dX1_make_50 : decode cX1_make 50 = .ok (.iload 5, 2) := dk_21 5 (dk_at dksX1_make_2 3 rfl rfl)
theorem dX1_make_52 : decode cX1_make 52 = .ok (.iaload, 1) := dk_46 (dk_at dksX1_make_2 5 rfl rfl)
theorem dX1_make_53 : decode cX1_make 53 = .ok (.iconst 3, 1) := dk_6 (dk_at dksX1_make_2 6 rfl rfl)
theorem dX1_make_54 : decode cX1_make 54 = .ok (.if_icmp .ge 21, 3) := dk_162 0 21 (dk_at dksX1_make_2 7 rfl rfl)
theorem dX1_make_57 : decode cX1_make 57 = .ok (.iload 7, 2) := dk_21 7 (dk_at dksX1_make_2 10 rfl rfl)
theorem dX1_make_59 : decode cX1_make 59 = .ok (.iconst (-1), 1) := dk_2 (dk_at dksX1_make_2 12 rfl rfl)
theorem dX1_make_60 : decode cX1_make 60 = .ok (.if_icmp .eq 15, 3) := dk_159 0 15 (dk_at dksX1_make_2 13 rfl rfl)
theorem dX1_make_63 : decode cX1_make 63 = .ok (.aload 4, 2) := dk_25 4 (dk_at dksX1_make_2 16 rfl rfl)
theorem dX1_make_65 : decode cX1_make 65 = .ok (.invokestatic 121, 3) := dk_184 0 121 (dk_at dksX1_make_2 18 rfl rfl)
theorem dX1_make_68 : decode cX1_make 68 = .ok (.ifCond .eq 7, 3) := dk_153 0 7 (dk_at dksX1_make_2 21 rfl rfl)
theorem dX1_make_71 : decode cX1_make 71 = .ok (.iconst 1, 1) := dk_4 (dk_at dksX1_make_3 0 rfl rfl)
theorem dX1_make_72 : decode cX1_make 72 = .ok (.goto 4, 3) := dk_167 0 4 (dk_at dksX1_make_3 1 rfl rfl)
theorem dX1_make_75 : decode cX1_make 75 = .ok (.iconst 0, 1) := dk_3 (dk_at dksX1_make_3 4 rfl rfl)
theorem dX1_make_76 : decode cX1_make 76 = .ok (.invokestatic 125, 3) := dk_184 0 125 (dk_at dksX1_make_3 5 rfl rfl)
theorem dX1_make_79 : decode cX1_make 79 = .ok (.aload_n 0, 1) := dk_42 (dk_at dksX1_make_3 8 rfl rfl)
theorem dX1_make_80 : decode cX1_make 80 = .ok (.invokevirtual 128, 3) := dk_182 0 128 (dk_at dksX1_make_3 9 rfl rfl)
theorem dX1_make_83 : decode cX1_make 83 = .ok (.iconst 3, 1) := dk_6 (dk_at dksX1_make_3 12 rfl rfl)
theorem dX1_make_84 : decode cX1_make 84 = .ok (.iconst 3, 1) := dk_6 (dk_at dksX1_make_3 13 rfl rfl)
theorem dX1_make_85 : decode cX1_make 85 = .ok (.iload_n 1, 1) := dk_27 (dk_at dksX1_make_3 14 rfl rfl)
theorem dX1_make_86 : decode cX1_make 86 = .ok (.imul, 1) := dk_104 (dk_at dksX1_make_3 15 rfl rfl)
theorem dX1_make_87 : decode cX1_make 87 = .ok (.iadd, 1) := dk_96 (dk_at dksX1_make_3 16 rfl rfl)
theorem dX1_make_88 : decode cX1_make 88 = .ok (.aload 4, 2) := dk_25 4 (dk_at dksX1_make_3 17 rfl rfl)
theorem dX1_make_90 : decode cX1_make 90 = .ok (.getfield 117, 3) := dk_180 0 117 (dk_at dksX1_make_3 19 rfl rfl)
theorem dX1_make_93 : decode cX1_make 93 = .ok (.iload 5, 2) := dk_21 5 (dk_at dksX1_make_3 22 rfl rfl)
theorem dX1_make_95 : decode cX1_make 95 = .ok (.iaload, 1) := dk_46 (dk_at dksX1_make_4 0 rfl rfl)
theorem dX1_make_96 : decode cX1_make 96 = .ok (.iadd, 1) := dk_96 (dk_at dksX1_make_4 1 rfl rfl)
theorem dX1_make_97 : decode cX1_make 97 = .ok (.istore 8, 2) := dk_54 8 (dk_at dksX1_make_4 2 rfl rfl)
theorem dX1_make_99 : decode cX1_make 99 = .ok (.aload 4, 2) := dk_25 4 (dk_at dksX1_make_4 4 rfl rfl)
theorem dX1_make_101 : decode cX1_make 101 = .ok (.getfield 117, 3) := dk_180 0 117 (dk_at dksX1_make_4 6 rfl rfl)
theorem dX1_make_104 : decode cX1_make 104 = .ok (.iload 5, 2) := dk_21 5 (dk_at dksX1_make_4 9 rfl rfl)
theorem dX1_make_106 : decode cX1_make 106 = .ok (.dup2, 1) := dk_92 (dk_at dksX1_make_4 11 rfl rfl)
theorem dX1_make_107 : decode cX1_make 107 = .ok (.iaload, 1) := dk_46 (dk_at dksX1_make_4 12 rfl rfl)
theorem dX1_make_108 : decode cX1_make 108 = .ok (.iconst 1, 1) := dk_4 (dk_at dksX1_make_4 13 rfl rfl)
theorem dX1_make_109 : decode cX1_make 109 = .ok (.iadd, 1) := dk_96 (dk_at dksX1_make_4 14 rfl rfl)
theorem dX1_make_110 : decode cX1_make 110 = .ok (.iastore, 1) := dk_79 (dk_at dksX1_make_4 15 rfl rfl)
theorem dX1_make_111 : decode cX1_make 111 = .ok (.aload 4, 2) := dk_25 4 (dk_at dksX1_make_4 16 rfl rfl)
theorem dX1_make_113 : decode cX1_make 113 = .ok (.iconst 1, 1) := dk_4 (dk_at dksX1_make_4 18 rfl rfl)
theorem dX1_make_114 : decode cX1_make 114 = .ok (.iload 5, 2) := dk_21 5 (dk_at dksX1_make_4 19 rfl rfl)
theorem dX1_make_116 : decode cX1_make 116 = .ok (.iload 8, 2) := dk_21 8 (dk_at dksX1_make_4 21 rfl rfl)
theorem dX1_make_118 : decode cX1_make 118 = .ok (.iload 7, 2) := dk_21 7 (dk_at dksX1_make_5 0 rfl rfl)
theorem dX1_make_120 : decode cX1_make 120 = .ok (.aconst_null, 1) := dk_1 (dk_at dksX1_make_5 2 rfl rfl)
theorem dX1_make_121 : decode cX1_make 121 = .ok (.invokevirtual 131, 3) := dk_182 0 131 (dk_at dksX1_make_5 3 rfl rfl)
theorem dX1_make_124 : decode cX1_make 124 = .ok (.iload 8, 2) := dk_21 8 (dk_at dksX1_make_5 6 rfl rfl)
theorem dX1_make_126 : decode cX1_make 126 = .ok (.ireturn, 1) := dk_172 (dk_at dksX1_make_5 8 rfl rfl)
abbrev cX1_replicaWith : ByteArray := prog_1_method_7_code
def yX1_replicaWith : MethodName := ⟨RX1, "replicaWith", "(I)LSharedSheet$Replica;"⟩
def dkwX1_replicaWith_0 : List UInt8 := [27, 3, 5, 184, 0, 49, 184, 0, 53, 42, 180, 0, 19, 27, 50, 176]
abbrev dktX1_replicaWith_0 : List UInt8 := dkwX1_replicaWith_0 ++ []
theorem dksX1_replicaWith_0 : cX1_replicaWith.data.toList.drop 0 = dktX1_replicaWith_0 := by decide +kernel
theorem dX1_replicaWith_0 : decode cX1_replicaWith 0 = .ok (.iload_n 1, 1) := dk_27 (dk_at dksX1_replicaWith_0 0 rfl rfl)
theorem dX1_replicaWith_1 : decode cX1_replicaWith 1 = .ok (.iconst 0, 1) := dk_3 (dk_at dksX1_replicaWith_0 1 rfl rfl)
theorem dX1_replicaWith_2 : decode cX1_replicaWith 2 = .ok (.iconst 2, 1) := dk_5 (dk_at dksX1_replicaWith_0 2 rfl rfl)
theorem dX1_replicaWith_3 : decode cX1_replicaWith 3 = .ok (.invokestatic 49, 3) := dk_184 0 49 (dk_at dksX1_replicaWith_0 3 rfl rfl)
theorem dX1_replicaWith_6 : decode cX1_replicaWith 6 = .ok (.invokestatic 53, 3) := dk_184 0 53 (dk_at dksX1_replicaWith_0 6 rfl rfl)
theorem dX1_replicaWith_9 : decode cX1_replicaWith 9 = .ok (.aload_n 0, 1) := dk_42 (dk_at dksX1_replicaWith_0 9 rfl rfl)
theorem dX1_replicaWith_10 : decode cX1_replicaWith 10 = .ok (.getfield 19, 3) := dk_180 0 19 (dk_at dksX1_replicaWith_0 10 rfl rfl)
theorem dX1_replicaWith_13 : decode cX1_replicaWith 13 = .ok (.iload_n 1, 1) := dk_27 (dk_at dksX1_replicaWith_0 13 rfl rfl)
theorem dX1_replicaWith_14 : decode cX1_replicaWith 14 = .ok (.aaload, 1) := dk_50 (dk_at dksX1_replicaWith_0 14 rfl rfl)
theorem dX1_replicaWith_15 : decode cX1_replicaWith 15 = .ok (.areturn, 1) := dk_176 (dk_at dksX1_replicaWith_0 15 rfl rfl)
abbrev cX1_checkIndex : ByteArray := prog_1_method_4_code
def yX1_checkIndex : MethodName := ⟨RX1, "checkIndex", "(Z)V"⟩
def dkwX1_checkIndex_0 : List UInt8 := [26, 154, 0, 11, 187, 0, 40, 89, 183, 0, 42, 191, 177]
abbrev dktX1_checkIndex_0 : List UInt8 := dkwX1_checkIndex_0 ++ []
theorem dksX1_checkIndex_0 : cX1_checkIndex.data.toList.drop 0 = dktX1_checkIndex_0 := by decide +kernel
theorem dX1_checkIndex_0 : decode cX1_checkIndex 0 = .ok (.iload_n 0, 1) := dk_26 (dk_at dksX1_checkIndex_0 0 rfl rfl)
theorem dX1_checkIndex_1 : decode cX1_checkIndex 1 = .ok (.ifCond .ne 11, 3) := dk_154 0 11 (dk_at dksX1_checkIndex_0 1 rfl rfl)
theorem dX1_checkIndex_4 : decode cX1_checkIndex 4 = .ok (.new 40, 3) := dk_187 0 40 (dk_at dksX1_checkIndex_0 4 rfl rfl)
theorem dX1_checkIndex_7 : decode cX1_checkIndex 7 = .ok (.dup, 1) := dk_89 (dk_at dksX1_checkIndex_0 7 rfl rfl)
theorem dX1_checkIndex_8 : decode cX1_checkIndex 8 = .ok (.invokespecial 42, 3) := dk_183 0 42 (dk_at dksX1_checkIndex_0 8 rfl rfl)
theorem dX1_checkIndex_11 : decode cX1_checkIndex 11 = .ok (.athrow, 1) := dk_191 (dk_at dksX1_checkIndex_0 11 rfl rfl)
theorem dX1_checkIndex_12 : decode cX1_checkIndex 12 = .ok (.return_, 1) := dk_177 (dk_at dksX1_checkIndex_0 12 rfl rfl)
abbrev cX1_kindOf : ByteArray := prog_1_method_9_code
def yX1_kindOf : MethodName := ⟨RX1, "kindOf", "(Z)I"⟩
def dkwX1_kindOf_0 : List UInt8 := [26, 153, 0, 7, 4, 167, 0, 4, 3, 172]
abbrev dktX1_kindOf_0 : List UInt8 := dkwX1_kindOf_0 ++ []
theorem dksX1_kindOf_0 : cX1_kindOf.data.toList.drop 0 = dktX1_kindOf_0 := by decide +kernel
theorem dX1_kindOf_0 : decode cX1_kindOf 0 = .ok (.iload_n 0, 1) := dk_26 (dk_at dksX1_kindOf_0 0 rfl rfl)
theorem dX1_kindOf_1 : decode cX1_kindOf 1 = .ok (.ifCond .eq 7, 3) := dk_153 0 7 (dk_at dksX1_kindOf_0 1 rfl rfl)
theorem dX1_kindOf_4 : decode cX1_kindOf 4 = .ok (.iconst 1, 1) := dk_4 (dk_at dksX1_kindOf_0 4 rfl rfl)
theorem dX1_kindOf_5 : decode cX1_kindOf 5 = .ok (.goto 4, 3) := dk_167 0 4 (dk_at dksX1_kindOf_0 5 rfl rfl)
theorem dX1_kindOf_8 : decode cX1_kindOf 8 = .ok (.iconst 0, 1) := dk_3 (dk_at dksX1_kindOf_0 8 rfl rfl)
theorem dX1_kindOf_9 : decode cX1_kindOf 9 = .ok (.ireturn, 1) := dk_172 (dk_at dksX1_kindOf_0 9 rfl rfl)
abbrev cX1_placeAt : ByteArray := prog_1_method_12_code
def yX1_placeAt : MethodName := ⟨RX1, "placeAt", "(Ljava/util/List;I)I"⟩
def dkwX1_placeAt_3 : List UInt8 := [182, 0, 106, 62, 28, 29, 96, 5, 108, 54, 4, 21, 4, 28, 164, 0, 8, 21, 4, 167, 0, 4, 2, 172]
abbrev dktX1_placeAt_3 : List UInt8 := dkwX1_placeAt_3 ++ []
def dkwX1_placeAt_2 : List UInt8 := [96, 167, 0, 25, 42, 27, 185, 0, 88, 2, 0, 192, 0, 92, 180, 0, 94, 180, 0, 98, 192, 0, 104]
abbrev dktX1_placeAt_2 : List UInt8 := dkwX1_placeAt_2 ++ dktX1_placeAt_3
def dkwX1_placeAt_1 : List UInt8 := [180, 0, 98, 192, 0, 104, 182, 0, 106, 61, 27, 42, 185, 0, 65, 1, 0, 160, 0, 11, 28, 17, 7, 208]
abbrev dktX1_placeAt_1 : List UInt8 := dkwX1_placeAt_1 ++ dktX1_placeAt_2
def dkwX1_placeAt_0 : List UInt8 := [27, 154, 0, 7, 3, 167, 0, 27, 42, 27, 4, 100, 185, 0, 88, 2, 0, 192, 0, 92, 180, 0, 94]
abbrev dktX1_placeAt_0 : List UInt8 := dkwX1_placeAt_0 ++ dktX1_placeAt_1
theorem dksX1_placeAt_0 : cX1_placeAt.data.toList.drop 0 = dktX1_placeAt_0 := by decide +kernel
theorem dksX1_placeAt_1 : cX1_placeAt.data.toList.drop 23 = dktX1_placeAt_1 := dk_seg dksX1_placeAt_0 23 rfl rfl
theorem dksX1_placeAt_2 : cX1_placeAt.data.toList.drop 47 = dktX1_placeAt_2 := dk_seg dksX1_placeAt_1 24 rfl rfl
theorem dksX1_placeAt_3 : cX1_placeAt.data.toList.drop 70 = dktX1_placeAt_3 := dk_seg dksX1_placeAt_2 23 rfl rfl
theorem dX1_placeAt_0 : decode cX1_placeAt 0 = .ok (.iload_n 1, 1) := dk_27 (dk_at dksX1_placeAt_0 0 rfl rfl)
theorem dX1_placeAt_1 : decode cX1_placeAt 1 = .ok (.ifCond .ne 7, 3) := dk_154 0 7 (dk_at dksX1_placeAt_0 1 rfl rfl)
theorem dX1_placeAt_4 : decode cX1_placeAt 4 = .ok (.iconst 0, 1) := dk_3 (dk_at dksX1_placeAt_0 4 rfl rfl)
theorem dX1_placeAt_5 : decode cX1_placeAt 5 = .ok (.goto 27, 3) := dk_167 0 27 (dk_at dksX1_placeAt_0 5 rfl rfl)
theorem dX1_placeAt_8 : decode cX1_placeAt 8 = .ok (.aload_n 0, 1) := dk_42 (dk_at dksX1_placeAt_0 8 rfl rfl)
theorem dX1_placeAt_9 : decode cX1_placeAt 9 = .ok (.iload_n 1, 1) := dk_27 (dk_at dksX1_placeAt_0 9 rfl rfl)
theorem dX1_placeAt_10 : decode cX1_placeAt 10 = .ok (.iconst 1, 1) := dk_4 (dk_at dksX1_placeAt_0 10 rfl rfl)
theorem dX1_placeAt_11 : decode cX1_placeAt 11 = .ok (.isub, 1) := dk_100 (dk_at dksX1_placeAt_0 11 rfl rfl)
theorem dX1_placeAt_12 : decode cX1_placeAt 12 = .ok (.invokeinterface 88 2, 5) := by decide +kernel
theorem dX1_placeAt_17 : decode cX1_placeAt 17 = .ok (.checkcast 92, 3) := dk_192 0 92 (dk_at dksX1_placeAt_0 17 rfl rfl)
theorem dX1_placeAt_20 : decode cX1_placeAt 20 = .ok (.getfield 94, 3) := dk_180 0 94 (dk_at dksX1_placeAt_0 20 rfl rfl)
theorem dX1_placeAt_23 : decode cX1_placeAt 23 = .ok (.getfield 98, 3) := dk_180 0 98 (dk_at dksX1_placeAt_1 0 rfl rfl)
theorem dX1_placeAt_26 : decode cX1_placeAt 26 = .ok (.checkcast 104, 3) := dk_192 0 104 (dk_at dksX1_placeAt_1 3 rfl rfl)
theorem dX1_placeAt_29 : decode cX1_placeAt 29 = .ok (.invokevirtual 106, 3) := dk_182 0 106 (dk_at dksX1_placeAt_1 6 rfl rfl)
theorem dX1_placeAt_32 : decode cX1_placeAt 32 = .ok (.istore_n 2, 1) := dk_61 (dk_at dksX1_placeAt_1 9 rfl rfl)
theorem dX1_placeAt_33 : decode cX1_placeAt 33 = .ok (.iload_n 1, 1) := dk_27 (dk_at dksX1_placeAt_1 10 rfl rfl)
theorem dX1_placeAt_34 : decode cX1_placeAt 34 = .ok (.aload_n 0, 1) := dk_42 (dk_at dksX1_placeAt_1 11 rfl rfl)
theorem dX1_placeAt_35 : decode cX1_placeAt 35 = .ok (.invokeinterface 65 1, 5) := by decide +kernel
theorem dX1_placeAt_40 : decode cX1_placeAt 40 = .ok (.if_icmp .ne 11, 3) := dk_160 0 11 (dk_at dksX1_placeAt_1 17 rfl rfl)
theorem dX1_placeAt_43 : decode cX1_placeAt 43 = .ok (.iload_n 2, 1) := dk_28 (dk_at dksX1_placeAt_1 20 rfl rfl)
theorem dX1_placeAt_44 : decode cX1_placeAt 44 = .ok (.sipush 2000, 3) := dk_17 7 208 (dk_at dksX1_placeAt_1 21 rfl rfl)
theorem dX1_placeAt_47 : decode cX1_placeAt 47 = .ok (.iadd, 1) := dk_96 (dk_at dksX1_placeAt_2 0 rfl rfl)
theorem dX1_placeAt_48 : decode cX1_placeAt 48 = .ok (.goto 25, 3) := dk_167 0 25 (dk_at dksX1_placeAt_2 1 rfl rfl)
theorem dX1_placeAt_51 : decode cX1_placeAt 51 = .ok (.aload_n 0, 1) := dk_42 (dk_at dksX1_placeAt_2 4 rfl rfl)
theorem dX1_placeAt_52 : decode cX1_placeAt 52 = .ok (.iload_n 1, 1) := dk_27 (dk_at dksX1_placeAt_2 5 rfl rfl)
theorem dX1_placeAt_53 : decode cX1_placeAt 53 = .ok (.invokeinterface 88 2, 5) := by decide +kernel
theorem dX1_placeAt_58 : decode cX1_placeAt 58 = .ok (.checkcast 92, 3) := dk_192 0 92 (dk_at dksX1_placeAt_2 11 rfl rfl)
theorem dX1_placeAt_61 : decode cX1_placeAt 61 = .ok (.getfield 94, 3) := dk_180 0 94 (dk_at dksX1_placeAt_2 14 rfl rfl)
theorem dX1_placeAt_64 : decode cX1_placeAt 64 = .ok (.getfield 98, 3) := dk_180 0 98 (dk_at dksX1_placeAt_2 17 rfl rfl)
theorem dX1_placeAt_67 : decode cX1_placeAt 67 = .ok (.checkcast 104, 3) := dk_192 0 104 (dk_at dksX1_placeAt_2 20 rfl rfl)
theorem dX1_placeAt_70 : decode cX1_placeAt 70 = .ok (.invokevirtual 106, 3) := dk_182 0 106 (dk_at dksX1_placeAt_3 0 rfl rfl)
theorem dX1_placeAt_73 : decode cX1_placeAt 73 = .ok (.istore_n 3, 1) := dk_62 (dk_at dksX1_placeAt_3 3 rfl rfl)
theorem dX1_placeAt_74 : decode cX1_placeAt 74 = .ok (.iload_n 2, 1) := dk_28 (dk_at dksX1_placeAt_3 4 rfl rfl)
theorem dX1_placeAt_75 : decode cX1_placeAt 75 = .ok (.iload_n 3, 1) := dk_29 (dk_at dksX1_placeAt_3 5 rfl rfl)
theorem dX1_placeAt_76 : decode cX1_placeAt 76 = .ok (.iadd, 1) := dk_96 (dk_at dksX1_placeAt_3 6 rfl rfl)
theorem dX1_placeAt_77 : decode cX1_placeAt 77 = .ok (.iconst 2, 1) := dk_5 (dk_at dksX1_placeAt_3 7 rfl rfl)
theorem dX1_placeAt_78 : decode cX1_placeAt 78 = .ok (.idiv, 1) := dk_108 (dk_at dksX1_placeAt_3 8 rfl rfl)
theorem dX1_placeAt_79 : decode cX1_placeAt 79 = .ok (.istore 4, 2) := dk_54 4 (dk_at dksX1_placeAt_3 9 rfl rfl)
theorem dX1_placeAt_81 : decode cX1_placeAt 81 = .ok (.iload 4, 2) := dk_21 4 (dk_at dksX1_placeAt_3 11 rfl rfl)
theorem dX1_placeAt_83 : decode cX1_placeAt 83 = .ok (.iload_n 2, 1) := dk_28 (dk_at dksX1_placeAt_3 13 rfl rfl)
theorem dX1_placeAt_84 : decode cX1_placeAt 84 = .ok (.if_icmp .le 8, 3) := dk_164 0 8 (dk_at dksX1_placeAt_3 14 rfl rfl)
theorem dX1_placeAt_87 : decode cX1_placeAt 87 = .ok (.iload 4, 2) := dk_21 4 (dk_at dksX1_placeAt_3 17 rfl rfl)
theorem dX1_placeAt_89 : decode cX1_placeAt 89 = .ok (.goto 4, 3) := dk_167 0 4 (dk_at dksX1_placeAt_3 19 rfl rfl)
theorem dX1_placeAt_92 : decode cX1_placeAt 92 = .ok (.iconst (-1), 1) := dk_2 (dk_at dksX1_placeAt_3 22 rfl rfl)
theorem dX1_placeAt_93 : decode cX1_placeAt 93 = .ok (.ireturn, 1) := dk_172 (dk_at dksX1_placeAt_3 23 rfl rfl)
abbrev cX1_hasRoom : ByteArray := prog_1_method_10_code
def yX1_hasRoom : MethodName := ⟨RX1, "hasRoom", "(LSharedSheet$Replica;)Z"⟩
def dkwX1_hasRoom_0 : List UInt8 := [42, 180, 0, 71, 185, 0, 65, 1, 0, 16, 40, 162, 0, 7, 4, 167, 0, 4, 3, 172]
abbrev dktX1_hasRoom_0 : List UInt8 := dkwX1_hasRoom_0 ++ []
theorem dksX1_hasRoom_0 : cX1_hasRoom.data.toList.drop 0 = dktX1_hasRoom_0 := by decide +kernel
theorem dX1_hasRoom_0 : decode cX1_hasRoom 0 = .ok (.aload_n 0, 1) := dk_42 (dk_at dksX1_hasRoom_0 0 rfl rfl)
theorem dX1_hasRoom_1 : decode cX1_hasRoom 1 = .ok (.getfield 71, 3) := dk_180 0 71 (dk_at dksX1_hasRoom_0 1 rfl rfl)
theorem dX1_hasRoom_4 : decode cX1_hasRoom 4 = .ok (.invokeinterface 65 1, 5) := by decide +kernel
theorem dX1_hasRoom_9 : decode cX1_hasRoom 9 = .ok (.bipush 40, 2) := dk_16 40 (dk_at dksX1_hasRoom_0 9 rfl rfl)
theorem dX1_hasRoom_11 : decode cX1_hasRoom 11 = .ok (.if_icmp .ge 7, 3) := dk_162 0 7 (dk_at dksX1_hasRoom_0 11 rfl rfl)
theorem dX1_hasRoom_14 : decode cX1_hasRoom 14 = .ok (.iconst 1, 1) := dk_4 (dk_at dksX1_hasRoom_0 14 rfl rfl)
theorem dX1_hasRoom_15 : decode cX1_hasRoom 15 = .ok (.goto 4, 3) := dk_167 0 4 (dk_at dksX1_hasRoom_0 15 rfl rfl)
theorem dX1_hasRoom_18 : decode cX1_hasRoom 18 = .ok (.iconst 0, 1) := dk_3 (dk_at dksX1_hasRoom_0 18 rfl rfl)
theorem dX1_hasRoom_19 : decode cX1_hasRoom 19 = .ok (.ireturn, 1) := dk_172 (dk_at dksX1_hasRoom_0 19 rfl rfl)
abbrev cX1_checkState : ByteArray := prog_1_method_6_code
def yX1_checkState : MethodName := ⟨RX1, "checkState", "(Z)V"⟩
def dkwX1_checkState_0 : List UInt8 := [26, 154, 0, 11, 187, 0, 46, 89, 183, 0, 48, 191, 177]
abbrev dktX1_checkState_0 : List UInt8 := dkwX1_checkState_0 ++ []
theorem dksX1_checkState_0 : cX1_checkState.data.toList.drop 0 = dktX1_checkState_0 := by decide +kernel
theorem dX1_checkState_0 : decode cX1_checkState 0 = .ok (.iload_n 0, 1) := dk_26 (dk_at dksX1_checkState_0 0 rfl rfl)
theorem dX1_checkState_1 : decode cX1_checkState 1 = .ok (.ifCond .ne 11, 3) := dk_154 0 11 (dk_at dksX1_checkState_0 1 rfl rfl)
theorem dX1_checkState_4 : decode cX1_checkState 4 = .ok (.new 46, 3) := dk_187 0 46 (dk_at dksX1_checkState_0 4 rfl rfl)
theorem dX1_checkState_7 : decode cX1_checkState 7 = .ok (.dup, 1) := dk_89 (dk_at dksX1_checkState_0 7 rfl rfl)
theorem dX1_checkState_8 : decode cX1_checkState 8 = .ok (.invokespecial 48, 3) := dk_183 0 48 (dk_at dksX1_checkState_0 8 rfl rfl)
theorem dX1_checkState_11 : decode cX1_checkState 11 = .ok (.athrow, 1) := dk_191 (dk_at dksX1_checkState_0 11 rfl rfl)
theorem dX1_checkState_12 : decode cX1_checkState 12 = .ok (.return_, 1) := dk_177 (dk_at dksX1_checkState_0 12 rfl rfl)
abbrev cX1_move : ByteArray := prog_1_method_14_code
def yX1_move : MethodName := ⟨RX1, "move", "(IZII)I"⟩
def dkwX1_move_5 : List UInt8 := [182, 0, 131, 25, 5, 21, 6, 182, 0, 61, 25, 8, 180, 0, 138, 184, 0, 142, 172]
abbrev dktX1_move_5 : List UInt8 := dkwX1_move_5 ++ []
def dkwX1_move_4 : List UInt8 := [167, 0, 4, 3, 184, 0, 125, 42, 182, 0, 128, 25, 5, 5, 21, 6, 25, 8, 180, 0, 138, 21, 9, 1]
abbrev dktX1_move_4 : List UInt8 := dkwX1_move_4 ++ dktX1_move_5
def dkwX1_move_3 : List UInt8 := [21, 4, 184, 0, 113, 54, 9, 21, 9, 2, 159, 0, 15, 25, 5, 184, 0, 121, 153, 0, 7, 4]
abbrev dktX1_move_3 : List UInt8 := dkwX1_move_3 ++ dktX1_move_4
def dkwX1_move_2 : List UInt8 := [192, 0, 92, 58, 8, 21, 4, 3, 25, 7, 185, 0, 65, 1, 0, 184, 0, 49, 184, 0, 53, 25, 7]
abbrev dktX1_move_2 : List UInt8 := dkwX1_move_2 ++ dktX1_move_3
def dkwX1_move_1 : List UInt8 := [25, 7, 185, 0, 65, 1, 0, 4, 100, 184, 0, 49, 184, 0, 53, 25, 7, 29, 185, 0, 135, 2, 0]
abbrev dktX1_move_1 : List UInt8 := dkwX1_move_1 ++ dktX1_move_2
def dkwX1_move_0 : List UInt8 := [42, 27, 182, 0, 57, 58, 5, 28, 184, 0, 109, 54, 6, 25, 5, 21, 6, 182, 0, 61, 58, 7, 29, 3]
abbrev dktX1_move_0 : List UInt8 := dkwX1_move_0 ++ dktX1_move_1
theorem dksX1_move_0 : cX1_move.data.toList.drop 0 = dktX1_move_0 := by decide +kernel
theorem dksX1_move_1 : cX1_move.data.toList.drop 24 = dktX1_move_1 := dk_seg dksX1_move_0 24 rfl rfl
theorem dksX1_move_2 : cX1_move.data.toList.drop 47 = dktX1_move_2 := dk_seg dksX1_move_1 23 rfl rfl
theorem dksX1_move_3 : cX1_move.data.toList.drop 70 = dktX1_move_3 := dk_seg dksX1_move_2 23 rfl rfl
theorem dksX1_move_4 : cX1_move.data.toList.drop 92 = dktX1_move_4 := dk_seg dksX1_move_3 22 rfl rfl
theorem dksX1_move_5 : cX1_move.data.toList.drop 116 = dktX1_move_5 := dk_seg dksX1_move_4 24 rfl rfl
theorem dX1_move_0 : decode cX1_move 0 = .ok (.aload_n 0, 1) := dk_42 (dk_at dksX1_move_0 0 rfl rfl)
theorem dX1_move_1 : decode cX1_move 1 = .ok (.iload_n 1, 1) := dk_27 (dk_at dksX1_move_0 1 rfl rfl)
theorem dX1_move_2 : decode cX1_move 2 = .ok (.invokevirtual 57, 3) := dk_182 0 57 (dk_at dksX1_move_0 2 rfl rfl)
theorem dX1_move_5 : decode cX1_move 5 = .ok (.astore 5, 2) := dk_58 5 (dk_at dksX1_move_0 5 rfl rfl)
theorem dX1_move_7 : decode cX1_move 7 = .ok (.iload_n 2, 1) := dk_28 (dk_at dksX1_move_0 7 rfl rfl)
theorem dX1_move_8 : decode cX1_move 8 = .ok (.invokestatic 109, 3) := dk_184 0 109 (dk_at dksX1_move_0 8 rfl rfl)
theorem dX1_move_11 : decode cX1_move 11 = .ok (.istore 6, 2) := dk_54 6 (dk_at dksX1_move_0 11 rfl rfl)
theorem dX1_move_13 : decode cX1_move 13 = .ok (.aload 5, 2) := dk_25 5 (dk_at dksX1_move_0 13 rfl rfl)
theorem dX1_move_15 : decode cX1_move 15 = .ok (.iload 6, 2) := dk_21 6 (dk_at dksX1_move_0 15 rfl rfl)
theorem dX1_move_17 : decode cX1_move 17 = .ok (.invokevirtual 61, 3) := dk_182 0 61 (dk_at dksX1_move_0 17 rfl rfl)
theorem dX1_move_20 : decode cX1_move 20 = .ok (.astore 7, 2) := dk_58 7 (dk_at dksX1_move_0 20 rfl rfl)
theorem dX1_move_22 : decode cX1_move 22 = .ok (.iload_n 3, 1) := dk_29 (dk_at dksX1_move_0 22 rfl rfl)
theorem dX1_move_23 : decode cX1_move 23 = .ok (.iconst 0, 1) := dk_3 (dk_at dksX1_move_0 23 rfl rfl)
theorem dX1_move_24 : decode cX1_move 24 = .ok (.aload 7, 2) := dk_25 7 (dk_at dksX1_move_1 0 rfl rfl)
theorem dX1_move_26 : decode cX1_move 26 = .ok (.invokeinterface 65 1, 5) := by decide +kernel
theorem dX1_move_31 : decode cX1_move 31 = .ok (.iconst 1, 1) := dk_4 (dk_at dksX1_move_1 7 rfl rfl)
theorem dX1_move_32 : decode cX1_move 32 = .ok (.isub, 1) := dk_100 (dk_at dksX1_move_1 8 rfl rfl)
theorem dX1_move_33 : decode cX1_move 33 = .ok (.invokestatic 49, 3) := dk_184 0 49 (dk_at dksX1_move_1 9 rfl rfl)
theorem dX1_move_36 : decode cX1_move 36 = .ok (.invokestatic 53, 3) := dk_184 0 53 (dk_at dksX1_move_1 12 rfl rfl)
theorem dX1_move_39 : decode cX1_move 39 = .ok (.aload 7, 2) := dk_25 7 (dk_at dksX1_move_1 15 rfl rfl)
theorem dX1_move_41 : decode cX1_move 41 = .ok (.iload_n 3, 1) := dk_29 (dk_at dksX1_move_1 17 rfl rfl)
theorem dX1_move_42 : decode cX1_move 42 = .ok (.invokeinterface 135 2, 5) := by decide +kernel
theorem dX1_move_47 : decode cX1_move 47 = .ok (.checkcast 92, 3) := dk_192 0 92 (dk_at dksX1_move_2 0 rfl rfl)
theorem dX1_move_50 : decode cX1_move 50 = .ok (.astore 8, 2) := dk_58 8 (dk_at dksX1_move_2 3 rfl rfl)
theorem dX1_move_52 : decode cX1_move 52 = .ok (.iload 4, 2) := dk_21 4 (dk_at dksX1_move_2 5 rfl rfl)
theorem dX1_move_54 : decode cX1_move 54 = .ok (.iconst 0, 1) := dk_3 (dk_at dksX1_move_2 7 rfl rfl)
theorem dX1_move_55 : decode cX1_move 55 = .ok (.aload 7, 2) := dk_25 7 (dk_at dksX1_move_2 8 rfl rfl)
theorem dX1_move_57 : decode cX1_move 57 = .ok (.invokeinterface 65 1, 5) := by decide +kernel
theorem dX1_move_62 : decode cX1_move 62 = .ok (.invokestatic 49, 3) := dk_184 0 49 (dk_at dksX1_move_2 15 rfl rfl)
theorem dX1_move_65 : decode cX1_move 65 = .ok (.invokestatic 53, 3) := dk_184 0 53 (dk_at dksX1_move_2 18 rfl rfl)
theorem dX1_move_68 : decode cX1_move 68 = .ok (.aload 7, 2) := dk_25 7 (dk_at dksX1_move_2 21 rfl rfl)
theorem dX1_move_70 : decode cX1_move 70 = .ok (.iload 4, 2) := dk_21 4 (dk_at dksX1_move_3 0 rfl rfl)
theorem dX1_move_72 : decode cX1_move 72 = .ok (.invokestatic 113, 3) := dk_184 0 113 (dk_at dksX1_move_3 2 rfl rfl)
theorem dX1_move_75 : decode cX1_move 75 = .ok (.istore 9, 2) := dk_54 9 (dk_at dksX1_move_3 5 rfl rfl)
theorem dX1_move_77 : decode cX1_move 77 = .ok (.iload 9, 2) := dk_21 9 (dk_at dksX1_move_3 7 rfl rfl)
theorem dX1_move_79 : decode cX1_move 79 = .ok (.iconst (-1), 1) := dk_2 (dk_at dksX1_move_3 9 rfl rfl)
theorem dX1_move_80 : decode cX1_move 80 = .ok (.if_icmp .eq 15, 3) := dk_159 0 15 (dk_at dksX1_move_3 10 rfl rfl)
theorem dX1_move_83 : decode cX1_move 83 = .ok (.aload 5, 2) := dk_25 5 (dk_at dksX1_move_3 13 rfl rfl)
theorem dX1_move_85 : decode cX1_move 85 = .ok (.invokestatic 121, 3) := dk_184 0 121 (dk_at dksX1_move_3 15 rfl rfl)
theorem dX1_move_88 : decode cX1_move 88 = .ok (.ifCond .eq 7, 3) := dk_153 0 7 (dk_at dksX1_move_3 18 rfl rfl)
theorem dX1_move_91 : decode cX1_move 91 = .ok (.iconst 1, 1) := dk_4 (dk_at dksX1_move_3 21 rfl rfl)
theorem dX1_move_92 : decode cX1_move 92 = .ok (.goto 4, 3) := dk_167 0 4 (dk_at dksX1_move_4 0 rfl rfl)
theorem dX1_move_95 : decode cX1_move 95 = .ok (.iconst 0, 1) := dk_3 (dk_at dksX1_move_4 3 rfl rfl)
theorem dX1_move_96 : decode cX1_move 96 = .ok (.invokestatic 125, 3) := dk_184 0 125 (dk_at dksX1_move_4 4 rfl rfl)
theorem dX1_move_99 : decode cX1_move 99 = .ok (.aload_n 0, 1) := dk_42 (dk_at dksX1_move_4 7 rfl rfl)
theorem dX1_move_100 : decode cX1_move 100 = .ok (.invokevirtual 128, 3) := dk_182 0 128 (dk_at dksX1_move_4 8 rfl rfl)
theorem dX1_move_103 : decode cX1_move 103 = .ok (.aload 5, 2) := dk_25 5 (dk_at dksX1_move_4 11 rfl rfl)
theorem dX1_move_105 : decode cX1_move 105 = .ok (.iconst 2, 1) := dk_5 (dk_at dksX1_move_4 13 rfl rfl)
theorem dX1_move_106 : decode cX1_move 106 = .ok (.iload 6, 2) := dk_21 6 (dk_at dksX1_move_4 14 rfl rfl)
theorem dX1_move_108 : decode cX1_move 108 = .ok (.aload 8, 2) := dk_25 8 (dk_at dksX1_move_4 16 rfl rfl)
theorem dX1_move_110 : decode cX1_move 110 = .ok (.getfield 138, 3) := dk_180 0 138 (dk_at dksX1_move_4 18 rfl rfl)
theorem dX1_move_113 : decode cX1_move 113 = .ok (.iload 9, 2) := dk_21 9 (dk_at dksX1_move_4 21 rfl rfl)
theorem dX1_move_115 : decode cX1_move 115 = .ok (.aconst_null, 1) := dk_1 (dk_at dksX1_move_4 23 rfl rfl)
theorem dX1_move_116 : decode cX1_move 116 = .ok (.invokevirtual 131, 3) := dk_182 0 131 (dk_at dksX1_move_5 0 rfl rfl)
theorem dX1_move_119 : decode cX1_move 119 = .ok (.aload 5, 2) := dk_25 5 (dk_at dksX1_move_5 3 rfl rfl)
theorem dX1_move_121 : decode cX1_move 121 = .ok (.iload 6, 2) := dk_21 6 (dk_at dksX1_move_5 5 rfl rfl)
theorem dX1_move_123 : decode cX1_move 123 = .ok (.invokevirtual 61, 3) := dk_182 0 61 (dk_at dksX1_move_5 7 rfl rfl)
theorem dX1_move_126 : decode cX1_move 126 = .ok (.aload 8, 2) := dk_25 8 (dk_at dksX1_move_5 10 rfl rfl)
theorem dX1_move_128 : decode cX1_move 128 = .ok (.getfield 138, 3) := dk_180 0 138 (dk_at dksX1_move_5 12 rfl rfl)
theorem dX1_move_131 : decode cX1_move 131 = .ok (.invokestatic 142, 3) := dk_184 0 142 (dk_at dksX1_move_5 15 rfl rfl)
theorem dX1_move_134 : decode cX1_move 134 = .ok (.ireturn, 1) := dk_172 (dk_at dksX1_move_5 18 rfl rfl)
abbrev cX1_remove : ByteArray := prog_1_method_15_code
def yX1_remove : MethodName := ⟨RX1, "remove", "(IZI)I"⟩
def dkwX1_remove_3 : List UInt8 := [182, 0, 131, 25, 6, 185, 0, 65, 1, 0, 4, 100, 172]
abbrev dktX1_remove_3 : List UInt8 := dkwX1_remove_3 ++ []
def dkwX1_remove_2 : List UInt8 := [182, 0, 128, 25, 4, 6, 21, 5, 25, 6, 29, 185, 0, 88, 2, 0, 192, 0, 92, 180, 0, 138, 2, 1]
abbrev dktX1_remove_2 : List UInt8 := dkwX1_remove_2 ++ dktX1_remove_3
def dkwX1_remove_1 : List UInt8 := [25, 6, 185, 0, 65, 1, 0, 4, 100, 184, 0, 49, 184, 0, 53, 25, 4, 184, 0, 121, 184, 0, 125, 42]
abbrev dktX1_remove_1 : List UInt8 := dkwX1_remove_1 ++ dktX1_remove_2
def dkwX1_remove_0 : List UInt8 := [42, 27, 182, 0, 57, 58, 4, 28, 184, 0, 109, 54, 5, 25, 4, 21, 5, 182, 0, 61, 58, 6, 29, 3]
abbrev dktX1_remove_0 : List UInt8 := dkwX1_remove_0 ++ dktX1_remove_1
theorem dksX1_remove_0 : cX1_remove.data.toList.drop 0 = dktX1_remove_0 := by decide +kernel
theorem dksX1_remove_1 : cX1_remove.data.toList.drop 24 = dktX1_remove_1 := dk_seg dksX1_remove_0 24 rfl rfl
theorem dksX1_remove_2 : cX1_remove.data.toList.drop 48 = dktX1_remove_2 := dk_seg dksX1_remove_1 24 rfl rfl
theorem dksX1_remove_3 : cX1_remove.data.toList.drop 72 = dktX1_remove_3 := dk_seg dksX1_remove_2 24 rfl rfl
theorem dX1_remove_0 : decode cX1_remove 0 = .ok (.aload_n 0, 1) := dk_42 (dk_at dksX1_remove_0 0 rfl rfl)
theorem dX1_remove_1 : decode cX1_remove 1 = .ok (.iload_n 1, 1) := dk_27 (dk_at dksX1_remove_0 1 rfl rfl)
theorem dX1_remove_2 : decode cX1_remove 2 = .ok (.invokevirtual 57, 3) := dk_182 0 57 (dk_at dksX1_remove_0 2 rfl rfl)
theorem dX1_remove_5 : decode cX1_remove 5 = .ok (.astore 4, 2) := dk_58 4 (dk_at dksX1_remove_0 5 rfl rfl)
theorem dX1_remove_7 : decode cX1_remove 7 = .ok (.iload_n 2, 1) := dk_28 (dk_at dksX1_remove_0 7 rfl rfl)
theorem dX1_remove_8 : decode cX1_remove 8 = .ok (.invokestatic 109, 3) := dk_184 0 109 (dk_at dksX1_remove_0 8 rfl rfl)
theorem dX1_remove_11 : decode cX1_remove 11 = .ok (.istore 5, 2) := dk_54 5 (dk_at dksX1_remove_0 11 rfl rfl)
theorem dX1_remove_13 : decode cX1_remove 13 = .ok (.aload 4, 2) := dk_25 4 (dk_at dksX1_remove_0 13 rfl rfl)
theorem dX1_remove_15 : decode cX1_remove 15 = .ok (.iload 5, 2) := dk_21 5 (dk_at dksX1_remove_0 15 rfl rfl)
theorem dX1_remove_17 : decode cX1_remove 17 = .ok (.invokevirtual 61, 3) := dk_182 0 61 (dk_at dksX1_remove_0 17 rfl rfl)
theorem dX1_remove_20 : decode cX1_remove 20 = .ok (.astore 6, 2) := dk_58 6 (dk_at dksX1_remove_0 20 rfl rfl)
theorem dX1_remove_22 : decode cX1_remove 22 = .ok (.iload_n 3, 1) := dk_29 (dk_at dksX1_remove_0 22 rfl rfl)
theorem dX1_remove_23 : decode cX1_remove 23 = .ok (.iconst 0, 1) := dk_3 (dk_at dksX1_remove_0 23 rfl rfl)
theorem dX1_remove_24 : decode cX1_remove 24 = .ok (.aload 6, 2) := dk_25 6 (dk_at dksX1_remove_1 0 rfl rfl)
theorem dX1_remove_26 : decode cX1_remove 26 = .ok (.invokeinterface 65 1, 5) := by decide +kernel
theorem dX1_remove_31 : decode cX1_remove 31 = .ok (.iconst 1, 1) := dk_4 (dk_at dksX1_remove_1 7 rfl rfl)
theorem dX1_remove_32 : decode cX1_remove 32 = .ok (.isub, 1) := dk_100 (dk_at dksX1_remove_1 8 rfl rfl)
theorem dX1_remove_33 : decode cX1_remove 33 = .ok (.invokestatic 49, 3) := dk_184 0 49 (dk_at dksX1_remove_1 9 rfl rfl)
theorem dX1_remove_36 : decode cX1_remove 36 = .ok (.invokestatic 53, 3) := dk_184 0 53 (dk_at dksX1_remove_1 12 rfl rfl)
theorem dX1_remove_39 : decode cX1_remove 39 = .ok (.aload 4, 2) := dk_25 4 (dk_at dksX1_remove_1 15 rfl rfl)
theorem dX1_remove_41 : decode cX1_remove 41 = .ok (.invokestatic 121, 3) := dk_184 0 121 (dk_at dksX1_remove_1 17 rfl rfl)
theorem dX1_remove_44 : decode cX1_remove 44 = .ok (.invokestatic 125, 3) := dk_184 0 125 (dk_at dksX1_remove_1 20 rfl rfl)
theorem dX1_remove_47 : decode cX1_remove 47 = .ok (.aload_n 0, 1) := dk_42 (dk_at dksX1_remove_1 23 rfl rfl)
theorem dX1_remove_48 : decode cX1_remove 48 = .ok (.invokevirtual 128, 3) := dk_182 0 128 (dk_at dksX1_remove_2 0 rfl rfl)
theorem dX1_remove_51 : decode cX1_remove 51 = .ok (.aload 4, 2) := dk_25 4 (dk_at dksX1_remove_2 3 rfl rfl)
theorem dX1_remove_53 : decode cX1_remove 53 = .ok (.iconst 3, 1) := dk_6 (dk_at dksX1_remove_2 5 rfl rfl)
theorem dX1_remove_54 : decode cX1_remove 54 = .ok (.iload 5, 2) := dk_21 5 (dk_at dksX1_remove_2 6 rfl rfl)
theorem dX1_remove_56 : decode cX1_remove 56 = .ok (.aload 6, 2) := dk_25 6 (dk_at dksX1_remove_2 8 rfl rfl)
theorem dX1_remove_58 : decode cX1_remove 58 = .ok (.iload_n 3, 1) := dk_29 (dk_at dksX1_remove_2 10 rfl rfl)
theorem dX1_remove_59 : decode cX1_remove 59 = .ok (.invokeinterface 88 2, 5) := by decide +kernel
theorem dX1_remove_64 : decode cX1_remove 64 = .ok (.checkcast 92, 3) := dk_192 0 92 (dk_at dksX1_remove_2 16 rfl rfl)
theorem dX1_remove_67 : decode cX1_remove 67 = .ok (.getfield 138, 3) := dk_180 0 138 (dk_at dksX1_remove_2 19 rfl rfl)
theorem dX1_remove_70 : decode cX1_remove 70 = .ok (.iconst (-1), 1) := dk_2 (dk_at dksX1_remove_2 22 rfl rfl)
theorem dX1_remove_71 : decode cX1_remove 71 = .ok (.aconst_null, 1) := dk_1 (dk_at dksX1_remove_2 23 rfl rfl)
theorem dX1_remove_72 : decode cX1_remove 72 = .ok (.invokevirtual 131, 3) := dk_182 0 131 (dk_at dksX1_remove_3 0 rfl rfl)
theorem dX1_remove_75 : decode cX1_remove 75 = .ok (.aload 6, 2) := dk_25 6 (dk_at dksX1_remove_3 3 rfl rfl)
theorem dX1_remove_77 : decode cX1_remove 77 = .ok (.invokeinterface 65 1, 5) := by decide +kernel
theorem dX1_remove_82 : decode cX1_remove 82 = .ok (.iconst 1, 1) := dk_4 (dk_at dksX1_remove_3 10 rfl rfl)
theorem dX1_remove_83 : decode cX1_remove 83 = .ok (.isub, 1) := dk_100 (dk_at dksX1_remove_3 11 rfl rfl)
theorem dX1_remove_84 : decode cX1_remove 84 = .ok (.ireturn, 1) := dk_172 (dk_at dksX1_remove_3 12 rfl rfl)
abbrev cX1_shown : ByteArray := prog_1_method_16_code
def yX1_shown : MethodName := ⟨RX1, "shown", "(IZ)I"⟩
def dkwX1_shown_0 : List UInt8 := [42, 27, 182, 0, 57, 28, 184, 0, 109, 182, 0, 61, 185, 0, 65, 1, 0, 172]
abbrev dktX1_shown_0 : List UInt8 := dkwX1_shown_0 ++ []
theorem dksX1_shown_0 : cX1_shown.data.toList.drop 0 = dktX1_shown_0 := by decide +kernel
theorem dX1_shown_0 : decode cX1_shown 0 = .ok (.aload_n 0, 1) := dk_42 (dk_at dksX1_shown_0 0 rfl rfl)
theorem dX1_shown_1 : decode cX1_shown 1 = .ok (.iload_n 1, 1) := dk_27 (dk_at dksX1_shown_0 1 rfl rfl)
theorem dX1_shown_2 : decode cX1_shown 2 = .ok (.invokevirtual 57, 3) := dk_182 0 57 (dk_at dksX1_shown_0 2 rfl rfl)
theorem dX1_shown_5 : decode cX1_shown 5 = .ok (.iload_n 2, 1) := dk_28 (dk_at dksX1_shown_0 5 rfl rfl)
theorem dX1_shown_6 : decode cX1_shown 6 = .ok (.invokestatic 109, 3) := dk_184 0 109 (dk_at dksX1_shown_0 6 rfl rfl)
theorem dX1_shown_9 : decode cX1_shown 9 = .ok (.invokevirtual 61, 3) := dk_182 0 61 (dk_at dksX1_shown_0 9 rfl rfl)
theorem dX1_shown_12 : decode cX1_shown 12 = .ok (.invokeinterface 65 1, 5) := by decide +kernel
theorem dX1_shown_17 : decode cX1_shown 17 = .ok (.ireturn, 1) := dk_172 (dk_at dksX1_shown_0 17 rfl rfl)
abbrev cX1_line : ByteArray := prog_1_method_17_code
def yX1_line : MethodName := ⟨RX1, "line", "(IZI)I"⟩
def dkwX1_line_2 : List UInt8 := [2, 172]
abbrev dktX1_line_2 : List UInt8 := dkwX1_line_2 ++ []
def dkwX1_line_1 : List UInt8 := [100, 184, 0, 49, 153, 0, 20, 25, 4, 29, 185, 0, 88, 2, 0, 192, 0, 92, 180, 0, 138, 167, 0, 4]
abbrev dktX1_line_1 : List UInt8 := dkwX1_line_1 ++ dktX1_line_2
def dkwX1_line_0 : List UInt8 := [42, 27, 182, 0, 57, 28, 184, 0, 109, 182, 0, 61, 58, 4, 29, 3, 25, 4, 185, 0, 65, 1, 0, 4]
abbrev dktX1_line_0 : List UInt8 := dkwX1_line_0 ++ dktX1_line_1
theorem dksX1_line_0 : cX1_line.data.toList.drop 0 = dktX1_line_0 := by decide +kernel
theorem dksX1_line_1 : cX1_line.data.toList.drop 24 = dktX1_line_1 := dk_seg dksX1_line_0 24 rfl rfl
theorem dksX1_line_2 : cX1_line.data.toList.drop 48 = dktX1_line_2 := dk_seg dksX1_line_1 24 rfl rfl
theorem dX1_line_0 : decode cX1_line 0 = .ok (.aload_n 0, 1) := dk_42 (dk_at dksX1_line_0 0 rfl rfl)
theorem dX1_line_1 : decode cX1_line 1 = .ok (.iload_n 1, 1) := dk_27 (dk_at dksX1_line_0 1 rfl rfl)
theorem dX1_line_2 : decode cX1_line 2 = .ok (.invokevirtual 57, 3) := dk_182 0 57 (dk_at dksX1_line_0 2 rfl rfl)
theorem dX1_line_5 : decode cX1_line 5 = .ok (.iload_n 2, 1) := dk_28 (dk_at dksX1_line_0 5 rfl rfl)
theorem dX1_line_6 : decode cX1_line 6 = .ok (.invokestatic 109, 3) := dk_184 0 109 (dk_at dksX1_line_0 6 rfl rfl)
theorem dX1_line_9 : decode cX1_line 9 = .ok (.invokevirtual 61, 3) := dk_182 0 61 (dk_at dksX1_line_0 9 rfl rfl)
theorem dX1_line_12 : decode cX1_line 12 = .ok (.astore 4, 2) := dk_58 4 (dk_at dksX1_line_0 12 rfl rfl)
theorem dX1_line_14 : decode cX1_line 14 = .ok (.iload_n 3, 1) := dk_29 (dk_at dksX1_line_0 14 rfl rfl)
theorem dX1_line_15 : decode cX1_line 15 = .ok (.iconst 0, 1) := dk_3 (dk_at dksX1_line_0 15 rfl rfl)
theorem dX1_line_16 : decode cX1_line 16 = .ok (.aload 4, 2) := dk_25 4 (dk_at dksX1_line_0 16 rfl rfl)
theorem dX1_line_18 : decode cX1_line 18 = .ok (.invokeinterface 65 1, 5) := by decide +kernel
theorem dX1_line_23 : decode cX1_line 23 = .ok (.iconst 1, 1) := dk_4 (dk_at dksX1_line_0 23 rfl rfl)
theorem dX1_line_24 : decode cX1_line 24 = .ok (.isub, 1) := dk_100 (dk_at dksX1_line_1 0 rfl rfl)
theorem dX1_line_25 : decode cX1_line 25 = .ok (.invokestatic 49, 3) := dk_184 0 49 (dk_at dksX1_line_1 1 rfl rfl)
theorem dX1_line_28 : decode cX1_line 28 = .ok (.ifCond .eq 20, 3) := dk_153 0 20 (dk_at dksX1_line_1 4 rfl rfl)
theorem dX1_line_31 : decode cX1_line 31 = .ok (.aload 4, 2) := dk_25 4 (dk_at dksX1_line_1 7 rfl rfl)
theorem dX1_line_33 : decode cX1_line 33 = .ok (.iload_n 3, 1) := dk_29 (dk_at dksX1_line_1 9 rfl rfl)
theorem dX1_line_34 : decode cX1_line 34 = .ok (.invokeinterface 88 2, 5) := by decide +kernel
theorem dX1_line_39 : decode cX1_line 39 = .ok (.checkcast 92, 3) := dk_192 0 92 (dk_at dksX1_line_1 15 rfl rfl)
theorem dX1_line_42 : decode cX1_line 42 = .ok (.getfield 138, 3) := dk_180 0 138 (dk_at dksX1_line_1 18 rfl rfl)
theorem dX1_line_45 : decode cX1_line 45 = .ok (.goto 4, 3) := dk_167 0 4 (dk_at dksX1_line_1 21 rfl rfl)
theorem dX1_line_48 : decode cX1_line 48 = .ok (.iconst (-1), 1) := dk_2 (dk_at dksX1_line_2 0 rfl rfl)
theorem dX1_line_49 : decode cX1_line 49 = .ok (.ireturn, 1) := dk_172 (dk_at dksX1_line_2 1 rfl rfl)
abbrev cX1_position : ByteArray := prog_1_method_18_code
def yX1_position : MethodName := ⟨RX1, "position", "(IZI)I"⟩
def dkwX1_position_1 : List UInt8 := [182, 0, 61, 29, 184, 0, 142, 172]
abbrev dktX1_position_1 : List UInt8 := dkwX1_position_1 ++ []
def dkwX1_position_0 : List UInt8 := [42, 27, 182, 0, 57, 58, 4, 29, 3, 16, 11, 184, 0, 49, 184, 0, 147, 25, 4, 28, 184, 0, 109]
abbrev dktX1_position_0 : List UInt8 := dkwX1_position_0 ++ dktX1_position_1
theorem dksX1_position_0 : cX1_position.data.toList.drop 0 = dktX1_position_0 := by decide +kernel
theorem dksX1_position_1 : cX1_position.data.toList.drop 23 = dktX1_position_1 := dk_seg dksX1_position_0 23 rfl rfl
theorem dX1_position_0 : decode cX1_position 0 = .ok (.aload_n 0, 1) := dk_42 (dk_at dksX1_position_0 0 rfl rfl)
theorem dX1_position_1 : decode cX1_position 1 = .ok (.iload_n 1, 1) := dk_27 (dk_at dksX1_position_0 1 rfl rfl)
theorem dX1_position_2 : decode cX1_position 2 = .ok (.invokevirtual 57, 3) := dk_182 0 57 (dk_at dksX1_position_0 2 rfl rfl)
theorem dX1_position_5 : decode cX1_position 5 = .ok (.astore 4, 2) := dk_58 4 (dk_at dksX1_position_0 5 rfl rfl)
theorem dX1_position_7 : decode cX1_position 7 = .ok (.iload_n 3, 1) := dk_29 (dk_at dksX1_position_0 7 rfl rfl)
theorem dX1_position_8 : decode cX1_position 8 = .ok (.iconst 0, 1) := dk_3 (dk_at dksX1_position_0 8 rfl rfl)
theorem dX1_position_9 : decode cX1_position 9 = .ok (.bipush 11, 2) := dk_16 11 (dk_at dksX1_position_0 9 rfl rfl)
theorem dX1_position_11 : decode cX1_position 11 = .ok (.invokestatic 49, 3) := dk_184 0 49 (dk_at dksX1_position_0 11 rfl rfl)
theorem dX1_position_14 : decode cX1_position 14 = .ok (.invokestatic 147, 3) := dk_184 0 147 (dk_at dksX1_position_0 14 rfl rfl)
theorem dX1_position_17 : decode cX1_position 17 = .ok (.aload 4, 2) := dk_25 4 (dk_at dksX1_position_0 17 rfl rfl)
theorem dX1_position_19 : decode cX1_position 19 = .ok (.iload_n 2, 1) := dk_28 (dk_at dksX1_position_0 19 rfl rfl)
theorem dX1_position_20 : decode cX1_position 20 = .ok (.invokestatic 109, 3) := dk_184 0 109 (dk_at dksX1_position_0 20 rfl rfl)
theorem dX1_position_23 : decode cX1_position 23 = .ok (.invokevirtual 61, 3) := dk_182 0 61 (dk_at dksX1_position_1 0 rfl rfl)
theorem dX1_position_26 : decode cX1_position 26 = .ok (.iload_n 3, 1) := dk_29 (dk_at dksX1_position_1 3 rfl rfl)
theorem dX1_position_27 : decode cX1_position 27 = .ok (.invokestatic 142, 3) := dk_184 0 142 (dk_at dksX1_position_1 4 rfl rfl)
theorem dX1_position_30 : decode cX1_position 30 = .ok (.ireturn, 1) := dk_172 (dk_at dksX1_position_1 7 rfl rfl)
abbrev cX1_checkThat : ByteArray := prog_1_method_5_code
def yX1_checkThat : MethodName := ⟨RX1, "checkThat", "(Z)V"⟩
def dkwX1_checkThat_0 : List UInt8 := [26, 154, 0, 11, 187, 0, 43, 89, 183, 0, 45, 191, 177]
abbrev dktX1_checkThat_0 : List UInt8 := dkwX1_checkThat_0 ++ []
theorem dksX1_checkThat_0 : cX1_checkThat.data.toList.drop 0 = dktX1_checkThat_0 := by decide +kernel
theorem dX1_checkThat_0 : decode cX1_checkThat 0 = .ok (.iload_n 0, 1) := dk_26 (dk_at dksX1_checkThat_0 0 rfl rfl)
theorem dX1_checkThat_1 : decode cX1_checkThat 1 = .ok (.ifCond .ne 11, 3) := dk_154 0 11 (dk_at dksX1_checkThat_0 1 rfl rfl)
theorem dX1_checkThat_4 : decode cX1_checkThat 4 = .ok (.new 43, 3) := dk_187 0 43 (dk_at dksX1_checkThat_0 4 rfl rfl)
theorem dX1_checkThat_7 : decode cX1_checkThat 7 = .ok (.dup, 1) := dk_89 (dk_at dksX1_checkThat_0 7 rfl rfl)
theorem dX1_checkThat_8 : decode cX1_checkThat 8 = .ok (.invokespecial 45, 3) := dk_183 0 45 (dk_at dksX1_checkThat_0 8 rfl rfl)
theorem dX1_checkThat_11 : decode cX1_checkThat 11 = .ok (.athrow, 1) := dk_191 (dk_at dksX1_checkThat_0 11 rfl rfl)
theorem dX1_checkThat_12 : decode cX1_checkThat 12 = .ok (.return_, 1) := dk_177 (dk_at dksX1_checkThat_0 12 rfl rfl)
abbrev cX1_place : ByteArray := prog_1_method_19_code
def yX1_place : MethodName := ⟨RX1, "place", "(IZI)I"⟩
def dkwX1_place_1 : List UInt8 := [184, 0, 109, 50, 29, 50, 180, 0, 94, 180, 0, 98, 192, 0, 104, 182, 0, 106, 172]
abbrev dktX1_place_1 : List UInt8 := dkwX1_place_1 ++ []
def dkwX1_place_0 : List UInt8 := [42, 27, 182, 0, 57, 58, 4, 29, 3, 16, 11, 184, 0, 49, 184, 0, 147, 25, 4, 180, 0, 150, 28]
abbrev dktX1_place_0 : List UInt8 := dkwX1_place_0 ++ dktX1_place_1
theorem dksX1_place_0 : cX1_place.data.toList.drop 0 = dktX1_place_0 := by decide +kernel
theorem dksX1_place_1 : cX1_place.data.toList.drop 23 = dktX1_place_1 := dk_seg dksX1_place_0 23 rfl rfl
theorem dX1_place_0 : decode cX1_place 0 = .ok (.aload_n 0, 1) := dk_42 (dk_at dksX1_place_0 0 rfl rfl)
theorem dX1_place_1 : decode cX1_place 1 = .ok (.iload_n 1, 1) := dk_27 (dk_at dksX1_place_0 1 rfl rfl)
theorem dX1_place_2 : decode cX1_place 2 = .ok (.invokevirtual 57, 3) := dk_182 0 57 (dk_at dksX1_place_0 2 rfl rfl)
theorem dX1_place_5 : decode cX1_place 5 = .ok (.astore 4, 2) := dk_58 4 (dk_at dksX1_place_0 5 rfl rfl)
theorem dX1_place_7 : decode cX1_place 7 = .ok (.iload_n 3, 1) := dk_29 (dk_at dksX1_place_0 7 rfl rfl)
theorem dX1_place_8 : decode cX1_place 8 = .ok (.iconst 0, 1) := dk_3 (dk_at dksX1_place_0 8 rfl rfl)
theorem dX1_place_9 : decode cX1_place 9 = .ok (.bipush 11, 2) := dk_16 11 (dk_at dksX1_place_0 9 rfl rfl)
theorem dX1_place_11 : decode cX1_place 11 = .ok (.invokestatic 49, 3) := dk_184 0 49 (dk_at dksX1_place_0 11 rfl rfl)
theorem dX1_place_14 : decode cX1_place 14 = .ok (.invokestatic 147, 3) := dk_184 0 147 (dk_at dksX1_place_0 14 rfl rfl)
theorem dX1_place_17 : decode cX1_place 17 = .ok (.aload 4, 2) := dk_25 4 (dk_at dksX1_place_0 17 rfl rfl)
theorem dX1_place_19 : decode cX1_place 19 = .ok (.getfield 150, 3) := dk_180 0 150 (dk_at dksX1_place_0 19 rfl rfl)
theorem dX1_place_22 : decode cX1_place 22 = .ok (.iload_n 2, 1) := dk_28 (dk_at dksX1_place_0 22 rfl rfl)
theorem dX1_place_23 : decode cX1_place 23 = .ok (.invokestatic 109, 3) := dk_184 0 109 (dk_at dksX1_place_1 0 rfl rfl)
theorem dX1_place_26 : decode cX1_place 26 = .ok (.aaload, 1) := dk_50 (dk_at dksX1_place_1 3 rfl rfl)
theorem dX1_place_27 : decode cX1_place 27 = .ok (.iload_n 3, 1) := dk_29 (dk_at dksX1_place_1 4 rfl rfl)
theorem dX1_place_28 : decode cX1_place 28 = .ok (.aaload, 1) := dk_50 (dk_at dksX1_place_1 5 rfl rfl)
theorem dX1_place_29 : decode cX1_place 29 = .ok (.getfield 94, 3) := dk_180 0 94 (dk_at dksX1_place_1 6 rfl rfl)
theorem dX1_place_32 : decode cX1_place 32 = .ok (.getfield 98, 3) := dk_180 0 98 (dk_at dksX1_place_1 9 rfl rfl)
theorem dX1_place_35 : decode cX1_place 35 = .ok (.checkcast 104, 3) := dk_192 0 104 (dk_at dksX1_place_1 12 rfl rfl)
theorem dX1_place_38 : decode cX1_place 38 = .ok (.invokevirtual 106, 3) := dk_182 0 106 (dk_at dksX1_place_1 15 rfl rfl)
theorem dX1_place_41 : decode cX1_place 41 = .ok (.ireturn, 1) := dk_172 (dk_at dksX1_place_1 18 rfl rfl)
abbrev cX1_setNumber : ByteArray := prog_1_method_21_code
def yX1_setNumber : MethodName := ⟨RX1, "setNumber", "(IIII)I"⟩
def dkwX1_setNumber_2 : List UInt8 := [183, 0, 7, 183, 0, 11, 182, 0, 160, 172]
abbrev dktX1_setNumber_2 : List UInt8 := dkwX1_setNumber_2 ++ []
def dkwX1_setNumber_1 : List UInt8 := [25, 5, 184, 0, 121, 184, 0, 125, 42, 25, 5, 28, 29, 187, 0, 1, 89, 4, 21, 4, 187, 0, 5, 89]
abbrev dktX1_setNumber_1 : List UInt8 := dkwX1_setNumber_1 ++ dktX1_setNumber_2
def dkwX1_setNumber_0 : List UInt8 := [42, 27, 28, 29, 182, 0, 157, 58, 5, 21, 4, 17, 216, 241, 17, 39, 15, 184, 0, 49, 184, 0, 147]
abbrev dktX1_setNumber_0 : List UInt8 := dkwX1_setNumber_0 ++ dktX1_setNumber_1
theorem dksX1_setNumber_0 : cX1_setNumber.data.toList.drop 0 = dktX1_setNumber_0 := by decide +kernel
theorem dksX1_setNumber_1 : cX1_setNumber.data.toList.drop 23 = dktX1_setNumber_1 := dk_seg dksX1_setNumber_0 23 rfl rfl
theorem dksX1_setNumber_2 : cX1_setNumber.data.toList.drop 47 = dktX1_setNumber_2 := dk_seg dksX1_setNumber_1 24 rfl rfl
theorem dX1_setNumber_0 : decode cX1_setNumber 0 = .ok (.aload_n 0, 1) := dk_42 (dk_at dksX1_setNumber_0 0 rfl rfl)
theorem dX1_setNumber_1 : decode cX1_setNumber 1 = .ok (.iload_n 1, 1) := dk_27 (dk_at dksX1_setNumber_0 1 rfl rfl)
theorem dX1_setNumber_2 : decode cX1_setNumber 2 = .ok (.iload_n 2, 1) := dk_28 (dk_at dksX1_setNumber_0 2 rfl rfl)
theorem dX1_setNumber_3 : decode cX1_setNumber 3 = .ok (.iload_n 3, 1) := dk_29 (dk_at dksX1_setNumber_0 3 rfl rfl)
theorem dX1_setNumber_4 : decode cX1_setNumber 4 = .ok (.invokevirtual 157, 3) := dk_182 0 157 (dk_at dksX1_setNumber_0 4 rfl rfl)
theorem dX1_setNumber_7 : decode cX1_setNumber 7 = .ok (.astore 5, 2) := dk_58 5 (dk_at dksX1_setNumber_0 7 rfl rfl)
theorem dX1_setNumber_9 : decode cX1_setNumber 9 = .ok (.iload 4, 2) := dk_21 4 (dk_at dksX1_setNumber_0 9 rfl rfl)
theorem dX1_setNumber_11 : decode cX1_setNumber 11 = .ok (.sipush (-9999), 3) := dk_17 216 241 (dk_at dksX1_setNumber_0 11 rfl rfl)
theorem dX1_setNumber_14 : decode cX1_setNumber 14 = .ok (.sipush 9999, 3) := dk_17 39 15 (dk_at dksX1_setNumber_0 14 rfl rfl)
theorem dX1_setNumber_17 : decode cX1_setNumber 17 = .ok (.invokestatic 49, 3) := dk_184 0 49 (dk_at dksX1_setNumber_0 17 rfl rfl)
theorem dX1_setNumber_20 : decode cX1_setNumber 20 = .ok (.invokestatic 147, 3) := dk_184 0 147 (dk_at dksX1_setNumber_0 20 rfl rfl)
theorem dX1_setNumber_23 : decode cX1_setNumber 23 = .ok (.aload 5, 2) := dk_25 5 (dk_at dksX1_setNumber_1 0 rfl rfl)
theorem dX1_setNumber_25 : decode cX1_setNumber 25 = .ok (.invokestatic 121, 3) := dk_184 0 121 (dk_at dksX1_setNumber_1 2 rfl rfl)
theorem dX1_setNumber_28 : decode cX1_setNumber 28 = .ok (.invokestatic 125, 3) := dk_184 0 125 (dk_at dksX1_setNumber_1 5 rfl rfl)
theorem dX1_setNumber_31 : decode cX1_setNumber 31 = .ok (.aload_n 0, 1) := dk_42 (dk_at dksX1_setNumber_1 8 rfl rfl)
theorem dX1_setNumber_32 : decode cX1_setNumber 32 = .ok (.aload 5, 2) := dk_25 5 (dk_at dksX1_setNumber_1 9 rfl rfl)
theorem dX1_setNumber_34 : decode cX1_setNumber 34 = .ok (.iload_n 2, 1) := dk_28 (dk_at dksX1_setNumber_1 11 rfl rfl)
theorem dX1_setNumber_35 : decode cX1_setNumber 35 = .ok (.iload_n 3, 1) := dk_29 (dk_at dksX1_setNumber_1 12 rfl rfl)
theorem dX1_setNumber_36 : decode cX1_setNumber 36 = .ok (.new 1, 3) := dk_187 0 1 (dk_at dksX1_setNumber_1 13 rfl rfl)
theorem dX1_setNumber_39 : decode cX1_setNumber 39 = .ok (.dup, 1) := dk_89 (dk_at dksX1_setNumber_1 16 rfl rfl)
theorem dX1_setNumber_40 : decode cX1_setNumber 40 = .ok (.iconst 1, 1) := dk_4 (dk_at dksX1_setNumber_1 17 rfl rfl)
theorem dX1_setNumber_41 : decode cX1_setNumber 41 = .ok (.iload 4, 2) := dk_21 4 (dk_at dksX1_setNumber_1 18 rfl rfl)
theorem dX1_setNumber_43 : decode cX1_setNumber 43 = .ok (.new 5, 3) := dk_187 0 5 (dk_at dksX1_setNumber_1 20 rfl rfl)
theorem dX1_setNumber_46 : decode cX1_setNumber 46 = .ok (.dup, 1) := dk_89 (dk_at dksX1_setNumber_1 23 rfl rfl)
theorem dX1_setNumber_47 : decode cX1_setNumber 47 = .ok (.invokespecial 7, 3) := dk_183 0 7 (dk_at dksX1_setNumber_2 0 rfl rfl)
theorem dX1_setNumber_50 : decode cX1_setNumber 50 = .ok (.invokespecial 11, 3) := dk_183 0 11 (dk_at dksX1_setNumber_2 3 rfl rfl)
theorem dX1_setNumber_53 : decode cX1_setNumber 53 = .ok (.invokevirtual 160, 3) := dk_182 0 160 (dk_at dksX1_setNumber_2 6 rfl rfl)
theorem dX1_setNumber_56 : decode cX1_setNumber 56 = .ok (.ireturn, 1) := dk_172 (dk_at dksX1_setNumber_2 9 rfl rfl)
abbrev cX1_replicaWith_2 : ByteArray := prog_1_method_8_code
def yX1_replicaWith_2 : MethodName := ⟨RX1, "replicaWith", "(III)LSharedSheet$Replica;"⟩
def dkwX1_replicaWith_2_2 : List UInt8 := [153, 0, 7, 4, 167, 0, 4, 3, 184, 0, 53, 25, 4, 176]
abbrev dktX1_replicaWith_2_2 : List UInt8 := dkwX1_replicaWith_2_2 ++ []
def dkwX1_replicaWith_2_1 : List UInt8 := [184, 0, 49, 153, 0, 28, 29, 3, 25, 4, 4, 182, 0, 61, 185, 0, 65, 1, 0, 4, 100, 184, 0, 49]
abbrev dktX1_replicaWith_2_1 : List UInt8 := dkwX1_replicaWith_2_1 ++ dktX1_replicaWith_2_2
def dkwX1_replicaWith_2_0 : List UInt8 := [42, 27, 182, 0, 57, 58, 4, 28, 3, 25, 4, 3, 182, 0, 61, 185, 0, 65, 1, 0, 4, 100]
abbrev dktX1_replicaWith_2_0 : List UInt8 := dkwX1_replicaWith_2_0 ++ dktX1_replicaWith_2_1
theorem dksX1_replicaWith_2_0 : cX1_replicaWith_2.data.toList.drop 0 = dktX1_replicaWith_2_0 := by decide +kernel
theorem dksX1_replicaWith_2_1 : cX1_replicaWith_2.data.toList.drop 22 = dktX1_replicaWith_2_1 := dk_seg dksX1_replicaWith_2_0 22 rfl rfl
theorem dksX1_replicaWith_2_2 : cX1_replicaWith_2.data.toList.drop 46 = dktX1_replicaWith_2_2 := dk_seg dksX1_replicaWith_2_1 24 rfl rfl
theorem dX1_replicaWith_2_0 : decode cX1_replicaWith_2 0 = .ok (.aload_n 0, 1) := dk_42 (dk_at dksX1_replicaWith_2_0 0 rfl rfl)
theorem dX1_replicaWith_2_1 : decode cX1_replicaWith_2 1 = .ok (.iload_n 1, 1) := dk_27 (dk_at dksX1_replicaWith_2_0 1 rfl rfl)
theorem dX1_replicaWith_2_2 : decode cX1_replicaWith_2 2 = .ok (.invokevirtual 57, 3) := dk_182 0 57 (dk_at dksX1_replicaWith_2_0 2 rfl rfl)
theorem dX1_replicaWith_2_5 : decode cX1_replicaWith_2 5 = .ok (.astore 4, 2) := dk_58 4 (dk_at dksX1_replicaWith_2_0 5 rfl rfl)
theorem dX1_replicaWith_2_7 : decode cX1_replicaWith_2 7 = .ok (.iload_n 2, 1) := dk_28 (dk_at dksX1_replicaWith_2_0 7 rfl rfl)
theorem dX1_replicaWith_2_8 : decode cX1_replicaWith_2 8 = .ok (.iconst 0, 1) := dk_3 (dk_at dksX1_replicaWith_2_0 8 rfl rfl)
theorem dX1_replicaWith_2_9 : decode cX1_replicaWith_2 9 = .ok (.aload 4, 2) := dk_25 4 (dk_at dksX1_replicaWith_2_0 9 rfl rfl)
theorem dX1_replicaWith_2_11 : decode cX1_replicaWith_2 11 = .ok (.iconst 0, 1) := dk_3 (dk_at dksX1_replicaWith_2_0 11 rfl rfl)
theorem dX1_replicaWith_2_12 : decode cX1_replicaWith_2 12 = .ok (.invokevirtual 61, 3) := dk_182 0 61 (dk_at dksX1_replicaWith_2_0 12 rfl rfl)
theorem dX1_replicaWith_2_15 : decode cX1_replicaWith_2 15 = .ok (.invokeinterface 65 1, 5) := by decide +kernel
theorem dX1_replicaWith_2_20 : decode cX1_replicaWith_2 20 = .ok (.iconst 1, 1) := dk_4 (dk_at dksX1_replicaWith_2_0 20 rfl rfl)
theorem dX1_replicaWith_2_21 : decode cX1_replicaWith_2 21 = .ok (.isub, 1) := dk_100 (dk_at dksX1_replicaWith_2_0 21 rfl rfl)
theorem dX1_replicaWith_2_22 : decode cX1_replicaWith_2 22 = .ok (.invokestatic 49, 3) := dk_184 0 49 (dk_at dksX1_replicaWith_2_1 0 rfl rfl)
theorem dX1_replicaWith_2_25 : decode cX1_replicaWith_2 25 = .ok (.ifCond .eq 28, 3) := dk_153 0 28 (dk_at dksX1_replicaWith_2_1 3 rfl rfl)
theorem dX1_replicaWith_2_28 : decode cX1_replicaWith_2 28 = .ok (.iload_n 3, 1) := dk_29 (dk_at dksX1_replicaWith_2_1 6 rfl rfl)
theorem dX1_replicaWith_2_29 : decode cX1_replicaWith_2 29 = .ok (.iconst 0, 1) := dk_3 (dk_at dksX1_replicaWith_2_1 7 rfl rfl)
theorem dX1_replicaWith_2_30 : decode cX1_replicaWith_2 30 = .ok (.aload 4, 2) := dk_25 4 (dk_at dksX1_replicaWith_2_1 8 rfl rfl)
theorem dX1_replicaWith_2_32 : decode cX1_replicaWith_2 32 = .ok (.iconst 1, 1) := dk_4 (dk_at dksX1_replicaWith_2_1 10 rfl rfl)
theorem dX1_replicaWith_2_33 : decode cX1_replicaWith_2 33 = .ok (.invokevirtual 61, 3) := dk_182 0 61 (dk_at dksX1_replicaWith_2_1 11 rfl rfl)
theorem dX1_replicaWith_2_36 : decode cX1_replicaWith_2 36 = .ok (.invokeinterface 65 1, 5) := by decide +kernel
theorem dX1_replicaWith_2_41 : decode cX1_replicaWith_2 41 = .ok (.iconst 1, 1) := dk_4 (dk_at dksX1_replicaWith_2_1 19 rfl rfl)
theorem dX1_replicaWith_2_42 : decode cX1_replicaWith_2 42 = .ok (.isub, 1) := dk_100 (dk_at dksX1_replicaWith_2_1 20 rfl rfl)
theorem dX1_replicaWith_2_43 : decode cX1_replicaWith_2 43 = .ok (.invokestatic 49, 3) := dk_184 0 49 (dk_at dksX1_replicaWith_2_1 21 rfl rfl)
theorem dX1_replicaWith_2_46 : decode cX1_replicaWith_2 46 = .ok (.ifCond .eq 7, 3) := dk_153 0 7 (dk_at dksX1_replicaWith_2_2 0 rfl rfl)
theorem dX1_replicaWith_2_49 : decode cX1_replicaWith_2 49 = .ok (.iconst 1, 1) := dk_4 (dk_at dksX1_replicaWith_2_2 3 rfl rfl)
theorem dX1_replicaWith_2_50 : decode cX1_replicaWith_2 50 = .ok (.goto 4, 3) := dk_167 0 4 (dk_at dksX1_replicaWith_2_2 4 rfl rfl)
theorem dX1_replicaWith_2_53 : decode cX1_replicaWith_2 53 = .ok (.iconst 0, 1) := dk_3 (dk_at dksX1_replicaWith_2_2 7 rfl rfl)
theorem dX1_replicaWith_2_54 : decode cX1_replicaWith_2 54 = .ok (.invokestatic 53, 3) := dk_184 0 53 (dk_at dksX1_replicaWith_2_2 8 rfl rfl)
theorem dX1_replicaWith_2_57 : decode cX1_replicaWith_2 57 = .ok (.aload 4, 2) := dk_25 4 (dk_at dksX1_replicaWith_2_2 11 rfl rfl)
theorem dX1_replicaWith_2_59 : decode cX1_replicaWith_2 59 = .ok (.areturn, 1) := dk_176 (dk_at dksX1_replicaWith_2_2 13 rfl rfl)
abbrev cX1_put : ByteArray := prog_1_method_20_code
def yX1_put : MethodName := ⟨RX1, "put", "(LSharedSheet$Replica;IILSharedSheet$Content;)I"⟩
def dkwX1_put_2 : List UInt8 := [180, 0, 154, 172]
abbrev dktX1_put_2 : List UInt8 := dkwX1_put_2 ++ []
def dkwX1_put_1 : List UInt8 := [43, 4, 182, 0, 61, 29, 185, 0, 88, 2, 0, 192, 0, 92, 180, 0, 138, 25, 4, 182, 0, 131, 43]
abbrev dktX1_put_1 : List UInt8 := dkwX1_put_1 ++ dktX1_put_2
def dkwX1_put_0 : List UInt8 := [42, 182, 0, 128, 43, 7, 3, 43, 3, 182, 0, 61, 28, 185, 0, 88, 2, 0, 192, 0, 92, 180, 0, 138]
abbrev dktX1_put_0 : List UInt8 := dkwX1_put_0 ++ dktX1_put_1
theorem dksX1_put_0 : cX1_put.data.toList.drop 0 = dktX1_put_0 := by decide +kernel
theorem dksX1_put_1 : cX1_put.data.toList.drop 24 = dktX1_put_1 := dk_seg dksX1_put_0 24 rfl rfl
theorem dksX1_put_2 : cX1_put.data.toList.drop 47 = dktX1_put_2 := dk_seg dksX1_put_1 23 rfl rfl
theorem dX1_put_0 : decode cX1_put 0 = .ok (.aload_n 0, 1) := dk_42 (dk_at dksX1_put_0 0 rfl rfl)
theorem dX1_put_1 : decode cX1_put 1 = .ok (.invokevirtual 128, 3) := dk_182 0 128 (dk_at dksX1_put_0 1 rfl rfl)
theorem dX1_put_4 : decode cX1_put 4 = .ok (.aload_n 1, 1) := dk_43 (dk_at dksX1_put_0 4 rfl rfl)
theorem dX1_put_5 : decode cX1_put 5 = .ok (.iconst 4, 1) := dk_7 (dk_at dksX1_put_0 5 rfl rfl)
theorem dX1_put_6 : decode cX1_put 6 = .ok (.iconst 0, 1) := dk_3 (dk_at dksX1_put_0 6 rfl rfl)
theorem dX1_put_7 : decode cX1_put 7 = .ok (.aload_n 1, 1) := dk_43 (dk_at dksX1_put_0 7 rfl rfl)
theorem dX1_put_8 : decode cX1_put 8 = .ok (.iconst 0, 1) := dk_3 (dk_at dksX1_put_0 8 rfl rfl)
theorem dX1_put_9 : decode cX1_put 9 = .ok (.invokevirtual 61, 3) := dk_182 0 61 (dk_at dksX1_put_0 9 rfl rfl)
theorem dX1_put_12 : decode cX1_put 12 = .ok (.iload_n 2, 1) := dk_28 (dk_at dksX1_put_0 12 rfl rfl)
theorem dX1_put_13 : decode cX1_put 13 = .ok (.invokeinterface 88 2, 5) := by decide +kernel
theorem dX1_put_18 : decode cX1_put 18 = .ok (.checkcast 92, 3) := dk_192 0 92 (dk_at dksX1_put_0 18 rfl rfl)
theorem dX1_put_21 : decode cX1_put 21 = .ok (.getfield 138, 3) := dk_180 0 138 (dk_at dksX1_put_0 21 rfl rfl)
theorem dX1_put_24 : decode cX1_put 24 = .ok (.aload_n 1, 1) := dk_43 (dk_at dksX1_put_1 0 rfl rfl)
theorem dX1_put_25 : decode cX1_put 25 = .ok (.iconst 1, 1) := dk_4 (dk_at dksX1_put_1 1 rfl rfl)
theorem dX1_put_26 : decode cX1_put 26 = .ok (.invokevirtual 61, 3) := dk_182 0 61 (dk_at dksX1_put_1 2 rfl rfl)
theorem dX1_put_29 : decode cX1_put 29 = .ok (.iload_n 3, 1) := dk_29 (dk_at dksX1_put_1 5 rfl rfl)
theorem dX1_put_30 : decode cX1_put 30 = .ok (.invokeinterface 88 2, 5) := by decide +kernel
theorem dX1_put_35 : decode cX1_put 35 = .ok (.checkcast 92, 3) := dk_192 0 92 (dk_at dksX1_put_1 11 rfl rfl)
theorem dX1_put_38 : decode cX1_put 38 = .ok (.getfield 138, 3) := dk_180 0 138 (dk_at dksX1_put_1 14 rfl rfl)
theorem dX1_put_41 : decode cX1_put 41 = .ok (.aload 4, 2) := dk_25 4 (dk_at dksX1_put_1 17 rfl rfl)
theorem dX1_put_43 : decode cX1_put 43 = .ok (.invokevirtual 131, 3) := dk_182 0 131 (dk_at dksX1_put_1 19 rfl rfl)
theorem dX1_put_46 : decode cX1_put 46 = .ok (.aload_n 1, 1) := dk_43 (dk_at dksX1_put_1 22 rfl rfl)
theorem dX1_put_47 : decode cX1_put 47 = .ok (.getfield 154, 3) := dk_180 0 154 (dk_at dksX1_put_2 0 rfl rfl)
theorem dX1_put_50 : decode cX1_put 50 = .ok (.ireturn, 1) := dk_172 (dk_at dksX1_put_2 3 rfl rfl)
abbrev cX1_clearCell : ByteArray := prog_1_method_22_code
def yX1_clearCell : MethodName := ⟨RX1, "clearCell", "(III)I"⟩
def dkwX1_clearCell_1 : List UInt8 := [184, 0, 164, 182, 0, 160, 172]
abbrev dktX1_clearCell_1 : List UInt8 := dkwX1_clearCell_1 ++ []
def dkwX1_clearCell_0 : List UInt8 := [42, 27, 28, 29, 182, 0, 157, 58, 4, 25, 4, 184, 0, 121, 184, 0, 125, 42, 25, 4, 28, 29]
abbrev dktX1_clearCell_0 : List UInt8 := dkwX1_clearCell_0 ++ dktX1_clearCell_1
theorem dksX1_clearCell_0 : cX1_clearCell.data.toList.drop 0 = dktX1_clearCell_0 := by decide +kernel
theorem dksX1_clearCell_1 : cX1_clearCell.data.toList.drop 22 = dktX1_clearCell_1 := dk_seg dksX1_clearCell_0 22 rfl rfl
theorem dX1_clearCell_0 : decode cX1_clearCell 0 = .ok (.aload_n 0, 1) := dk_42 (dk_at dksX1_clearCell_0 0 rfl rfl)
theorem dX1_clearCell_1 : decode cX1_clearCell 1 = .ok (.iload_n 1, 1) := dk_27 (dk_at dksX1_clearCell_0 1 rfl rfl)
theorem dX1_clearCell_2 : decode cX1_clearCell 2 = .ok (.iload_n 2, 1) := dk_28 (dk_at dksX1_clearCell_0 2 rfl rfl)
theorem dX1_clearCell_3 : decode cX1_clearCell 3 = .ok (.iload_n 3, 1) := dk_29 (dk_at dksX1_clearCell_0 3 rfl rfl)
theorem dX1_clearCell_4 : decode cX1_clearCell 4 = .ok (.invokevirtual 157, 3) := dk_182 0 157 (dk_at dksX1_clearCell_0 4 rfl rfl)
theorem dX1_clearCell_7 : decode cX1_clearCell 7 = .ok (.astore 4, 2) := dk_58 4 (dk_at dksX1_clearCell_0 7 rfl rfl)
theorem dX1_clearCell_9 : decode cX1_clearCell 9 = .ok (.aload 4, 2) := dk_25 4 (dk_at dksX1_clearCell_0 9 rfl rfl)
theorem dX1_clearCell_11 : decode cX1_clearCell 11 = .ok (.invokestatic 121, 3) := dk_184 0 121 (dk_at dksX1_clearCell_0 11 rfl rfl)
theorem dX1_clearCell_14 : decode cX1_clearCell 14 = .ok (.invokestatic 125, 3) := dk_184 0 125 (dk_at dksX1_clearCell_0 14 rfl rfl)
theorem dX1_clearCell_17 : decode cX1_clearCell 17 = .ok (.aload_n 0, 1) := dk_42 (dk_at dksX1_clearCell_0 17 rfl rfl)
theorem dX1_clearCell_18 : decode cX1_clearCell 18 = .ok (.aload 4, 2) := dk_25 4 (dk_at dksX1_clearCell_0 18 rfl rfl)
theorem dX1_clearCell_20 : decode cX1_clearCell 20 = .ok (.iload_n 2, 1) := dk_28 (dk_at dksX1_clearCell_0 20 rfl rfl)
theorem dX1_clearCell_21 : decode cX1_clearCell 21 = .ok (.iload_n 3, 1) := dk_29 (dk_at dksX1_clearCell_0 21 rfl rfl)
theorem dX1_clearCell_22 : decode cX1_clearCell 22 = .ok (.invokestatic 164, 3) := dk_184 0 164 (dk_at dksX1_clearCell_1 0 rfl rfl)
theorem dX1_clearCell_25 : decode cX1_clearCell 25 = .ok (.invokevirtual 160, 3) := dk_182 0 160 (dk_at dksX1_clearCell_1 3 rfl rfl)
theorem dX1_clearCell_28 : decode cX1_clearCell 28 = .ok (.ireturn, 1) := dk_172 (dk_at dksX1_clearCell_1 6 rfl rfl)
abbrev cX1_setFormula : ByteArray := prog_1_method_24_code
def yX1_setFormula : MethodName := ⟨RX1, "setFormula", "(III)I"⟩
def dkwX1_setFormula_2 : List UInt8 := [5, 3, 25, 5, 183, 0, 11, 182, 0, 160, 172]
abbrev dktX1_setFormula_2 : List UInt8 := dkwX1_setFormula_2 ++ []
def dkwX1_setFormula_1 : List UInt8 := [167, 0, 4, 3, 184, 0, 147, 25, 4, 184, 0, 121, 184, 0, 125, 42, 25, 4, 28, 29, 187, 0, 1, 89]
abbrev dktX1_setFormula_1 : List UInt8 := dkwX1_setFormula_1 ++ dktX1_setFormula_2
def dkwX1_setFormula_0 : List UInt8 := [42, 27, 28, 29, 182, 0, 157, 58, 4, 42, 25, 4, 182, 0, 179, 58, 5, 25, 5, 198, 0, 7, 4]
abbrev dktX1_setFormula_0 : List UInt8 := dkwX1_setFormula_0 ++ dktX1_setFormula_1
theorem dksX1_setFormula_0 : cX1_setFormula.data.toList.drop 0 = dktX1_setFormula_0 := by decide +kernel
theorem dksX1_setFormula_1 : cX1_setFormula.data.toList.drop 23 = dktX1_setFormula_1 := dk_seg dksX1_setFormula_0 23 rfl rfl
theorem dksX1_setFormula_2 : cX1_setFormula.data.toList.drop 47 = dktX1_setFormula_2 := dk_seg dksX1_setFormula_1 24 rfl rfl
theorem dX1_setFormula_0 : decode cX1_setFormula 0 = .ok (.aload_n 0, 1) := dk_42 (dk_at dksX1_setFormula_0 0 rfl rfl)
theorem dX1_setFormula_1 : decode cX1_setFormula 1 = .ok (.iload_n 1, 1) := dk_27 (dk_at dksX1_setFormula_0 1 rfl rfl)
theorem dX1_setFormula_2 : decode cX1_setFormula 2 = .ok (.iload_n 2, 1) := dk_28 (dk_at dksX1_setFormula_0 2 rfl rfl)
theorem dX1_setFormula_3 : decode cX1_setFormula 3 = .ok (.iload_n 3, 1) := dk_29 (dk_at dksX1_setFormula_0 3 rfl rfl)
theorem dX1_setFormula_4 : decode cX1_setFormula 4 = .ok (.invokevirtual 157, 3) := dk_182 0 157 (dk_at dksX1_setFormula_0 4 rfl rfl)
theorem dX1_setFormula_7 : decode cX1_setFormula 7 = .ok (.astore 4, 2) := dk_58 4 (dk_at dksX1_setFormula_0 7 rfl rfl)
theorem dX1_setFormula_9 : decode cX1_setFormula 9 = .ok (.aload_n 0, 1) := dk_42 (dk_at dksX1_setFormula_0 9 rfl rfl)
theorem dX1_setFormula_10 : decode cX1_setFormula 10 = .ok (.aload 4, 2) := dk_25 4 (dk_at dksX1_setFormula_0 10 rfl rfl)
theorem dX1_setFormula_12 : decode cX1_setFormula 12 = .ok (.invokevirtual 179, 3) := dk_182 0 179 (dk_at dksX1_setFormula_0 12 rfl rfl)
theorem dX1_setFormula_15 : decode cX1_setFormula 15 = .ok (.astore 5, 2) := dk_58 5 (dk_at dksX1_setFormula_0 15 rfl rfl)
theorem dX1_setFormula_17 : decode cX1_setFormula 17 = .ok (.aload 5, 2) := dk_25 5 (dk_at dksX1_setFormula_0 17 rfl rfl)
theorem dX1_setFormula_19 : decode cX1_setFormula 19 = .ok (.ifnull 7, 3) := dk_198 0 7 (dk_at dksX1_setFormula_0 19 rfl rfl)
theorem dX1_setFormula_22 : decode cX1_setFormula 22 = .ok (.iconst 1, 1) := dk_4 (dk_at dksX1_setFormula_0 22 rfl rfl)
theorem dX1_setFormula_23 : decode cX1_setFormula 23 = .ok (.goto 4, 3) := dk_167 0 4 (dk_at dksX1_setFormula_1 0 rfl rfl)
theorem dX1_setFormula_26 : decode cX1_setFormula 26 = .ok (.iconst 0, 1) := dk_3 (dk_at dksX1_setFormula_1 3 rfl rfl)
theorem dX1_setFormula_27 : decode cX1_setFormula 27 = .ok (.invokestatic 147, 3) := dk_184 0 147 (dk_at dksX1_setFormula_1 4 rfl rfl)
theorem dX1_setFormula_30 : decode cX1_setFormula 30 = .ok (.aload 4, 2) := dk_25 4 (dk_at dksX1_setFormula_1 7 rfl rfl)
theorem dX1_setFormula_32 : decode cX1_setFormula 32 = .ok (.invokestatic 121, 3) := dk_184 0 121 (dk_at dksX1_setFormula_1 9 rfl rfl)
theorem dX1_setFormula_35 : decode cX1_setFormula 35 = .ok (.invokestatic 125, 3) := dk_184 0 125 (dk_at dksX1_setFormula_1 12 rfl rfl)
theorem dX1_setFormula_38 : decode cX1_setFormula 38 = .ok (.aload_n 0, 1) := dk_42 (dk_at dksX1_setFormula_1 15 rfl rfl)
theorem dX1_setFormula_39 : decode cX1_setFormula 39 = .ok (.aload 4, 2) := dk_25 4 (dk_at dksX1_setFormula_1 16 rfl rfl)
theorem dX1_setFormula_41 : decode cX1_setFormula 41 = .ok (.iload_n 2, 1) := dk_28 (dk_at dksX1_setFormula_1 18 rfl rfl)
theorem dX1_setFormula_42 : decode cX1_setFormula 42 = .ok (.iload_n 3, 1) := dk_29 (dk_at dksX1_setFormula_1 19 rfl rfl)
theorem dX1_setFormula_43 : decode cX1_setFormula 43 = .ok (.new 1, 3) := dk_187 0 1 (dk_at dksX1_setFormula_1 20 rfl rfl)
theorem dX1_setFormula_46 : decode cX1_setFormula 46 = .ok (.dup, 1) := dk_89 (dk_at dksX1_setFormula_1 23 rfl rfl)
theorem dX1_setFormula_47 : decode cX1_setFormula 47 = .ok (.iconst 2, 1) := dk_5 (dk_at dksX1_setFormula_2 0 rfl rfl)
theorem dX1_setFormula_48 : decode cX1_setFormula 48 = .ok (.iconst 0, 1) := dk_3 (dk_at dksX1_setFormula_2 1 rfl rfl)
theorem dX1_setFormula_49 : decode cX1_setFormula 49 = .ok (.aload 5, 2) := dk_25 5 (dk_at dksX1_setFormula_2 2 rfl rfl)
theorem dX1_setFormula_51 : decode cX1_setFormula 51 = .ok (.invokespecial 11, 3) := dk_183 0 11 (dk_at dksX1_setFormula_2 4 rfl rfl)
theorem dX1_setFormula_54 : decode cX1_setFormula 54 = .ok (.invokevirtual 160, 3) := dk_182 0 160 (dk_at dksX1_setFormula_2 7 rfl rfl)
theorem dX1_setFormula_57 : decode cX1_setFormula 57 = .ok (.ireturn, 1) := dk_172 (dk_at dksX1_setFormula_2 10 rfl rfl)
abbrev cX1_formula : ByteArray := prog_1_method_23_code
def yX1_formula : MethodName := ⟨RX1, "formula", "(LSharedSheet$Replica;)Ljava/util/List;"⟩
def dkwX1_formula_0 : List UInt8 := [187, 0, 168, 89, 42, 180, 0, 33, 43, 183, 0, 170, 182, 0, 173, 176, 77, 1, 176]
abbrev dktX1_formula_0 : List UInt8 := dkwX1_formula_0 ++ []
theorem dksX1_formula_0 : cX1_formula.data.toList.drop 0 = dktX1_formula_0 := by decide +kernel
theorem dX1_formula_0 : decode cX1_formula 0 = .ok (.new 168, 3) := dk_187 0 168 (dk_at dksX1_formula_0 0 rfl rfl)
theorem dX1_formula_3 : decode cX1_formula 3 = .ok (.dup, 1) := dk_89 (dk_at dksX1_formula_0 3 rfl rfl)
theorem dX1_formula_4 : decode cX1_formula 4 = .ok (.aload_n 0, 1) := dk_42 (dk_at dksX1_formula_0 4 rfl rfl)
theorem dX1_formula_5 : decode cX1_formula 5 = .ok (.getfield 33, 3) := dk_180 0 33 (dk_at dksX1_formula_0 5 rfl rfl)
theorem dX1_formula_8 : decode cX1_formula 8 = .ok (.aload_n 1, 1) := dk_43 (dk_at dksX1_formula_0 8 rfl rfl)
theorem dX1_formula_9 : decode cX1_formula 9 = .ok (.invokespecial 170, 3) := dk_183 0 170 (dk_at dksX1_formula_0 9 rfl rfl)
theorem dX1_formula_12 : decode cX1_formula 12 = .ok (.invokevirtual 173, 3) := dk_182 0 173 (dk_at dksX1_formula_0 12 rfl rfl)
theorem dX1_formula_15 : decode cX1_formula 15 = .ok (.areturn, 1) := dk_176 (dk_at dksX1_formula_0 15 rfl rfl)
theorem dX1_formula_16 : decode cX1_formula 16 = .ok (.astore_n 2, 1) := dk_77 (dk_at dksX1_formula_0 16 rfl rfl)
theorem dX1_formula_17 : decode cX1_formula 17 = .ok (.aconst_null, 1) := dk_1 (dk_at dksX1_formula_0 17 rfl rfl)
theorem dX1_formula_18 : decode cX1_formula 18 = .ok (.areturn, 1) := dk_176 (dk_at dksX1_formula_0 18 rfl rfl)
abbrev cX1_cell : ByteArray := prog_1_method_27_code
def yX1_cell : MethodName := ⟨RX1, "cell", "(IIII)I"⟩
def dkwX1_cell_1 : List UInt8 := [25, 5, 183, 0, 214, 58, 6, 25, 6, 25, 6, 180, 0, 217, 28, 104, 29, 96, 21, 4, 184, 0, 220, 172]
abbrev dktX1_cell_1 : List UInt8 := dkwX1_cell_1 ++ []
def dkwX1_cell_0 : List UInt8 := [42, 27, 28, 29, 182, 0, 157, 58, 5, 21, 4, 3, 16, 6, 184, 0, 49, 184, 0, 147, 187, 0, 143, 89]
abbrev dktX1_cell_0 : List UInt8 := dkwX1_cell_0 ++ dktX1_cell_1
theorem dksX1_cell_0 : cX1_cell.data.toList.drop 0 = dktX1_cell_0 := by decide +kernel
theorem dksX1_cell_1 : cX1_cell.data.toList.drop 24 = dktX1_cell_1 := dk_seg dksX1_cell_0 24 rfl rfl
theorem dX1_cell_0 : decode cX1_cell 0 = .ok (.aload_n 0, 1) := dk_42 (dk_at dksX1_cell_0 0 rfl rfl)
theorem dX1_cell_1 : decode cX1_cell 1 = .ok (.iload_n 1, 1) := dk_27 (dk_at dksX1_cell_0 1 rfl rfl)
theorem dX1_cell_2 : decode cX1_cell 2 = .ok (.iload_n 2, 1) := dk_28 (dk_at dksX1_cell_0 2 rfl rfl)
theorem dX1_cell_3 : decode cX1_cell 3 = .ok (.iload_n 3, 1) := dk_29 (dk_at dksX1_cell_0 3 rfl rfl)
theorem dX1_cell_4 : decode cX1_cell 4 = .ok (.invokevirtual 157, 3) := dk_182 0 157 (dk_at dksX1_cell_0 4 rfl rfl)
theorem dX1_cell_7 : decode cX1_cell 7 = .ok (.astore 5, 2) := dk_58 5 (dk_at dksX1_cell_0 7 rfl rfl)
theorem dX1_cell_9 : decode cX1_cell 9 = .ok (.iload 4, 2) := dk_21 4 (dk_at dksX1_cell_0 9 rfl rfl)
theorem dX1_cell_11 : decode cX1_cell 11 = .ok (.iconst 0, 1) := dk_3 (dk_at dksX1_cell_0 11 rfl rfl)
theorem dX1_cell_12 : decode cX1_cell 12 = .ok (.bipush 6, 2) := dk_16 6 (dk_at dksX1_cell_0 12 rfl rfl)
theorem dX1_cell_14 : decode cX1_cell 14 = .ok (.invokestatic 49, 3) := dk_184 0 49 (dk_at dksX1_cell_0 14 rfl rfl)
theorem dX1_cell_17 : decode cX1_cell 17 = .ok (.invokestatic 147, 3) := dk_184 0 147 (dk_at dksX1_cell_0 17 rfl rfl)
theorem dX1_cell_20 : decode cX1_cell 20 = .ok (.new 143, 3) := dk_187 0 143 (dk_at dksX1_cell_0 20 rfl rfl)
theorem dX1_cell_23 : decode cX1_cell 23 = .ok (.dup, 1) := dk_89 (dk_at dksX1_cell_0 23 rfl rfl)
theorem dX1_cell_24 : decode cX1_cell 24 = .ok (.aload 5, 2) := dk_25 5 (dk_at dksX1_cell_1 0 rfl rfl)
theorem dX1_cell_26 : decode cX1_cell 26 = .ok (.invokespecial 214, 3) := dk_183 0 214 (dk_at dksX1_cell_1 2 rfl rfl)
theorem dX1_cell_29 : decode cX1_cell 29 = .ok (.astore 6, 2) := dk_58 6 (dk_at dksX1_cell_1 5 rfl rfl)
theorem dX1_cell_31 : decode cX1_cell 31 = .ok (.aload 6, 2) := dk_25 6 (dk_at dksX1_cell_1 7 rfl rfl)
theorem dX1_cell_33 : decode cX1_cell 33 = .ok (.aload 6, 2) := dk_25 6 (dk_at dksX1_cell_1 9 rfl rfl)
theorem dX1_cell_35 : decode cX1_cell 35 = .ok (.getfield 217, 3) := dk_180 0 217 (dk_at dksX1_cell_1 11 rfl rfl)
theorem dX1_cell_38 : decode cX1_cell 38 = .ok (.iload_n 2, 1) := dk_28 (dk_at dksX1_cell_1 14 rfl rfl)
theorem dX1_cell_39 : decode cX1_cell 39 = .ok (.imul, 1) := dk_104 (dk_at dksX1_cell_1 15 rfl rfl)
theorem dX1_cell_40 : decode cX1_cell 40 = .ok (.iload_n 3, 1) := dk_29 (dk_at dksX1_cell_1 16 rfl rfl)
theorem dX1_cell_41 : decode cX1_cell 41 = .ok (.iadd, 1) := dk_96 (dk_at dksX1_cell_1 17 rfl rfl)
theorem dX1_cell_42 : decode cX1_cell 42 = .ok (.iload 4, 2) := dk_21 4 (dk_at dksX1_cell_1 18 rfl rfl)
theorem dX1_cell_44 : decode cX1_cell 44 = .ok (.invokestatic 220, 3) := dk_184 0 220 (dk_at dksX1_cell_1 20 rfl rfl)
theorem dX1_cell_47 : decode cX1_cell 47 = .ok (.ireturn, 1) := dk_172 (dk_at dksX1_cell_1 23 rfl rfl)
abbrev cX1_value : ByteArray := prog_1_method_28_code
def yX1_value : MethodName := ⟨RX1, "value", "(III)I"⟩
def dkwX1_value_1 : List UInt8 := [104, 29, 96, 182, 0, 224, 136, 172]
abbrev dktX1_value_1 : List UInt8 := dkwX1_value_1 ++ []
def dkwX1_value_0 : List UInt8 := [187, 0, 143, 89, 42, 27, 28, 29, 182, 0, 157, 183, 0, 214, 58, 4, 25, 4, 25, 4, 180, 0, 217, 28]
abbrev dktX1_value_0 : List UInt8 := dkwX1_value_0 ++ dktX1_value_1
theorem dksX1_value_0 : cX1_value.data.toList.drop 0 = dktX1_value_0 := by decide +kernel
theorem dksX1_value_1 : cX1_value.data.toList.drop 24 = dktX1_value_1 := dk_seg dksX1_value_0 24 rfl rfl
theorem dX1_value_0 : decode cX1_value 0 = .ok (.new 143, 3) := dk_187 0 143 (dk_at dksX1_value_0 0 rfl rfl)
theorem dX1_value_3 : decode cX1_value 3 = .ok (.dup, 1) := dk_89 (dk_at dksX1_value_0 3 rfl rfl)
theorem dX1_value_4 : decode cX1_value 4 = .ok (.aload_n 0, 1) := dk_42 (dk_at dksX1_value_0 4 rfl rfl)
theorem dX1_value_5 : decode cX1_value 5 = .ok (.iload_n 1, 1) := dk_27 (dk_at dksX1_value_0 5 rfl rfl)
theorem dX1_value_6 : decode cX1_value 6 = .ok (.iload_n 2, 1) := dk_28 (dk_at dksX1_value_0 6 rfl rfl)
theorem dX1_value_7 : decode cX1_value 7 = .ok (.iload_n 3, 1) := dk_29 (dk_at dksX1_value_0 7 rfl rfl)
theorem dX1_value_8 : decode cX1_value 8 = .ok (.invokevirtual 157, 3) := dk_182 0 157 (dk_at dksX1_value_0 8 rfl rfl)
theorem dX1_value_11 : decode cX1_value 11 = .ok (.invokespecial 214, 3) := dk_183 0 214 (dk_at dksX1_value_0 11 rfl rfl)
theorem dX1_value_14 : decode cX1_value 14 = .ok (.astore 4, 2) := dk_58 4 (dk_at dksX1_value_0 14 rfl rfl)
theorem dX1_value_16 : decode cX1_value 16 = .ok (.aload 4, 2) := dk_25 4 (dk_at dksX1_value_0 16 rfl rfl)
theorem dX1_value_18 : decode cX1_value 18 = .ok (.aload 4, 2) := dk_25 4 (dk_at dksX1_value_0 18 rfl rfl)
theorem dX1_value_20 : decode cX1_value 20 = .ok (.getfield 217, 3) := dk_180 0 217 (dk_at dksX1_value_0 20 rfl rfl)
theorem dX1_value_23 : decode cX1_value 23 = .ok (.iload_n 2, 1) := dk_28 (dk_at dksX1_value_0 23 rfl rfl)
theorem dX1_value_24 : decode cX1_value 24 = .ok (.imul, 1) := dk_104 (dk_at dksX1_value_1 0 rfl rfl)
theorem dX1_value_25 : decode cX1_value 25 = .ok (.iload_n 3, 1) := dk_29 (dk_at dksX1_value_1 1 rfl rfl)
theorem dX1_value_26 : decode cX1_value 26 = .ok (.iadd, 1) := dk_96 (dk_at dksX1_value_1 2 rfl rfl)
theorem dX1_value_27 : decode cX1_value 27 = .ok (.invokevirtual 224, 3) := dk_182 0 224 (dk_at dksX1_value_1 3 rfl rfl)
theorem dX1_value_30 : decode cX1_value 30 = .ok (.l2i, 1) := dk_136 (dk_at dksX1_value_1 6 rfl rfl)
theorem dX1_value_31 : decode cX1_value 31 = .ok (.ireturn, 1) := dk_172 (dk_at dksX1_value_1 7 rfl rfl)
abbrev cX1_error : ByteArray := prog_1_method_29_code
def yX1_error : MethodName := ⟨RX1, "error", "(III)I"⟩
def dkwX1_error_1 : List UInt8 := [104, 29, 96, 182, 0, 228, 172]
abbrev dktX1_error_1 : List UInt8 := dkwX1_error_1 ++ []
def dkwX1_error_0 : List UInt8 := [187, 0, 143, 89, 42, 27, 28, 29, 182, 0, 157, 183, 0, 214, 58, 4, 25, 4, 25, 4, 180, 0, 217, 28]
abbrev dktX1_error_0 : List UInt8 := dkwX1_error_0 ++ dktX1_error_1
theorem dksX1_error_0 : cX1_error.data.toList.drop 0 = dktX1_error_0 := by decide +kernel
theorem dksX1_error_1 : cX1_error.data.toList.drop 24 = dktX1_error_1 := dk_seg dksX1_error_0 24 rfl rfl
theorem dX1_error_0 : decode cX1_error 0 = .ok (.new 143, 3) := dk_187 0 143 (dk_at dksX1_error_0 0 rfl rfl)
theorem dX1_error_3 : decode cX1_error 3 = .ok (.dup, 1) := dk_89 (dk_at dksX1_error_0 3 rfl rfl)
theorem dX1_error_4 : decode cX1_error 4 = .ok (.aload_n 0, 1) := dk_42 (dk_at dksX1_error_0 4 rfl rfl)
theorem dX1_error_5 : decode cX1_error 5 = .ok (.iload_n 1, 1) := dk_27 (dk_at dksX1_error_0 5 rfl rfl)
theorem dX1_error_6 : decode cX1_error 6 = .ok (.iload_n 2, 1) := dk_28 (dk_at dksX1_error_0 6 rfl rfl)
theorem dX1_error_7 : decode cX1_error 7 = .ok (.iload_n 3, 1) := dk_29 (dk_at dksX1_error_0 7 rfl rfl)
theorem dX1_error_8 : decode cX1_error 8 = .ok (.invokevirtual 157, 3) := dk_182 0 157 (dk_at dksX1_error_0 8 rfl rfl)
theorem dX1_error_11 : decode cX1_error 11 = .ok (.invokespecial 214, 3) := dk_183 0 214 (dk_at dksX1_error_0 11 rfl rfl)
theorem dX1_error_14 : decode cX1_error 14 = .ok (.astore 4, 2) := dk_58 4 (dk_at dksX1_error_0 14 rfl rfl)
theorem dX1_error_16 : decode cX1_error 16 = .ok (.aload 4, 2) := dk_25 4 (dk_at dksX1_error_0 16 rfl rfl)
theorem dX1_error_18 : decode cX1_error 18 = .ok (.aload 4, 2) := dk_25 4 (dk_at dksX1_error_0 18 rfl rfl)
theorem dX1_error_20 : decode cX1_error 20 = .ok (.getfield 217, 3) := dk_180 0 217 (dk_at dksX1_error_0 20 rfl rfl)
theorem dX1_error_23 : decode cX1_error 23 = .ok (.iload_n 2, 1) := dk_28 (dk_at dksX1_error_0 23 rfl rfl)
theorem dX1_error_24 : decode cX1_error 24 = .ok (.imul, 1) := dk_104 (dk_at dksX1_error_1 0 rfl rfl)
theorem dX1_error_25 : decode cX1_error 25 = .ok (.iload_n 3, 1) := dk_29 (dk_at dksX1_error_1 1 rfl rfl)
theorem dX1_error_26 : decode cX1_error 26 = .ok (.iadd, 1) := dk_96 (dk_at dksX1_error_1 2 rfl rfl)
theorem dX1_error_27 : decode cX1_error 27 = .ok (.invokevirtual 228, 3) := dk_182 0 228 (dk_at dksX1_error_1 3 rfl rfl)
theorem dX1_error_30 : decode cX1_error 30 = .ok (.ireturn, 1) := dk_172 (dk_at dksX1_error_1 6 rfl rfl)
abbrev cX1_write : ByteArray := prog_1_method_30_code
def yX1_write : MethodName := ⟨RX1, "write", "(III)I"⟩
def dkwX1_write_2 : List UInt8 := [180, 0, 33, 25, 4, 21, 5, 182, 0, 238, 180, 0, 241, 182, 0, 244, 42, 180, 0, 33, 182, 0, 248, 172]
abbrev dktX1_write_2 : List UInt8 := dkwX1_write_2 ++ []
def dkwX1_write_1 : List UInt8 := [96, 54, 5, 25, 4, 21, 5, 182, 0, 232, 184, 0, 125, 42, 180, 0, 33, 3, 182, 0, 235, 25, 4, 42]
abbrev dktX1_write_1 : List UInt8 := dkwX1_write_1 ++ dktX1_write_2
def dkwX1_write_0 : List UInt8 := [187, 0, 143, 89, 42, 27, 28, 29, 182, 0, 157, 183, 0, 214, 58, 4, 25, 4, 180, 0, 217, 28, 104, 29]
abbrev dktX1_write_0 : List UInt8 := dkwX1_write_0 ++ dktX1_write_1
theorem dksX1_write_0 : cX1_write.data.toList.drop 0 = dktX1_write_0 := by decide +kernel
theorem dksX1_write_1 : cX1_write.data.toList.drop 24 = dktX1_write_1 := dk_seg dksX1_write_0 24 rfl rfl
theorem dksX1_write_2 : cX1_write.data.toList.drop 48 = dktX1_write_2 := dk_seg dksX1_write_1 24 rfl rfl
theorem dX1_write_0 : decode cX1_write 0 = .ok (.new 143, 3) := dk_187 0 143 (dk_at dksX1_write_0 0 rfl rfl)
theorem dX1_write_3 : decode cX1_write 3 = .ok (.dup, 1) := dk_89 (dk_at dksX1_write_0 3 rfl rfl)
theorem dX1_write_4 : decode cX1_write 4 = .ok (.aload_n 0, 1) := dk_42 (dk_at dksX1_write_0 4 rfl rfl)
theorem dX1_write_5 : decode cX1_write 5 = .ok (.iload_n 1, 1) := dk_27 (dk_at dksX1_write_0 5 rfl rfl)
theorem dX1_write_6 : decode cX1_write 6 = .ok (.iload_n 2, 1) := dk_28 (dk_at dksX1_write_0 6 rfl rfl)
theorem dX1_write_7 : decode cX1_write 7 = .ok (.iload_n 3, 1) := dk_29 (dk_at dksX1_write_0 7 rfl rfl)
theorem dX1_write_8 : decode cX1_write 8 = .ok (.invokevirtual 157, 3) := dk_182 0 157 (dk_at dksX1_write_0 8 rfl rfl)
theorem dX1_write_11 : decode cX1_write 11 = .ok (.invokespecial 214, 3) := dk_183 0 214 (dk_at dksX1_write_0 11 rfl rfl)
theorem dX1_write_14 : decode cX1_write 14 = .ok (.astore 4, 2) := dk_58 4 (dk_at dksX1_write_0 14 rfl rfl)
theorem dX1_write_16 : decode cX1_write 16 = .ok (.aload 4, 2) := dk_25 4 (dk_at dksX1_write_0 16 rfl rfl)
theorem dX1_write_18 : decode cX1_write 18 = .ok (.getfield 217, 3) := dk_180 0 217 (dk_at dksX1_write_0 18 rfl rfl)
theorem dX1_write_21 : decode cX1_write 21 = .ok (.iload_n 2, 1) := dk_28 (dk_at dksX1_write_0 21 rfl rfl)
theorem dX1_write_22 : decode cX1_write 22 = .ok (.imul, 1) := dk_104 (dk_at dksX1_write_0 22 rfl rfl)
theorem dX1_write_23 : decode cX1_write 23 = .ok (.iload_n 3, 1) := dk_29 (dk_at dksX1_write_0 23 rfl rfl)
theorem dX1_write_24 : decode cX1_write 24 = .ok (.iadd, 1) := dk_96 (dk_at dksX1_write_1 0 rfl rfl)
theorem dX1_write_25 : decode cX1_write 25 = .ok (.istore 5, 2) := dk_54 5 (dk_at dksX1_write_1 1 rfl rfl)
theorem dX1_write_27 : decode cX1_write 27 = .ok (.aload 4, 2) := dk_25 4 (dk_at dksX1_write_1 3 rfl rfl)
theorem dX1_write_29 : decode cX1_write 29 = .ok (.iload 5, 2) := dk_21 5 (dk_at dksX1_write_1 5 rfl rfl)
theorem dX1_write_31 : decode cX1_write 31 = .ok (.invokevirtual 232, 3) := dk_182 0 232 (dk_at dksX1_write_1 7 rfl rfl)
theorem dX1_write_34 : decode cX1_write 34 = .ok (.invokestatic 125, 3) := dk_184 0 125 (dk_at dksX1_write_1 10 rfl rfl)
theorem dX1_write_37 : decode cX1_write 37 = .ok (.aload_n 0, 1) := dk_42 (dk_at dksX1_write_1 13 rfl rfl)
theorem dX1_write_38 : decode cX1_write 38 = .ok (.getfield 33, 3) := dk_180 0 33 (dk_at dksX1_write_1 14 rfl rfl)
theorem dX1_write_41 : decode cX1_write 41 = .ok (.iconst 0, 1) := dk_3 (dk_at dksX1_write_1 17 rfl rfl)
theorem dX1_write_42 : decode cX1_write 42 = .ok (.invokevirtual 235, 3) := dk_182 0 235 (dk_at dksX1_write_1 18 rfl rfl)
theorem dX1_write_45 : decode cX1_write 45 = .ok (.aload 4, 2) := dk_25 4 (dk_at dksX1_write_1 21 rfl rfl)
theorem dX1_write_47 : decode cX1_write 47 = .ok (.aload_n 0, 1) := dk_42 (dk_at dksX1_write_1 23 rfl rfl)
theorem dX1_write_48 : decode cX1_write 48 = .ok (.getfield 33, 3) := dk_180 0 33 (dk_at dksX1_write_2 0 rfl rfl)
theorem dX1_write_51 : decode cX1_write 51 = .ok (.aload 4, 2) := dk_25 4 (dk_at dksX1_write_2 3 rfl rfl)
theorem dX1_write_53 : decode cX1_write 53 = .ok (.iload 5, 2) := dk_21 5 (dk_at dksX1_write_2 5 rfl rfl)
theorem dX1_write_55 : decode cX1_write 55 = .ok (.invokevirtual 238, 3) := dk_182 0 238 (dk_at dksX1_write_2 7 rfl rfl)
theorem dX1_write_58 : decode cX1_write 58 = .ok (.getfield 241, 3) := dk_180 0 241 (dk_at dksX1_write_2 10 rfl rfl)
theorem dX1_write_61 : decode cX1_write 61 = .ok (.invokevirtual 244, 3) := dk_182 0 244 (dk_at dksX1_write_2 13 rfl rfl)
theorem dX1_write_64 : decode cX1_write 64 = .ok (.aload_n 0, 1) := dk_42 (dk_at dksX1_write_2 16 rfl rfl)
theorem dX1_write_65 : decode cX1_write 65 = .ok (.getfield 33, 3) := dk_180 0 33 (dk_at dksX1_write_2 17 rfl rfl)
theorem dX1_write_68 : decode cX1_write 68 = .ok (.invokevirtual 248, 3) := dk_182 0 248 (dk_at dksX1_write_2 20 rfl rfl)
theorem dX1_write_71 : decode cX1_write 71 = .ok (.ireturn, 1) := dk_172 (dk_at dksX1_write_2 23 rfl rfl)
abbrev cX1_cycles : ByteArray := prog_1_method_32_code
def yX1_cycles : MethodName := ⟨RX1, "cycles", "(I)I"⟩
def dkwX1_cycles_0 : List UInt8 := [187, 0, 143, 89, 42, 27, 182, 0, 57, 183, 0, 214, 184, 0, 251, 172]
abbrev dktX1_cycles_0 : List UInt8 := dkwX1_cycles_0 ++ []
theorem dksX1_cycles_0 : cX1_cycles.data.toList.drop 0 = dktX1_cycles_0 := by decide +kernel
theorem dX1_cycles_0 : decode cX1_cycles 0 = .ok (.new 143, 3) := dk_187 0 143 (dk_at dksX1_cycles_0 0 rfl rfl)
theorem dX1_cycles_3 : decode cX1_cycles 3 = .ok (.dup, 1) := dk_89 (dk_at dksX1_cycles_0 3 rfl rfl)
theorem dX1_cycles_4 : decode cX1_cycles 4 = .ok (.aload_n 0, 1) := dk_42 (dk_at dksX1_cycles_0 4 rfl rfl)
theorem dX1_cycles_5 : decode cX1_cycles 5 = .ok (.iload_n 1, 1) := dk_27 (dk_at dksX1_cycles_0 5 rfl rfl)
theorem dX1_cycles_6 : decode cX1_cycles 6 = .ok (.invokevirtual 57, 3) := dk_182 0 57 (dk_at dksX1_cycles_0 6 rfl rfl)
theorem dX1_cycles_9 : decode cX1_cycles 9 = .ok (.invokespecial 214, 3) := dk_183 0 214 (dk_at dksX1_cycles_0 9 rfl rfl)
theorem dX1_cycles_12 : decode cX1_cycles 12 = .ok (.invokestatic 251, 3) := dk_184 0 251 (dk_at dksX1_cycles_0 12 rfl rfl)
theorem dX1_cycles_15 : decode cX1_cycles 15 = .ok (.ireturn, 1) := dk_172 (dk_at dksX1_cycles_0 15 rfl rfl)
abbrev cX1_order : ByteArray := prog_1_method_34_code
def yX1_order : MethodName := ⟨RX1, "order", "(II)I"⟩
def dkwX1_order_2 : List UInt8 := [192, 0, 104, 182, 0, 106, 184, 1, 2, 167, 0, 4, 2, 172]
abbrev dktX1_order_2 : List UInt8 := dkwX1_order_2 ++ []
def dkwX1_order_1 : List UInt8 := [185, 0, 65, 1, 0, 4, 100, 184, 0, 49, 153, 0, 24, 45, 25, 4, 28, 185, 0, 88, 2, 0]
abbrev dktX1_order_1 : List UInt8 := dkwX1_order_1 ++ dktX1_order_2
def dkwX1_order_0 : List UInt8 := [187, 0, 143, 89, 42, 27, 182, 0, 57, 183, 0, 214, 78, 45, 182, 0, 255, 58, 4, 28, 3, 25, 4]
abbrev dktX1_order_0 : List UInt8 := dkwX1_order_0 ++ dktX1_order_1
theorem dksX1_order_0 : cX1_order.data.toList.drop 0 = dktX1_order_0 := by decide +kernel
theorem dksX1_order_1 : cX1_order.data.toList.drop 23 = dktX1_order_1 := dk_seg dksX1_order_0 23 rfl rfl
theorem dksX1_order_2 : cX1_order.data.toList.drop 45 = dktX1_order_2 := dk_seg dksX1_order_1 22 rfl rfl
theorem dX1_order_0 : decode cX1_order 0 = .ok (.new 143, 3) := dk_187 0 143 (dk_at dksX1_order_0 0 rfl rfl)
theorem dX1_order_3 : decode cX1_order 3 = .ok (.dup, 1) := dk_89 (dk_at dksX1_order_0 3 rfl rfl)
theorem dX1_order_4 : decode cX1_order 4 = .ok (.aload_n 0, 1) := dk_42 (dk_at dksX1_order_0 4 rfl rfl)
theorem dX1_order_5 : decode cX1_order 5 = .ok (.iload_n 1, 1) := dk_27 (dk_at dksX1_order_0 5 rfl rfl)
theorem dX1_order_6 : decode cX1_order 6 = .ok (.invokevirtual 57, 3) := dk_182 0 57 (dk_at dksX1_order_0 6 rfl rfl)
theorem dX1_order_9 : decode cX1_order 9 = .ok (.invokespecial 214, 3) := dk_183 0 214 (dk_at dksX1_order_0 9 rfl rfl)
theorem dX1_order_12 : decode cX1_order 12 = .ok (.astore_n 3, 1) := dk_78 (dk_at dksX1_order_0 12 rfl rfl)
theorem dX1_order_13 : decode cX1_order 13 = .ok (.aload_n 3, 1) := dk_45 (dk_at dksX1_order_0 13 rfl rfl)
theorem dX1_order_14 : decode cX1_order 14 = .ok (.invokevirtual 255, 3) := dk_182 0 255 (dk_at dksX1_order_0 14 rfl rfl)
theorem dX1_order_17 : decode cX1_order 17 = .ok (.astore 4, 2) := dk_58 4 (dk_at dksX1_order_0 17 rfl rfl)
theorem dX1_order_19 : decode cX1_order 19 = .ok (.iload_n 2, 1) := dk_28 (dk_at dksX1_order_0 19 rfl rfl)
theorem dX1_order_20 : decode cX1_order 20 = .ok (.iconst 0, 1) := dk_3 (dk_at dksX1_order_0 20 rfl rfl)
theorem dX1_order_21 : decode cX1_order 21 = .ok (.aload 4, 2) := dk_25 4 (dk_at dksX1_order_0 21 rfl rfl)
theorem dX1_order_23 : decode cX1_order 23 = .ok (.invokeinterface 65 1, 5) := by decide +kernel
theorem dX1_order_28 : decode cX1_order 28 = .ok (.iconst 1, 1) := dk_4 (dk_at dksX1_order_1 5 rfl rfl)
theorem dX1_order_29 : decode cX1_order 29 = .ok (.isub, 1) := dk_100 (dk_at dksX1_order_1 6 rfl rfl)
theorem dX1_order_30 : decode cX1_order 30 = .ok (.invokestatic 49, 3) := dk_184 0 49 (dk_at dksX1_order_1 7 rfl rfl)
theorem dX1_order_33 : decode cX1_order 33 = .ok (.ifCond .eq 24, 3) := dk_153 0 24 (dk_at dksX1_order_1 10 rfl rfl)
theorem dX1_order_36 : decode cX1_order 36 = .ok (.aload_n 3, 1) := dk_45 (dk_at dksX1_order_1 13 rfl rfl)
theorem dX1_order_37 : decode cX1_order 37 = .ok (.aload 4, 2) := dk_25 4 (dk_at dksX1_order_1 14 rfl rfl)
theorem dX1_order_39 : decode cX1_order 39 = .ok (.iload_n 2, 1) := dk_28 (dk_at dksX1_order_1 16 rfl rfl)
theorem dX1_order_40 : decode cX1_order 40 = .ok (.invokeinterface 88 2, 5) := by decide +kernel
theorem dX1_order_45 : decode cX1_order 45 = .ok (.checkcast 104, 3) := dk_192 0 104 (dk_at dksX1_order_2 0 rfl rfl)
theorem dX1_order_48 : decode cX1_order 48 = .ok (.invokevirtual 106, 3) := dk_182 0 106 (dk_at dksX1_order_2 3 rfl rfl)
theorem dX1_order_51 : decode cX1_order 51 = .ok (.invokestatic 258, 3) := dk_184 1 2 (dk_at dksX1_order_2 6 rfl rfl)
theorem dX1_order_54 : decode cX1_order 54 = .ok (.goto 4, 3) := dk_167 0 4 (dk_at dksX1_order_2 9 rfl rfl)
theorem dX1_order_57 : decode cX1_order 57 = .ok (.iconst (-1), 1) := dk_2 (dk_at dksX1_order_2 12 rfl rfl)
theorem dX1_order_58 : decode cX1_order 58 = .ok (.ireturn, 1) := dk_172 (dk_at dksX1_order_2 13 rfl rfl)
abbrev cX1_receive : ByteArray := prog_1_method_36_code
def yX1_receive : MethodName := ⟨RX1, "receive", "(III)I"⟩
def dkwX1_receive_3 : List UInt8 := [132, 6, 1, 167, 255, 230, 21, 6, 172]
abbrev dktX1_receive_3 : List UInt8 := dkwX1_receive_3 ++ []
def dkwX1_receive_2 : List UInt8 := [21, 6, 29, 162, 0, 26, 25, 4, 25, 5, 184, 1, 10, 158, 0, 16, 25, 4, 25, 5, 182, 1, 14]
abbrev dktX1_receive_2 : List UInt8 := dkwX1_receive_2 ++ dktX1_receive_3
def dkwX1_receive_1 : List UInt8 := [16, 40, 184, 0, 49, 153, 0, 7, 4, 167, 0, 4, 3, 184, 0, 147, 42, 182, 0, 128, 3, 54, 6]
abbrev dktX1_receive_1 : List UInt8 := dkwX1_receive_1 ++ dktX1_receive_2
def dkwX1_receive_0 : List UInt8 := [42, 27, 182, 0, 57, 58, 4, 42, 28, 182, 0, 57, 58, 5, 25, 4, 25, 5, 165, 0, 17, 29, 4]
abbrev dktX1_receive_0 : List UInt8 := dkwX1_receive_0 ++ dktX1_receive_1
theorem dksX1_receive_0 : cX1_receive.data.toList.drop 0 = dktX1_receive_0 := by decide +kernel
theorem dksX1_receive_1 : cX1_receive.data.toList.drop 23 = dktX1_receive_1 := dk_seg dksX1_receive_0 23 rfl rfl
theorem dksX1_receive_2 : cX1_receive.data.toList.drop 46 = dktX1_receive_2 := dk_seg dksX1_receive_1 23 rfl rfl
theorem dksX1_receive_3 : cX1_receive.data.toList.drop 69 = dktX1_receive_3 := dk_seg dksX1_receive_2 23 rfl rfl
theorem dX1_receive_0 : decode cX1_receive 0 = .ok (.aload_n 0, 1) := dk_42 (dk_at dksX1_receive_0 0 rfl rfl)
theorem dX1_receive_1 : decode cX1_receive 1 = .ok (.iload_n 1, 1) := dk_27 (dk_at dksX1_receive_0 1 rfl rfl)
theorem dX1_receive_2 : decode cX1_receive 2 = .ok (.invokevirtual 57, 3) := dk_182 0 57 (dk_at dksX1_receive_0 2 rfl rfl)
theorem dX1_receive_5 : decode cX1_receive 5 = .ok (.astore 4, 2) := dk_58 4 (dk_at dksX1_receive_0 5 rfl rfl)
theorem dX1_receive_7 : decode cX1_receive 7 = .ok (.aload_n 0, 1) := dk_42 (dk_at dksX1_receive_0 7 rfl rfl)
theorem dX1_receive_8 : decode cX1_receive 8 = .ok (.iload_n 2, 1) := dk_28 (dk_at dksX1_receive_0 8 rfl rfl)
theorem dX1_receive_9 : decode cX1_receive 9 = .ok (.invokevirtual 57, 3) := dk_182 0 57 (dk_at dksX1_receive_0 9 rfl rfl)
theorem dX1_receive_12 : decode cX1_receive 12 = .ok (.astore 5, 2) := dk_58 5 (dk_at dksX1_receive_0 12 rfl rfl)
theorem dX1_receive_14 : decode cX1_receive 14 = .ok (.aload 4, 2) := dk_25 4 (dk_at dksX1_receive_0 14 rfl rfl)
theorem dX1_receive_16 : decode cX1_receive 16 = .ok (.aload 5, 2) := dk_25 5 (dk_at dksX1_receive_0 16 rfl rfl)
theorem dX1_receive_18 : decode cX1_receive 18 = .ok (.if_acmp .eq 17, 3) := dk_165 0 17 (dk_at dksX1_receive_0 18 rfl rfl)
theorem dX1_receive_21 : decode cX1_receive 21 = .ok (.iload_n 3, 1) := dk_29 (dk_at dksX1_receive_0 21 rfl rfl)
theorem dX1_receive_22 : decode cX1_receive 22 = .ok (.iconst 1, 1) := dk_4 (dk_at dksX1_receive_0 22 rfl rfl)
theorem dX1_receive_23 : decode cX1_receive 23 = .ok (.bipush 40, 2) := dk_16 40 (dk_at dksX1_receive_1 0 rfl rfl)
theorem dX1_receive_25 : decode cX1_receive 25 = .ok (.invokestatic 49, 3) := dk_184 0 49 (dk_at dksX1_receive_1 2 rfl rfl)
theorem dX1_receive_28 : decode cX1_receive 28 = .ok (.ifCond .eq 7, 3) := dk_153 0 7 (dk_at dksX1_receive_1 5 rfl rfl)
theorem dX1_receive_31 : decode cX1_receive 31 = .ok (.iconst 1, 1) := dk_4 (dk_at dksX1_receive_1 8 rfl rfl)
theorem dX1_receive_32 : decode cX1_receive 32 = .ok (.goto 4, 3) := dk_167 0 4 (dk_at dksX1_receive_1 9 rfl rfl)
theorem dX1_receive_35 : decode cX1_receive 35 = .ok (.iconst 0, 1) := dk_3 (dk_at dksX1_receive_1 12 rfl rfl)
theorem dX1_receive_36 : decode cX1_receive 36 = .ok (.invokestatic 147, 3) := dk_184 0 147 (dk_at dksX1_receive_1 13 rfl rfl)
theorem dX1_receive_39 : decode cX1_receive 39 = .ok (.aload_n 0, 1) := dk_42 (dk_at dksX1_receive_1 16 rfl rfl)
theorem dX1_receive_40 : decode cX1_receive 40 = .ok (.invokevirtual 128, 3) := dk_182 0 128 (dk_at dksX1_receive_1 17 rfl rfl)
theorem dX1_receive_43 : decode cX1_receive 43 = .ok (.iconst 0, 1) := dk_3 (dk_at dksX1_receive_1 20 rfl rfl)
theorem dX1_receive_44 : decode cX1_receive 44 = .ok (.istore 6, 2) := dk_54 6 (dk_at dksX1_receive_1 21 rfl rfl)
theorem dX1_receive_46 : decode cX1_receive 46 = .ok (.iload 6, 2) := dk_21 6 (dk_at dksX1_receive_2 0 rfl rfl)
theorem dX1_receive_48 : decode cX1_receive 48 = .ok (.iload_n 3, 1) := dk_29 (dk_at dksX1_receive_2 2 rfl rfl)
theorem dX1_receive_49 : decode cX1_receive 49 = .ok (.if_icmp .ge 26, 3) := dk_162 0 26 (dk_at dksX1_receive_2 3 rfl rfl)
theorem dX1_receive_52 : decode cX1_receive 52 = .ok (.aload 4, 2) := dk_25 4 (dk_at dksX1_receive_2 6 rfl rfl)
theorem dX1_receive_54 : decode cX1_receive 54 = .ok (.aload 5, 2) := dk_25 5 (dk_at dksX1_receive_2 8 rfl rfl)
theorem dX1_receive_56 : decode cX1_receive 56 = .ok (.invokestatic 266, 3) := dk_184 1 10 (dk_at dksX1_receive_2 10 rfl rfl)
theorem dX1_receive_59 : decode cX1_receive 59 = .ok (.ifCond .le 16, 3) := dk_158 0 16 (dk_at dksX1_receive_2 13 rfl rfl)
theorem dX1_receive_62 : decode cX1_receive 62 = .ok (.aload 4, 2) := dk_25 4 (dk_at dksX1_receive_2 16 rfl rfl)
theorem dX1_receive_64 : decode cX1_receive 64 = .ok (.aload 5, 2) := dk_25 5 (dk_at dksX1_receive_2 18 rfl rfl)
theorem dX1_receive_66 : decode cX1_receive 66 = .ok (.invokevirtual 270, 3) := dk_182 1 14 (dk_at dksX1_receive_2 20 rfl rfl)
theorem dX1_receive_69 : decode cX1_receive 69 = .ok (.iinc 6 1, 3) := dk_132 6 1 (dk_at dksX1_receive_3 0 rfl rfl)
theorem dX1_receive_72 : decode cX1_receive 72 = .ok (.goto (-26), 3) := dk_167 255 230 (dk_at dksX1_receive_3 3 rfl rfl)
theorem dX1_receive_75 : decode cX1_receive 75 = .ok (.iload 6, 2) := dk_21 6 (dk_at dksX1_receive_3 6 rfl rfl)
theorem dX1_receive_77 : decode cX1_receive 77 = .ok (.ireturn, 1) := dk_172 (dk_at dksX1_receive_3 8 rfl rfl)
abbrev cX1_missing_2 : ByteArray := prog_1_method_38_code
def yX1_missing_2 : MethodName := ⟨RX1, "missing", "(II)I"⟩
def dkwX1_missing_2_1 : List UInt8 := [184, 0, 147, 45, 25, 4, 184, 1, 10, 172]
abbrev dktX1_missing_2_1 : List UInt8 := dkwX1_missing_2_1 ++ []
def dkwX1_missing_2_0 : List UInt8 := [42, 27, 182, 0, 57, 78, 42, 28, 182, 0, 57, 58, 4, 45, 25, 4, 165, 0, 7, 4, 167, 0, 4, 3]
abbrev dktX1_missing_2_0 : List UInt8 := dkwX1_missing_2_0 ++ dktX1_missing_2_1
theorem dksX1_missing_2_0 : cX1_missing_2.data.toList.drop 0 = dktX1_missing_2_0 := by decide +kernel
theorem dksX1_missing_2_1 : cX1_missing_2.data.toList.drop 24 = dktX1_missing_2_1 := dk_seg dksX1_missing_2_0 24 rfl rfl
theorem dX1_missing_2_0 : decode cX1_missing_2 0 = .ok (.aload_n 0, 1) := dk_42 (dk_at dksX1_missing_2_0 0 rfl rfl)
theorem dX1_missing_2_1 : decode cX1_missing_2 1 = .ok (.iload_n 1, 1) := dk_27 (dk_at dksX1_missing_2_0 1 rfl rfl)
theorem dX1_missing_2_2 : decode cX1_missing_2 2 = .ok (.invokevirtual 57, 3) := dk_182 0 57 (dk_at dksX1_missing_2_0 2 rfl rfl)
theorem dX1_missing_2_5 : decode cX1_missing_2 5 = .ok (.astore_n 3, 1) := dk_78 (dk_at dksX1_missing_2_0 5 rfl rfl)
theorem dX1_missing_2_6 : decode cX1_missing_2 6 = .ok (.aload_n 0, 1) := dk_42 (dk_at dksX1_missing_2_0 6 rfl rfl)
theorem dX1_missing_2_7 : decode cX1_missing_2 7 = .ok (.iload_n 2, 1) := dk_28 (dk_at dksX1_missing_2_0 7 rfl rfl)
theorem dX1_missing_2_8 : decode cX1_missing_2 8 = .ok (.invokevirtual 57, 3) := dk_182 0 57 (dk_at dksX1_missing_2_0 8 rfl rfl)
theorem dX1_missing_2_11 : decode cX1_missing_2 11 = .ok (.astore 4, 2) := dk_58 4 (dk_at dksX1_missing_2_0 11 rfl rfl)
theorem dX1_missing_2_13 : decode cX1_missing_2 13 = .ok (.aload_n 3, 1) := dk_45 (dk_at dksX1_missing_2_0 13 rfl rfl)
theorem dX1_missing_2_14 : decode cX1_missing_2 14 = .ok (.aload 4, 2) := dk_25 4 (dk_at dksX1_missing_2_0 14 rfl rfl)
theorem dX1_missing_2_16 : decode cX1_missing_2 16 = .ok (.if_acmp .eq 7, 3) := dk_165 0 7 (dk_at dksX1_missing_2_0 16 rfl rfl)
theorem dX1_missing_2_19 : decode cX1_missing_2 19 = .ok (.iconst 1, 1) := dk_4 (dk_at dksX1_missing_2_0 19 rfl rfl)
theorem dX1_missing_2_20 : decode cX1_missing_2 20 = .ok (.goto 4, 3) := dk_167 0 4 (dk_at dksX1_missing_2_0 20 rfl rfl)
theorem dX1_missing_2_23 : decode cX1_missing_2 23 = .ok (.iconst 0, 1) := dk_3 (dk_at dksX1_missing_2_0 23 rfl rfl)
theorem dX1_missing_2_24 : decode cX1_missing_2 24 = .ok (.invokestatic 147, 3) := dk_184 0 147 (dk_at dksX1_missing_2_1 0 rfl rfl)
theorem dX1_missing_2_27 : decode cX1_missing_2 27 = .ok (.aload_n 3, 1) := dk_45 (dk_at dksX1_missing_2_1 3 rfl rfl)
theorem dX1_missing_2_28 : decode cX1_missing_2 28 = .ok (.aload 4, 2) := dk_25 4 (dk_at dksX1_missing_2_1 4 rfl rfl)
theorem dX1_missing_2_30 : decode cX1_missing_2 30 = .ok (.invokestatic 266, 3) := dk_184 1 10 (dk_at dksX1_missing_2_1 6 rfl rfl)
theorem dX1_missing_2_33 : decode cX1_missing_2 33 = .ok (.ireturn, 1) := dk_172 (dk_at dksX1_missing_2_1 9 rfl rfl)
abbrev cX1_clock : ByteArray := prog_1_method_39_code
def yX1_clock : MethodName := ⟨RX1, "clock", "(I)I"⟩
def dkwX1_clock_0 : List UInt8 := [42, 27, 182, 0, 57, 180, 0, 154, 172]
abbrev dktX1_clock_0 : List UInt8 := dkwX1_clock_0 ++ []
theorem dksX1_clock_0 : cX1_clock.data.toList.drop 0 = dktX1_clock_0 := by decide +kernel
theorem dX1_clock_0 : decode cX1_clock 0 = .ok (.aload_n 0, 1) := dk_42 (dk_at dksX1_clock_0 0 rfl rfl)
theorem dX1_clock_1 : decode cX1_clock 1 = .ok (.iload_n 1, 1) := dk_27 (dk_at dksX1_clock_0 1 rfl rfl)
theorem dX1_clock_2 : decode cX1_clock 2 = .ok (.invokevirtual 57, 3) := dk_182 0 57 (dk_at dksX1_clock_0 2 rfl rfl)
theorem dX1_clock_5 : decode cX1_clock 5 = .ok (.getfield 154, 3) := dk_180 0 154 (dk_at dksX1_clock_0 5 rfl rfl)
theorem dX1_clock_8 : decode cX1_clock 8 = .ok (.ireturn, 1) := dk_172 (dk_at dksX1_clock_0 8 rfl rfl)
abbrev cX1_operation : ByteArray := prog_1_method_40_code
def yX1_operation : MethodName := ⟨RX1, "operation", "(III)I"⟩
def dkwX1_operation_2 : List UInt8 := [192, 1, 17, 29, 182, 1, 19, 167, 0, 4, 2, 172]
abbrev dktX1_operation_2 : List UInt8 := dkwX1_operation_2 ++ []
def dkwX1_operation_1 : List UInt8 := [185, 0, 65, 1, 0, 4, 100, 184, 0, 49, 153, 0, 24, 25, 4, 180, 0, 71, 28, 185, 0, 88, 2, 0]
abbrev dktX1_operation_1 : List UInt8 := dkwX1_operation_1 ++ dktX1_operation_2
def dkwX1_operation_0 : List UInt8 := [42, 27, 182, 0, 57, 58, 4, 29, 3, 7, 184, 0, 49, 184, 0, 147, 28, 3, 25, 4, 180, 0, 71]
abbrev dktX1_operation_0 : List UInt8 := dkwX1_operation_0 ++ dktX1_operation_1
theorem dksX1_operation_0 : cX1_operation.data.toList.drop 0 = dktX1_operation_0 := by decide +kernel
theorem dksX1_operation_1 : cX1_operation.data.toList.drop 23 = dktX1_operation_1 := dk_seg dksX1_operation_0 23 rfl rfl
theorem dksX1_operation_2 : cX1_operation.data.toList.drop 47 = dktX1_operation_2 := dk_seg dksX1_operation_1 24 rfl rfl
theorem dX1_operation_0 : decode cX1_operation 0 = .ok (.aload_n 0, 1) := dk_42 (dk_at dksX1_operation_0 0 rfl rfl)
theorem dX1_operation_1 : decode cX1_operation 1 = .ok (.iload_n 1, 1) := dk_27 (dk_at dksX1_operation_0 1 rfl rfl)
theorem dX1_operation_2 : decode cX1_operation 2 = .ok (.invokevirtual 57, 3) := dk_182 0 57 (dk_at dksX1_operation_0 2 rfl rfl)
theorem dX1_operation_5 : decode cX1_operation 5 = .ok (.astore 4, 2) := dk_58 4 (dk_at dksX1_operation_0 5 rfl rfl)
theorem dX1_operation_7 : decode cX1_operation 7 = .ok (.iload_n 3, 1) := dk_29 (dk_at dksX1_operation_0 7 rfl rfl)
theorem dX1_operation_8 : decode cX1_operation 8 = .ok (.iconst 0, 1) := dk_3 (dk_at dksX1_operation_0 8 rfl rfl)
theorem dX1_operation_9 : decode cX1_operation 9 = .ok (.iconst 4, 1) := dk_7 (dk_at dksX1_operation_0 9 rfl rfl)
theorem dX1_operation_10 : decode cX1_operation 10 = .ok (.invokestatic 49, 3) := dk_184 0 49 (dk_at dksX1_operation_0 10 rfl rfl)
theorem dX1_operation_13 : decode cX1_operation 13 = .ok (.invokestatic 147, 3) := dk_184 0 147 (dk_at dksX1_operation_0 13 rfl rfl)
theorem dX1_operation_16 : decode cX1_operation 16 = .ok (.iload_n 2, 1) := dk_28 (dk_at dksX1_operation_0 16 rfl rfl)
theorem dX1_operation_17 : decode cX1_operation 17 = .ok (.iconst 0, 1) := dk_3 (dk_at dksX1_operation_0 17 rfl rfl)
theorem dX1_operation_18 : decode cX1_operation 18 = .ok (.aload 4, 2) := dk_25 4 (dk_at dksX1_operation_0 18 rfl rfl)
theorem dX1_operation_20 : decode cX1_operation 20 = .ok (.getfield 71, 3) := dk_180 0 71 (dk_at dksX1_operation_0 20 rfl rfl)
theorem dX1_operation_23 : decode cX1_operation 23 = .ok (.invokeinterface 65 1, 5) := by decide +kernel
theorem dX1_operation_28 : decode cX1_operation 28 = .ok (.iconst 1, 1) := dk_4 (dk_at dksX1_operation_1 5 rfl rfl)
theorem dX1_operation_29 : decode cX1_operation 29 = .ok (.isub, 1) := dk_100 (dk_at dksX1_operation_1 6 rfl rfl)
theorem dX1_operation_30 : decode cX1_operation 30 = .ok (.invokestatic 49, 3) := dk_184 0 49 (dk_at dksX1_operation_1 7 rfl rfl)
theorem dX1_operation_33 : decode cX1_operation 33 = .ok (.ifCond .eq 24, 3) := dk_153 0 24 (dk_at dksX1_operation_1 10 rfl rfl)
theorem dX1_operation_36 : decode cX1_operation 36 = .ok (.aload 4, 2) := dk_25 4 (dk_at dksX1_operation_1 13 rfl rfl)
theorem dX1_operation_38 : decode cX1_operation 38 = .ok (.getfield 71, 3) := dk_180 0 71 (dk_at dksX1_operation_1 15 rfl rfl)
theorem dX1_operation_41 : decode cX1_operation 41 = .ok (.iload_n 2, 1) := dk_28 (dk_at dksX1_operation_1 18 rfl rfl)
theorem dX1_operation_42 : decode cX1_operation 42 = .ok (.invokeinterface 88 2, 5) := by decide +kernel
theorem dX1_operation_47 : decode cX1_operation 47 = .ok (.checkcast 273, 3) := dk_192 1 17 (dk_at dksX1_operation_2 0 rfl rfl)
theorem dX1_operation_50 : decode cX1_operation 50 = .ok (.iload_n 3, 1) := dk_29 (dk_at dksX1_operation_2 3 rfl rfl)
theorem dX1_operation_51 : decode cX1_operation 51 = .ok (.invokevirtual 275, 3) := dk_182 1 19 (dk_at dksX1_operation_2 4 rfl rfl)
theorem dX1_operation_54 : decode cX1_operation 54 = .ok (.goto 4, 3) := dk_167 0 4 (dk_at dksX1_operation_2 7 rfl rfl)
theorem dX1_operation_57 : decode cX1_operation 57 = .ok (.iconst (-1), 1) := dk_2 (dk_at dksX1_operation_2 10 rfl rfl)
theorem dX1_operation_58 : decode cX1_operation 58 = .ok (.ireturn, 1) := dk_172 (dk_at dksX1_operation_2 11 rfl rfl)
abbrev cX1_areAlike : ByteArray := prog_1_method_43_code
def yX1_areAlike : MethodName := ⟨RX1, "areAlike", "(II)Z"⟩
def dkwX1_areAlike_4 : List UInt8 := [132, 6, 1, 167, 255, 229, 21, 5, 172]
abbrev dktX1_areAlike_4 : List UInt8 := dkwX1_areAlike_4 ++ []
def dkwX1_areAlike_3 : List UInt8 := [153, 0, 28, 21, 6, 45, 180, 0, 208, 162, 0, 19, 45, 25, 4, 21, 6, 184, 1, 31, 54, 5]
abbrev dktX1_areAlike_3 : List UInt8 := dkwX1_areAlike_3 ++ dktX1_areAlike_4
def dkwX1_areAlike_2 : List UInt8 := [25, 4, 180, 1, 28, 184, 1, 24, 153, 0, 7, 4, 167, 0, 4, 3, 54, 5, 3, 54, 6, 21, 5]
abbrev dktX1_areAlike_2 : List UInt8 := dkwX1_areAlike_2 ++ dktX1_areAlike_3
def dkwX1_areAlike_1 : List UInt8 := [183, 0, 214, 58, 4, 45, 180, 1, 21, 25, 4, 180, 1, 21, 184, 1, 24, 153, 0, 22, 45, 180, 1, 28]
abbrev dktX1_areAlike_1 : List UInt8 := dkwX1_areAlike_1 ++ dktX1_areAlike_2
def dkwX1_areAlike_0 : List UInt8 := [187, 0, 143, 89, 42, 27, 182, 0, 57, 183, 0, 214, 78, 187, 0, 143, 89, 42, 28, 182, 0, 57]
abbrev dktX1_areAlike_0 : List UInt8 := dkwX1_areAlike_0 ++ dktX1_areAlike_1
theorem dksX1_areAlike_0 : cX1_areAlike.data.toList.drop 0 = dktX1_areAlike_0 := by decide +kernel
theorem dksX1_areAlike_1 : cX1_areAlike.data.toList.drop 22 = dktX1_areAlike_1 := dk_seg dksX1_areAlike_0 22 rfl rfl
theorem dksX1_areAlike_2 : cX1_areAlike.data.toList.drop 46 = dktX1_areAlike_2 := dk_seg dksX1_areAlike_1 24 rfl rfl
theorem dksX1_areAlike_3 : cX1_areAlike.data.toList.drop 69 = dktX1_areAlike_3 := dk_seg dksX1_areAlike_2 23 rfl rfl
theorem dksX1_areAlike_4 : cX1_areAlike.data.toList.drop 91 = dktX1_areAlike_4 := dk_seg dksX1_areAlike_3 22 rfl rfl
theorem dX1_areAlike_0 : decode cX1_areAlike 0 = .ok (.new 143, 3) := dk_187 0 143 (dk_at dksX1_areAlike_0 0 rfl rfl)
theorem dX1_areAlike_3 : decode cX1_areAlike 3 = .ok (.dup, 1) := dk_89 (dk_at dksX1_areAlike_0 3 rfl rfl)
theorem dX1_areAlike_4 : decode cX1_areAlike 4 = .ok (.aload_n 0, 1) := dk_42 (dk_at dksX1_areAlike_0 4 rfl rfl)
theorem dX1_areAlike_5 : decode cX1_areAlike 5 = .ok (.iload_n 1, 1) := dk_27 (dk_at dksX1_areAlike_0 5 rfl rfl)
theorem dX1_areAlike_6 : decode cX1_areAlike 6 = .ok (.invokevirtual 57, 3) := dk_182 0 57 (dk_at dksX1_areAlike_0 6 rfl rfl)
theorem dX1_areAlike_9 : decode cX1_areAlike 9 = .ok (.invokespecial 214, 3) := dk_183 0 214 (dk_at dksX1_areAlike_0 9 rfl rfl)
theorem dX1_areAlike_12 : decode cX1_areAlike 12 = .ok (.astore_n 3, 1) := dk_78 (dk_at dksX1_areAlike_0 12 rfl rfl)
theorem dX1_areAlike_13 : decode cX1_areAlike 13 = .ok (.new 143, 3) := dk_187 0 143 (dk_at dksX1_areAlike_0 13 rfl rfl)
theorem dX1_areAlike_16 : decode cX1_areAlike 16 = .ok (.dup, 1) := dk_89 (dk_at dksX1_areAlike_0 16 rfl rfl)
theorem dX1_areAlike_17 : decode cX1_areAlike 17 = .ok (.aload_n 0, 1) := dk_42 (dk_at dksX1_areAlike_0 17 rfl rfl)
theorem dX1_areAlike_18 : decode cX1_areAlike 18 = .ok (.iload_n 2, 1) := dk_28 (dk_at dksX1_areAlike_0 18 rfl rfl)
theorem dX1_areAlike_19 : decode cX1_areAlike 19 = .ok (.invokevirtual 57, 3) := dk_182 0 57 (dk_at dksX1_areAlike_0 19 rfl rfl)
theorem dX1_areAlike_22 : decode cX1_areAlike 22 = .ok (.invokespecial 214, 3) := dk_183 0 214 (dk_at dksX1_areAlike_1 0 rfl rfl)
theorem dX1_areAlike_25 : decode cX1_areAlike 25 = .ok (.astore 4, 2) := dk_58 4 (dk_at dksX1_areAlike_1 3 rfl rfl)
theorem dX1_areAlike_27 : decode cX1_areAlike 27 = .ok (.aload_n 3, 1) := dk_45 (dk_at dksX1_areAlike_1 5 rfl rfl)
theorem dX1_areAlike_28 : decode cX1_areAlike 28 = .ok (.getfield 277, 3) := dk_180 1 21 (dk_at dksX1_areAlike_1 6 rfl rfl)
theorem dX1_areAlike_31 : decode cX1_areAlike 31 = .ok (.aload 4, 2) := dk_25 4 (dk_at dksX1_areAlike_1 9 rfl rfl)
theorem dX1_areAlike_33 : decode cX1_areAlike 33 = .ok (.getfield 277, 3) := dk_180 1 21 (dk_at dksX1_areAlike_1 11 rfl rfl)
theorem dX1_areAlike_36 : decode cX1_areAlike 36 = .ok (.invokestatic 280, 3) := dk_184 1 24 (dk_at dksX1_areAlike_1 14 rfl rfl)
theorem dX1_areAlike_39 : decode cX1_areAlike 39 = .ok (.ifCond .eq 22, 3) := dk_153 0 22 (dk_at dksX1_areAlike_1 17 rfl rfl)
theorem dX1_areAlike_42 : decode cX1_areAlike 42 = .ok (.aload_n 3, 1) := dk_45 (dk_at dksX1_areAlike_1 20 rfl rfl)
theorem dX1_areAlike_43 : decode cX1_areAlike 43 = .ok (.getfield 284, 3) := dk_180 1 28 (dk_at dksX1_areAlike_1 21 rfl rfl)
theorem dX1_areAlike_46 : decode cX1_areAlike 46 = .ok (.aload 4, 2) := dk_25 4 (dk_at dksX1_areAlike_2 0 rfl rfl)
theorem dX1_areAlike_48 : decode cX1_areAlike 48 = .ok (.getfield 284, 3) := dk_180 1 28 (dk_at dksX1_areAlike_2 2 rfl rfl)
theorem dX1_areAlike_51 : decode cX1_areAlike 51 = .ok (.invokestatic 280, 3) := dk_184 1 24 (dk_at dksX1_areAlike_2 5 rfl rfl)
theorem dX1_areAlike_54 : decode cX1_areAlike 54 = .ok (.ifCond .eq 7, 3) := dk_153 0 7 (dk_at dksX1_areAlike_2 8 rfl rfl)
theorem dX1_areAlike_57 : decode cX1_areAlike 57 = .ok (.iconst 1, 1) := dk_4 (dk_at dksX1_areAlike_2 11 rfl rfl)
theorem dX1_areAlike_58 : decode cX1_areAlike 58 = .ok (.goto 4, 3) := dk_167 0 4 (dk_at dksX1_areAlike_2 12 rfl rfl)
theorem dX1_areAlike_61 : decode cX1_areAlike 61 = .ok (.iconst 0, 1) := dk_3 (dk_at dksX1_areAlike_2 15 rfl rfl)
theorem dX1_areAlike_62 : decode cX1_areAlike 62 = .ok (.istore 5, 2) := dk_54 5 (dk_at dksX1_areAlike_2 16 rfl rfl)
theorem dX1_areAlike_64 : decode cX1_areAlike 64 = .ok (.iconst 0, 1) := dk_3 (dk_at dksX1_areAlike_2 18 rfl rfl)
theorem dX1_areAlike_65 : decode cX1_areAlike 65 = .ok (.istore 6, 2) := dk_54 6 (dk_at dksX1_areAlike_2 19 rfl rfl)
theorem dX1_areAlike_67 : decode cX1_areAlike 67 = .ok (.iload 5, 2) := dk_21 5 (dk_at dksX1_areAlike_2 21 rfl rfl)
theorem dX1_areAlike_69 : decode cX1_areAlike 69 = .ok (.ifCond .eq 28, 3) := dk_153 0 28 (dk_at dksX1_areAlike_3 0 rfl rfl)
theorem dX1_areAlike_72 : decode cX1_areAlike 72 = .ok (.iload 6, 2) := dk_21 6 (dk_at dksX1_areAlike_3 3 rfl rfl)
theorem dX1_areAlike_74 : decode cX1_areAlike 74 = .ok (.aload_n 3, 1) := dk_45 (dk_at dksX1_areAlike_3 5 rfl rfl)
theorem dX1_areAlike_75 : decode cX1_areAlike 75 = .ok (.getfield 208, 3) := dk_180 0 208 (dk_at dksX1_areAlike_3 6 rfl rfl)
theorem dX1_areAlike_78 : decode cX1_areAlike 78 = .ok (.if_icmp .ge 19, 3) := dk_162 0 19 (dk_at dksX1_areAlike_3 9 rfl rfl)
theorem dX1_areAlike_81 : decode cX1_areAlike 81 = .ok (.aload_n 3, 1) := dk_45 (dk_at dksX1_areAlike_3 12 rfl rfl)
theorem dX1_areAlike_82 : decode cX1_areAlike 82 = .ok (.aload 4, 2) := dk_25 4 (dk_at dksX1_areAlike_3 13 rfl rfl)
theorem dX1_areAlike_84 : decode cX1_areAlike 84 = .ok (.iload 6, 2) := dk_21 6 (dk_at dksX1_areAlike_3 15 rfl rfl)
theorem dX1_areAlike_86 : decode cX1_areAlike 86 = .ok (.invokestatic 287, 3) := dk_184 1 31 (dk_at dksX1_areAlike_3 17 rfl rfl)
theorem dX1_areAlike_89 : decode cX1_areAlike 89 = .ok (.istore 5, 2) := dk_54 5 (dk_at dksX1_areAlike_3 20 rfl rfl)
theorem dX1_areAlike_91 : decode cX1_areAlike 91 = .ok (.iinc 6 1, 3) := dk_132 6 1 (dk_at dksX1_areAlike_4 0 rfl rfl)
theorem dX1_areAlike_94 : decode cX1_areAlike 94 = .ok (.goto (-27), 3) := dk_167 255 229 (dk_at dksX1_areAlike_4 3 rfl rfl)
theorem dX1_areAlike_97 : decode cX1_areAlike 97 = .ok (.iload 5, 2) := dk_21 5 (dk_at dksX1_areAlike_4 6 rfl rfl)
theorem dX1_areAlike_99 : decode cX1_areAlike 99 = .ok (.ireturn, 1) := dk_172 (dk_at dksX1_areAlike_4 8 rfl rfl)
abbrev cX1_areAlike_2 : ByteArray := prog_1_method_41_code
def yX1_areAlike_2 : MethodName := ⟨RX1, "areAlike", "(Ljava/util/List;Ljava/util/List;)Z"⟩
def dkwX1_areAlike_2_3 : List UInt8 := [61, 132, 3, 1, 167, 255, 204, 28, 172]
abbrev dktX1_areAlike_2_3 : List UInt8 := dkwX1_areAlike_2_3 ++ []
def dkwX1_areAlike_2_2 : List UInt8 := [180, 0, 138, 43, 29, 185, 0, 88, 2, 0, 192, 0, 92, 180, 0, 138, 160, 0, 7, 4, 167, 0, 4, 3]
abbrev dktX1_areAlike_2_2 : List UInt8 := dkwX1_areAlike_2_2 ++ dktX1_areAlike_2_3
def dkwX1_areAlike_2_1 : List UInt8 := [153, 0, 54, 29, 42, 185, 0, 65, 1, 0, 162, 0, 44, 42, 29, 185, 0, 88, 2, 0, 192, 0, 92]
abbrev dktX1_areAlike_2_1 : List UInt8 := dkwX1_areAlike_2_1 ++ dktX1_areAlike_2_2
def dkwX1_areAlike_2_0 : List UInt8 := [42, 185, 0, 65, 1, 0, 43, 185, 0, 65, 1, 0, 160, 0, 7, 4, 167, 0, 4, 3, 61, 3, 62, 28]
abbrev dktX1_areAlike_2_0 : List UInt8 := dkwX1_areAlike_2_0 ++ dktX1_areAlike_2_1
theorem dksX1_areAlike_2_0 : cX1_areAlike_2.data.toList.drop 0 = dktX1_areAlike_2_0 := by decide +kernel
theorem dksX1_areAlike_2_1 : cX1_areAlike_2.data.toList.drop 24 = dktX1_areAlike_2_1 := dk_seg dksX1_areAlike_2_0 24 rfl rfl
theorem dksX1_areAlike_2_2 : cX1_areAlike_2.data.toList.drop 47 = dktX1_areAlike_2_2 := dk_seg dksX1_areAlike_2_1 23 rfl rfl
theorem dksX1_areAlike_2_3 : cX1_areAlike_2.data.toList.drop 71 = dktX1_areAlike_2_3 := dk_seg dksX1_areAlike_2_2 24 rfl rfl
theorem dX1_areAlike_2_0 : decode cX1_areAlike_2 0 = .ok (.aload_n 0, 1) := dk_42 (dk_at dksX1_areAlike_2_0 0 rfl rfl)
theorem dX1_areAlike_2_1 : decode cX1_areAlike_2 1 = .ok (.invokeinterface 65 1, 5) := by decide +kernel
theorem dX1_areAlike_2_6 : decode cX1_areAlike_2 6 = .ok (.aload_n 1, 1) := dk_43 (dk_at dksX1_areAlike_2_0 6 rfl rfl)
theorem dX1_areAlike_2_7 : decode cX1_areAlike_2 7 = .ok (.invokeinterface 65 1, 5) := by decide +kernel
theorem dX1_areAlike_2_12 : decode cX1_areAlike_2 12 = .ok (.if_icmp .ne 7, 3) := dk_160 0 7 (dk_at dksX1_areAlike_2_0 12 rfl rfl)
theorem dX1_areAlike_2_15 : decode cX1_areAlike_2 15 = .ok (.iconst 1, 1) := dk_4 (dk_at dksX1_areAlike_2_0 15 rfl rfl)
theorem dX1_areAlike_2_16 : decode cX1_areAlike_2 16 = .ok (.goto 4, 3) := dk_167 0 4 (dk_at dksX1_areAlike_2_0 16 rfl rfl)
theorem dX1_areAlike_2_19 : decode cX1_areAlike_2 19 = .ok (.iconst 0, 1) := dk_3 (dk_at dksX1_areAlike_2_0 19 rfl rfl)
theorem dX1_areAlike_2_20 : decode cX1_areAlike_2 20 = .ok (.istore_n 2, 1) := dk_61 (dk_at dksX1_areAlike_2_0 20 rfl rfl)
theorem dX1_areAlike_2_21 : decode cX1_areAlike_2 21 = .ok (.iconst 0, 1) := dk_3 (dk_at dksX1_areAlike_2_0 21 rfl rfl)
theorem dX1_areAlike_2_22 : decode cX1_areAlike_2 22 = .ok (.istore_n 3, 1) := dk_62 (dk_at dksX1_areAlike_2_0 22 rfl rfl)
theorem dX1_areAlike_2_23 : decode cX1_areAlike_2 23 = .ok (.iload_n 2, 1) := dk_28 (dk_at dksX1_areAlike_2_0 23 rfl rfl)
theorem dX1_areAlike_2_24 : decode cX1_areAlike_2 24 = .ok (.ifCond .eq 54, 3) := dk_153 0 54 (dk_at dksX1_areAlike_2_1 0 rfl rfl)
theorem dX1_areAlike_2_27 : decode cX1_areAlike_2 27 = .ok (.iload_n 3, 1) := dk_29 (dk_at dksX1_areAlike_2_1 3 rfl rfl)
theorem dX1_areAlike_2_28 : decode cX1_areAlike_2 28 = .ok (.aload_n 0, 1) := dk_42 (dk_at dksX1_areAlike_2_1 4 rfl rfl)
theorem dX1_areAlike_2_29 : decode cX1_areAlike_2 29 = .ok (.invokeinterface 65 1, 5) := by decide +kernel
theorem dX1_areAlike_2_34 : decode cX1_areAlike_2 34 = .ok (.if_icmp .ge 44, 3) := dk_162 0 44 (dk_at dksX1_areAlike_2_1 10 rfl rfl)
theorem dX1_areAlike_2_37 : decode cX1_areAlike_2 37 = .ok (.aload_n 0, 1) := dk_42 (dk_at dksX1_areAlike_2_1 13 rfl rfl)
theorem dX1_areAlike_2_38 : decode cX1_areAlike_2 38 = .ok (.iload_n 3, 1) := dk_29 (dk_at dksX1_areAlike_2_1 14 rfl rfl)
theorem dX1_areAlike_2_39 : decode cX1_areAlike_2 39 = .ok (.invokeinterface 88 2, 5) := by decide +kernel
theorem dX1_areAlike_2_44 : decode cX1_areAlike_2 44 = .ok (.checkcast 92, 3) := dk_192 0 92 (dk_at dksX1_areAlike_2_1 20 rfl rfl)
theorem dX1_areAlike_2_47 : decode cX1_areAlike_2 47 = .ok (.getfield 138, 3) := dk_180 0 138 (dk_at dksX1_areAlike_2_2 0 rfl rfl)
theorem dX1_areAlike_2_50 : decode cX1_areAlike_2 50 = .ok (.aload_n 1, 1) := dk_43 (dk_at dksX1_areAlike_2_2 3 rfl rfl)
theorem dX1_areAlike_2_51 : decode cX1_areAlike_2 51 = .ok (.iload_n 3, 1) := dk_29 (dk_at dksX1_areAlike_2_2 4 rfl rfl)
theorem dX1_areAlike_2_52 : decode cX1_areAlike_2 52 = .ok (.invokeinterface 88 2, 5) := by decide +kernel
theorem dX1_areAlike_2_57 : decode cX1_areAlike_2 57 = .ok (.checkcast 92, 3) := dk_192 0 92 (dk_at dksX1_areAlike_2_2 10 rfl rfl)
theorem dX1_areAlike_2_60 : decode cX1_areAlike_2 60 = .ok (.getfield 138, 3) := dk_180 0 138 (dk_at dksX1_areAlike_2_2 13 rfl rfl)
theorem dX1_areAlike_2_63 : decode cX1_areAlike_2 63 = .ok (.if_icmp .ne 7, 3) := dk_160 0 7 (dk_at dksX1_areAlike_2_2 16 rfl rfl)
theorem dX1_areAlike_2_66 : decode cX1_areAlike_2 66 = .ok (.iconst 1, 1) := dk_4 (dk_at dksX1_areAlike_2_2 19 rfl rfl)
theorem dX1_areAlike_2_67 : decode cX1_areAlike_2 67 = .ok (.goto 4, 3) := dk_167 0 4 (dk_at dksX1_areAlike_2_2 20 rfl rfl)
theorem dX1_areAlike_2_70 : decode cX1_areAlike_2 70 = .ok (.iconst 0, 1) := dk_3 (dk_at dksX1_areAlike_2_2 23 rfl rfl)
theorem dX1_areAlike_2_71 : decode cX1_areAlike_2 71 = .ok (.istore_n 2, 1) := dk_61 (dk_at dksX1_areAlike_2_3 0 rfl rfl)
theorem dX1_areAlike_2_72 : decode cX1_areAlike_2 72 = .ok (.iinc 3 1, 3) := dk_132 3 1 (dk_at dksX1_areAlike_2_3 1 rfl rfl)
theorem dX1_areAlike_2_75 : decode cX1_areAlike_2 75 = .ok (.goto (-52), 3) := dk_167 255 204 (dk_at dksX1_areAlike_2_3 4 rfl rfl)
theorem dX1_areAlike_2_78 : decode cX1_areAlike_2 78 = .ok (.iload_n 2, 1) := dk_28 (dk_at dksX1_areAlike_2_3 7 rfl rfl)
theorem dX1_areAlike_2_79 : decode cX1_areAlike_2 79 = .ok (.ireturn, 1) := dk_172 (dk_at dksX1_areAlike_2_3 8 rfl rfl)
abbrev cX1_showSame : ByteArray := prog_1_method_42_code
def yX1_showSame : MethodName := ⟨RX1, "showSame", "(LSharedSheet$View;LSharedSheet$View;I)Z"⟩
def dkwX1_showSame_3 : List UInt8 := [3, 172]
abbrev dktX1_showSame_3 : List UInt8 := dkwX1_showSame_3 ++ []
def dkwX1_showSame_2 : List UInt8 := [182, 0, 224, 148, 154, 0, 20, 42, 28, 182, 0, 228, 43, 28, 182, 0, 228, 160, 0, 7, 4, 167, 0, 4]
abbrev dktX1_showSame_2 : List UInt8 := dkwX1_showSame_2 ++ dktX1_showSame_3
def dkwX1_showSame_1 : List UInt8 := [160, 0, 46, 45, 180, 0, 199, 25, 4, 180, 0, 199, 160, 0, 34, 42, 28, 182, 0, 224, 43, 28]
abbrev dktX1_showSame_1 : List UInt8 := dkwX1_showSame_1 ++ dktX1_showSame_2
def dkwX1_showSame_0 : List UInt8 := [42, 28, 182, 0, 238, 78, 43, 28, 182, 0, 238, 58, 4, 45, 180, 0, 186, 25, 4, 180, 0, 186]
abbrev dktX1_showSame_0 : List UInt8 := dkwX1_showSame_0 ++ dktX1_showSame_1
theorem dksX1_showSame_0 : cX1_showSame.data.toList.drop 0 = dktX1_showSame_0 := by decide +kernel
theorem dksX1_showSame_1 : cX1_showSame.data.toList.drop 22 = dktX1_showSame_1 := dk_seg dksX1_showSame_0 22 rfl rfl
theorem dksX1_showSame_2 : cX1_showSame.data.toList.drop 44 = dktX1_showSame_2 := dk_seg dksX1_showSame_1 22 rfl rfl
theorem dksX1_showSame_3 : cX1_showSame.data.toList.drop 68 = dktX1_showSame_3 := dk_seg dksX1_showSame_2 24 rfl rfl
theorem dX1_showSame_0 : decode cX1_showSame 0 = .ok (.aload_n 0, 1) := dk_42 (dk_at dksX1_showSame_0 0 rfl rfl)
theorem dX1_showSame_1 : decode cX1_showSame 1 = .ok (.iload_n 2, 1) := dk_28 (dk_at dksX1_showSame_0 1 rfl rfl)
theorem dX1_showSame_2 : decode cX1_showSame 2 = .ok (.invokevirtual 238, 3) := dk_182 0 238 (dk_at dksX1_showSame_0 2 rfl rfl)
theorem dX1_showSame_5 : decode cX1_showSame 5 = .ok (.astore_n 3, 1) := dk_78 (dk_at dksX1_showSame_0 5 rfl rfl)
theorem dX1_showSame_6 : decode cX1_showSame 6 = .ok (.aload_n 1, 1) := dk_43 (dk_at dksX1_showSame_0 6 rfl rfl)
theorem dX1_showSame_7 : decode cX1_showSame 7 = .ok (.iload_n 2, 1) := dk_28 (dk_at dksX1_showSame_0 7 rfl rfl)
theorem dX1_showSame_8 : decode cX1_showSame 8 = .ok (.invokevirtual 238, 3) := dk_182 0 238 (dk_at dksX1_showSame_0 8 rfl rfl)
theorem dX1_showSame_11 : decode cX1_showSame 11 = .ok (.astore 4, 2) := dk_58 4 (dk_at dksX1_showSame_0 11 rfl rfl)
theorem dX1_showSame_13 : decode cX1_showSame 13 = .ok (.aload_n 3, 1) := dk_45 (dk_at dksX1_showSame_0 13 rfl rfl)
theorem dX1_showSame_14 : decode cX1_showSame 14 = .ok (.getfield 186, 3) := dk_180 0 186 (dk_at dksX1_showSame_0 14 rfl rfl)
theorem dX1_showSame_17 : decode cX1_showSame 17 = .ok (.aload 4, 2) := dk_25 4 (dk_at dksX1_showSame_0 17 rfl rfl)
theorem dX1_showSame_19 : decode cX1_showSame 19 = .ok (.getfield 186, 3) := dk_180 0 186 (dk_at dksX1_showSame_0 19 rfl rfl)
theorem dX1_showSame_22 : decode cX1_showSame 22 = .ok (.if_icmp .ne 46, 3) := dk_160 0 46 (dk_at dksX1_showSame_1 0 rfl rfl)
theorem dX1_showSame_25 : decode cX1_showSame 25 = .ok (.aload_n 3, 1) := dk_45 (dk_at dksX1_showSame_1 3 rfl rfl)
theorem dX1_showSame_26 : decode cX1_showSame 26 = .ok (.getfield 199, 3) := dk_180 0 199 (dk_at dksX1_showSame_1 4 rfl rfl)
theorem dX1_showSame_29 : decode cX1_showSame 29 = .ok (.aload 4, 2) := dk_25 4 (dk_at dksX1_showSame_1 7 rfl rfl)
theorem dX1_showSame_31 : decode cX1_showSame 31 = .ok (.getfield 199, 3) := dk_180 0 199 (dk_at dksX1_showSame_1 9 rfl rfl)
theorem dX1_showSame_34 : decode cX1_showSame 34 = .ok (.if_icmp .ne 34, 3) := dk_160 0 34 (dk_at dksX1_showSame_1 12 rfl rfl)
theorem dX1_showSame_37 : decode cX1_showSame 37 = .ok (.aload_n 0, 1) := dk_42 (dk_at dksX1_showSame_1 15 rfl rfl)
theorem dX1_showSame_38 : decode cX1_showSame 38 = .ok (.iload_n 2, 1) := dk_28 (dk_at dksX1_showSame_1 16 rfl rfl)
theorem dX1_showSame_39 : decode cX1_showSame 39 = .ok (.invokevirtual 224, 3) := dk_182 0 224 (dk_at dksX1_showSame_1 17 rfl rfl)
theorem dX1_showSame_42 : decode cX1_showSame 42 = .ok (.aload_n 1, 1) := dk_43 (dk_at dksX1_showSame_1 20 rfl rfl)
theorem dX1_showSame_43 : decode cX1_showSame 43 = .ok (.iload_n 2, 1) := dk_28 (dk_at dksX1_showSame_1 21 rfl rfl)
theorem dX1_showSame_44 : decode cX1_showSame 44 = .ok (.invokevirtual 224, 3) := dk_182 0 224 (dk_at dksX1_showSame_2 0 rfl rfl)
theorem dX1_showSame_47 : decode cX1_showSame 47 = .ok (.lcmp, 1) := dk_148 (dk_at dksX1_showSame_2 3 rfl rfl)
theorem dX1_showSame_48 : decode cX1_showSame 48 = .ok (.ifCond .ne 20, 3) := dk_154 0 20 (dk_at dksX1_showSame_2 4 rfl rfl)
theorem dX1_showSame_51 : decode cX1_showSame 51 = .ok (.aload_n 0, 1) := dk_42 (dk_at dksX1_showSame_2 7 rfl rfl)
theorem dX1_showSame_52 : decode cX1_showSame 52 = .ok (.iload_n 2, 1) := dk_28 (dk_at dksX1_showSame_2 8 rfl rfl)
theorem dX1_showSame_53 : decode cX1_showSame 53 = .ok (.invokevirtual 228, 3) := dk_182 0 228 (dk_at dksX1_showSame_2 9 rfl rfl)
theorem dX1_showSame_56 : decode cX1_showSame 56 = .ok (.aload_n 1, 1) := dk_43 (dk_at dksX1_showSame_2 12 rfl rfl)
theorem dX1_showSame_57 : decode cX1_showSame 57 = .ok (.iload_n 2, 1) := dk_28 (dk_at dksX1_showSame_2 13 rfl rfl)
theorem dX1_showSame_58 : decode cX1_showSame 58 = .ok (.invokevirtual 228, 3) := dk_182 0 228 (dk_at dksX1_showSame_2 14 rfl rfl)
theorem dX1_showSame_61 : decode cX1_showSame 61 = .ok (.if_icmp .ne 7, 3) := dk_160 0 7 (dk_at dksX1_showSame_2 17 rfl rfl)
theorem dX1_showSame_64 : decode cX1_showSame 64 = .ok (.iconst 1, 1) := dk_4 (dk_at dksX1_showSame_2 20 rfl rfl)
theorem dX1_showSame_65 : decode cX1_showSame 65 = .ok (.goto 4, 3) := dk_167 0 4 (dk_at dksX1_showSame_2 21 rfl rfl)
theorem dX1_showSame_68 : decode cX1_showSame 68 = .ok (.iconst 0, 1) := dk_3 (dk_at dksX1_showSame_3 0 rfl rfl)
theorem dX1_showSame_69 : decode cX1_showSame 69 = .ok (.ireturn, 1) := dk_172 (dk_at dksX1_showSame_3 1 rfl rfl)
abbrev cX1_different : ByteArray := prog_1_method_44_code
def yX1_different : MethodName := ⟨RX1, "different", "(II)I"⟩
def dkwX1_different_3 : List UInt8 := [182, 1, 38, 154, 0, 7, 3, 167, 0, 4, 4, 96, 54, 5, 132, 6, 1, 167, 255, 188, 21, 5, 172]
abbrev dktX1_different_3 : List UInt8 := dkwX1_different_3 ++ []
def dkwX1_different_2 : List UInt8 := [192, 0, 193, 25, 4, 180, 1, 35, 21, 6, 185, 0, 88, 2, 0, 192, 0, 99, 180, 0, 189, 192, 0, 193]
abbrev dktX1_different_2 : List UInt8 := dkwX1_different_2 ++ dktX1_different_3
def dkwX1_different_1 : List UInt8 := [162, 0, 66, 21, 5, 45, 180, 1, 35, 21, 6, 185, 0, 88, 2, 0, 192, 0, 99, 180, 0, 189]
abbrev dktX1_different_1 : List UInt8 := dkwX1_different_1 ++ dktX1_different_2
def dkwX1_different_0 : List UInt8 := [42, 27, 182, 0, 57, 78, 42, 28, 182, 0, 57, 58, 4, 3, 54, 5, 3, 54, 6, 21, 6, 17, 0, 144]
abbrev dktX1_different_0 : List UInt8 := dkwX1_different_0 ++ dktX1_different_1
theorem dksX1_different_0 : cX1_different.data.toList.drop 0 = dktX1_different_0 := by decide +kernel
theorem dksX1_different_1 : cX1_different.data.toList.drop 24 = dktX1_different_1 := dk_seg dksX1_different_0 24 rfl rfl
theorem dksX1_different_2 : cX1_different.data.toList.drop 46 = dktX1_different_2 := dk_seg dksX1_different_1 22 rfl rfl
theorem dksX1_different_3 : cX1_different.data.toList.drop 70 = dktX1_different_3 := dk_seg dksX1_different_2 24 rfl rfl
theorem dX1_different_0 : decode cX1_different 0 = .ok (.aload_n 0, 1) := dk_42 (dk_at dksX1_different_0 0 rfl rfl)
theorem dX1_different_1 : decode cX1_different 1 = .ok (.iload_n 1, 1) := dk_27 (dk_at dksX1_different_0 1 rfl rfl)
theorem dX1_different_2 : decode cX1_different 2 = .ok (.invokevirtual 57, 3) := dk_182 0 57 (dk_at dksX1_different_0 2 rfl rfl)
theorem dX1_different_5 : decode cX1_different 5 = .ok (.astore_n 3, 1) := dk_78 (dk_at dksX1_different_0 5 rfl rfl)
theorem dX1_different_6 : decode cX1_different 6 = .ok (.aload_n 0, 1) := dk_42 (dk_at dksX1_different_0 6 rfl rfl)
theorem dX1_different_7 : decode cX1_different 7 = .ok (.iload_n 2, 1) := dk_28 (dk_at dksX1_different_0 7 rfl rfl)
theorem dX1_different_8 : decode cX1_different 8 = .ok (.invokevirtual 57, 3) := dk_182 0 57 (dk_at dksX1_different_0 8 rfl rfl)
theorem dX1_different_11 : decode cX1_different 11 = .ok (.astore 4, 2) := dk_58 4 (dk_at dksX1_different_0 11 rfl rfl)
theorem dX1_different_13 : decode cX1_different 13 = .ok (.iconst 0, 1) := dk_3 (dk_at dksX1_different_0 13 rfl rfl)
theorem dX1_different_14 : decode cX1_different 14 = .ok (.istore 5, 2) := dk_54 5 (dk_at dksX1_different_0 14 rfl rfl)
theorem dX1_different_16 : decode cX1_different 16 = .ok (.iconst 0, 1) := dk_3 (dk_at dksX1_different_0 16 rfl rfl)
theorem dX1_different_17 : decode cX1_different 17 = .ok (.istore 6, 2) := dk_54 6 (dk_at dksX1_different_0 17 rfl rfl)
theorem dX1_different_19 : decode cX1_different 19 = .ok (.iload 6, 2) := dk_21 6 (dk_at dksX1_different_0 19 rfl rfl)
theorem dX1_different_21 : decode cX1_different 21 = .ok (.sipush 144, 3) := dk_17 0 144 (dk_at dksX1_different_0 21 rfl rfl)
theorem dX1_different_24 : decode cX1_different 24 = .ok (.if_icmp .ge 66, 3) := dk_162 0 66 (dk_at dksX1_different_1 0 rfl rfl)
theorem dX1_different_27 : decode cX1_different 27 = .ok (.iload 5, 2) := dk_21 5 (dk_at dksX1_different_1 3 rfl rfl)
theorem dX1_different_29 : decode cX1_different 29 = .ok (.aload_n 3, 1) := dk_45 (dk_at dksX1_different_1 5 rfl rfl)
theorem dX1_different_30 : decode cX1_different 30 = .ok (.getfield 291, 3) := dk_180 1 35 (dk_at dksX1_different_1 6 rfl rfl)
theorem dX1_different_33 : decode cX1_different 33 = .ok (.iload 6, 2) := dk_21 6 (dk_at dksX1_different_1 9 rfl rfl)
theorem dX1_different_35 : decode cX1_different 35 = .ok (.invokeinterface 88 2, 5) := by decide +kernel
theorem dX1_different_40 : decode cX1_different 40 = .ok (.checkcast 99, 3) := dk_192 0 99 (dk_at dksX1_different_1 16 rfl rfl)
theorem dX1_different_43 : decode cX1_different 43 = .ok (.getfield 189, 3) := dk_180 0 189 (dk_at dksX1_different_1 19 rfl rfl)
theorem dX1_different_46 : decode cX1_different 46 = .ok (.checkcast 193, 3) := dk_192 0 193 (dk_at dksX1_different_2 0 rfl rfl)
theorem dX1_different_49 : decode cX1_different 49 = .ok (.aload 4, 2) := dk_25 4 (dk_at dksX1_different_2 3 rfl rfl)
theorem dX1_different_51 : decode cX1_different 51 = .ok (.getfield 291, 3) := dk_180 1 35 (dk_at dksX1_different_2 5 rfl rfl)
theorem dX1_different_54 : decode cX1_different 54 = .ok (.iload 6, 2) := dk_21 6 (dk_at dksX1_different_2 8 rfl rfl)
theorem dX1_different_56 : decode cX1_different 56 = .ok (.invokeinterface 88 2, 5) := by decide +kernel
theorem dX1_different_61 : decode cX1_different 61 = .ok (.checkcast 99, 3) := dk_192 0 99 (dk_at dksX1_different_2 15 rfl rfl)
theorem dX1_different_64 : decode cX1_different 64 = .ok (.getfield 189, 3) := dk_180 0 189 (dk_at dksX1_different_2 18 rfl rfl)
theorem dX1_different_67 : decode cX1_different 67 = .ok (.checkcast 193, 3) := dk_192 0 193 (dk_at dksX1_different_2 21 rfl rfl)
theorem dX1_different_70 : decode cX1_different 70 = .ok (.invokevirtual 294, 3) := dk_182 1 38 (dk_at dksX1_different_3 0 rfl rfl)
theorem dX1_different_73 : decode cX1_different 73 = .ok (.ifCond .ne 7, 3) := dk_154 0 7 (dk_at dksX1_different_3 3 rfl rfl)
theorem dX1_different_76 : decode cX1_different 76 = .ok (.iconst 0, 1) := dk_3 (dk_at dksX1_different_3 6 rfl rfl)
theorem dX1_different_77 : decode cX1_different 77 = .ok (.goto 4, 3) := dk_167 0 4 (dk_at dksX1_different_3 7 rfl rfl)
theorem dX1_different_80 : decode cX1_different 80 = .ok (.iconst 1, 1) := dk_4 (dk_at dksX1_different_3 10 rfl rfl)
theorem dX1_different_81 : decode cX1_different 81 = .ok (.iadd, 1) := dk_96 (dk_at dksX1_different_3 11 rfl rfl)
theorem dX1_different_82 : decode cX1_different 82 = .ok (.istore 5, 2) := dk_54 5 (dk_at dksX1_different_3 12 rfl rfl)
theorem dX1_different_84 : decode cX1_different 84 = .ok (.iinc 6 1, 3) := dk_132 6 1 (dk_at dksX1_different_3 14 rfl rfl)
theorem dX1_different_87 : decode cX1_different 87 = .ok (.goto (-68), 3) := dk_167 255 188 (dk_at dksX1_different_3 17 rfl rfl)
theorem dX1_different_90 : decode cX1_different 90 = .ok (.iload 5, 2) := dk_21 5 (dk_at dksX1_different_3 20 rfl rfl)
theorem dX1_different_92 : decode cX1_different 92 = .ok (.ireturn, 1) := dk_172 (dk_at dksX1_different_3 22 rfl rfl)
abbrev cX1_type : ByteArray := prog_1_method_45_code
def yX1_type : MethodName := ⟨RX1, "type", "(I)I"⟩
def dkwX1_type_2 : List UInt8 := [172]
abbrev dktX1_type_2 : List UInt8 := dkwX1_type_2 ++ []
def dkwX1_type_1 : List UInt8 := [167, 0, 4, 3, 184, 0, 125, 42, 180, 0, 33, 27, 146, 182, 1, 42, 87, 42, 180, 0, 33, 182, 0, 248]
abbrev dktX1_type_1 : List UInt8 := dkwX1_type_1 ++ dktX1_type_2
def dkwX1_type_0 : List UInt8 := [27, 16, 32, 16, 126, 184, 0, 49, 184, 0, 147, 42, 180, 0, 33, 182, 0, 248, 16, 24, 162, 0, 7, 4]
abbrev dktX1_type_0 : List UInt8 := dkwX1_type_0 ++ dktX1_type_1
theorem dksX1_type_0 : cX1_type.data.toList.drop 0 = dktX1_type_0 := by decide +kernel
theorem dksX1_type_1 : cX1_type.data.toList.drop 24 = dktX1_type_1 := dk_seg dksX1_type_0 24 rfl rfl
theorem dksX1_type_2 : cX1_type.data.toList.drop 48 = dktX1_type_2 := dk_seg dksX1_type_1 24 rfl rfl
theorem dX1_type_0 : decode cX1_type 0 = .ok (.iload_n 1, 1) := dk_27 (dk_at dksX1_type_0 0 rfl rfl)
theorem dX1_type_1 : decode cX1_type 1 = .ok (.bipush 32, 2) := dk_16 32 (dk_at dksX1_type_0 1 rfl rfl)
theorem dX1_type_3 : decode cX1_type 3 = .ok (.bipush 126, 2) := dk_16 126 (dk_at dksX1_type_0 3 rfl rfl)
theorem dX1_type_5 : decode cX1_type 5 = .ok (.invokestatic 49, 3) := dk_184 0 49 (dk_at dksX1_type_0 5 rfl rfl)
theorem dX1_type_8 : decode cX1_type 8 = .ok (.invokestatic 147, 3) := dk_184 0 147 (dk_at dksX1_type_0 8 rfl rfl)
theorem dX1_type_11 : decode cX1_type 11 = .ok (.aload_n 0, 1) := dk_42 (dk_at dksX1_type_0 11 rfl rfl)
theorem dX1_type_12 : decode cX1_type 12 = .ok (.getfield 33, 3) := dk_180 0 33 (dk_at dksX1_type_0 12 rfl rfl)
theorem dX1_type_15 : decode cX1_type 15 = .ok (.invokevirtual 248, 3) := dk_182 0 248 (dk_at dksX1_type_0 15 rfl rfl)
theorem dX1_type_18 : decode cX1_type 18 = .ok (.bipush 24, 2) := dk_16 24 (dk_at dksX1_type_0 18 rfl rfl)
theorem dX1_type_20 : decode cX1_type 20 = .ok (.if_icmp .ge 7, 3) := dk_162 0 7 (dk_at dksX1_type_0 20 rfl rfl)
theorem dX1_type_23 : decode cX1_type 23 = .ok (.iconst 1, 1) := dk_4 (dk_at dksX1_type_0 23 rfl rfl)
theorem dX1_type_24 : decode cX1_type 24 = .ok (.goto 4, 3) := dk_167 0 4 (dk_at dksX1_type_1 0 rfl rfl)
theorem dX1_type_27 : decode cX1_type 27 = .ok (.iconst 0, 1) := dk_3 (dk_at dksX1_type_1 3 rfl rfl)
theorem dX1_type_28 : decode cX1_type 28 = .ok (.invokestatic 125, 3) := dk_184 0 125 (dk_at dksX1_type_1 4 rfl rfl)
theorem dX1_type_31 : decode cX1_type 31 = .ok (.aload_n 0, 1) := dk_42 (dk_at dksX1_type_1 7 rfl rfl)
theorem dX1_type_32 : decode cX1_type 32 = .ok (.getfield 33, 3) := dk_180 0 33 (dk_at dksX1_type_1 8 rfl rfl)
theorem dX1_type_35 : decode cX1_type 35 = .ok (.iload_n 1, 1) := dk_27 (dk_at dksX1_type_1 11 rfl rfl)
theorem dX1_type_36 : decode cX1_type 36 = .ok (.i2c, 1) := dk_146 (dk_at dksX1_type_1 12 rfl rfl)
theorem dX1_type_37 : decode cX1_type 37 = .ok (.invokevirtual 298, 3) := dk_182 1 42 (dk_at dksX1_type_1 13 rfl rfl)
theorem dX1_type_40 : decode cX1_type 40 = .ok (.pop, 1) := dk_87 (dk_at dksX1_type_1 16 rfl rfl)
theorem dX1_type_41 : decode cX1_type 41 = .ok (.aload_n 0, 1) := dk_42 (dk_at dksX1_type_1 17 rfl rfl)
theorem dX1_type_42 : decode cX1_type 42 = .ok (.getfield 33, 3) := dk_180 0 33 (dk_at dksX1_type_1 18 rfl rfl)
theorem dX1_type_45 : decode cX1_type 45 = .ok (.invokevirtual 248, 3) := dk_182 0 248 (dk_at dksX1_type_1 21 rfl rfl)
theorem dX1_type_48 : decode cX1_type 48 = .ok (.ireturn, 1) := dk_172 (dk_at dksX1_type_2 0 rfl rfl)
abbrev cX1_fault : ByteArray := prog_1_method_47_code
def yX1_fault : MethodName := ⟨RX1, "fault", "(I)I"⟩
def dkwX1_fault_1 : List UInt8 := [167, 0, 9, 78, 45, 180, 1, 46, 172, 2, 172]
abbrev dktX1_fault_1 : List UInt8 := dkwX1_fault_1 ++ []
def dkwX1_fault_0 : List UInt8 := [42, 27, 182, 0, 57, 77, 187, 0, 168, 89, 42, 180, 0, 33, 44, 183, 0, 170, 182, 0, 173, 87]
abbrev dktX1_fault_0 : List UInt8 := dkwX1_fault_0 ++ dktX1_fault_1
theorem dksX1_fault_0 : cX1_fault.data.toList.drop 0 = dktX1_fault_0 := by decide +kernel
theorem dksX1_fault_1 : cX1_fault.data.toList.drop 22 = dktX1_fault_1 := dk_seg dksX1_fault_0 22 rfl rfl
theorem dX1_fault_0 : decode cX1_fault 0 = .ok (.aload_n 0, 1) := dk_42 (dk_at dksX1_fault_0 0 rfl rfl)
theorem dX1_fault_1 : decode cX1_fault 1 = .ok (.iload_n 1, 1) := dk_27 (dk_at dksX1_fault_0 1 rfl rfl)
theorem dX1_fault_2 : decode cX1_fault 2 = .ok (.invokevirtual 57, 3) := dk_182 0 57 (dk_at dksX1_fault_0 2 rfl rfl)
theorem dX1_fault_5 : decode cX1_fault 5 = .ok (.astore_n 2, 1) := dk_77 (dk_at dksX1_fault_0 5 rfl rfl)
theorem dX1_fault_6 : decode cX1_fault 6 = .ok (.new 168, 3) := dk_187 0 168 (dk_at dksX1_fault_0 6 rfl rfl)
theorem dX1_fault_9 : decode cX1_fault 9 = .ok (.dup, 1) := dk_89 (dk_at dksX1_fault_0 9 rfl rfl)
theorem dX1_fault_10 : decode cX1_fault 10 = .ok (.aload_n 0, 1) := dk_42 (dk_at dksX1_fault_0 10 rfl rfl)
theorem dX1_fault_11 : decode cX1_fault 11 = .ok (.getfield 33, 3) := dk_180 0 33 (dk_at dksX1_fault_0 11 rfl rfl)
theorem dX1_fault_14 : decode cX1_fault 14 = .ok (.aload_n 2, 1) := dk_44 (dk_at dksX1_fault_0 14 rfl rfl)
theorem dX1_fault_15 : decode cX1_fault 15 = .ok (.invokespecial 170, 3) := dk_183 0 170 (dk_at dksX1_fault_0 15 rfl rfl)
theorem dX1_fault_18 : decode cX1_fault 18 = .ok (.invokevirtual 173, 3) := dk_182 0 173 (dk_at dksX1_fault_0 18 rfl rfl)
theorem dX1_fault_21 : decode cX1_fault 21 = .ok (.pop, 1) := dk_87 (dk_at dksX1_fault_0 21 rfl rfl)
theorem dX1_fault_22 : decode cX1_fault 22 = .ok (.goto 9, 3) := dk_167 0 9 (dk_at dksX1_fault_1 0 rfl rfl)
theorem dX1_fault_25 : decode cX1_fault 25 = .ok (.astore_n 3, 1) := dk_78 (dk_at dksX1_fault_1 3 rfl rfl)
theorem dX1_fault_26 : decode cX1_fault 26 = .ok (.aload_n 3, 1) := dk_45 (dk_at dksX1_fault_1 4 rfl rfl)
theorem dX1_fault_27 : decode cX1_fault 27 = .ok (.getfield 302, 3) := dk_180 1 46 (dk_at dksX1_fault_1 5 rfl rfl)
theorem dX1_fault_30 : decode cX1_fault 30 = .ok (.ireturn, 1) := dk_172 (dk_at dksX1_fault_1 8 rfl rfl)
theorem dX1_fault_31 : decode cX1_fault 31 = .ok (.iconst (-1), 1) := dk_2 (dk_at dksX1_fault_1 9 rfl rfl)
theorem dX1_fault_32 : decode cX1_fault 32 = .ok (.ireturn, 1) := dk_172 (dk_at dksX1_fault_1 10 rfl rfl)
abbrev cX1_undo : ByteArray := prog_1_method_49_code
def yX1_undo : MethodName := ⟨RX1, "undo", "()I"⟩
def dkwX1_undo_1 : List UInt8 := [182, 1, 56, 192, 1, 59, 181, 0, 19, 42, 180, 0, 26, 182, 0, 75, 172]
abbrev dktX1_undo_1 : List UInt8 := dkwX1_undo_1 ++ []
def dkwX1_undo_0 : List UInt8 := [42, 180, 0, 26, 182, 1, 52, 154, 0, 7, 4, 167, 0, 4, 3, 184, 0, 125, 42, 42, 180, 0, 26]
abbrev dktX1_undo_0 : List UInt8 := dkwX1_undo_0 ++ dktX1_undo_1
theorem dksX1_undo_0 : cX1_undo.data.toList.drop 0 = dktX1_undo_0 := by decide +kernel
theorem dksX1_undo_1 : cX1_undo.data.toList.drop 23 = dktX1_undo_1 := dk_seg dksX1_undo_0 23 rfl rfl
theorem dX1_undo_0 : decode cX1_undo 0 = .ok (.aload_n 0, 1) := dk_42 (dk_at dksX1_undo_0 0 rfl rfl)
theorem dX1_undo_1 : decode cX1_undo 1 = .ok (.getfield 26, 3) := dk_180 0 26 (dk_at dksX1_undo_0 1 rfl rfl)
theorem dX1_undo_4 : decode cX1_undo 4 = .ok (.invokevirtual 308, 3) := dk_182 1 52 (dk_at dksX1_undo_0 4 rfl rfl)
theorem dX1_undo_7 : decode cX1_undo 7 = .ok (.ifCond .ne 7, 3) := dk_154 0 7 (dk_at dksX1_undo_0 7 rfl rfl)
theorem dX1_undo_10 : decode cX1_undo 10 = .ok (.iconst 1, 1) := dk_4 (dk_at dksX1_undo_0 10 rfl rfl)
theorem dX1_undo_11 : decode cX1_undo 11 = .ok (.goto 4, 3) := dk_167 0 4 (dk_at dksX1_undo_0 11 rfl rfl)
theorem dX1_undo_14 : decode cX1_undo 14 = .ok (.iconst 0, 1) := dk_3 (dk_at dksX1_undo_0 14 rfl rfl)
theorem dX1_undo_15 : decode cX1_undo 15 = .ok (.invokestatic 125, 3) := dk_184 0 125 (dk_at dksX1_undo_0 15 rfl rfl)
theorem dX1_undo_18 : decode cX1_undo 18 = .ok (.aload_n 0, 1) := dk_42 (dk_at dksX1_undo_0 18 rfl rfl)
theorem dX1_undo_19 : decode cX1_undo 19 = .ok (.aload_n 0, 1) := dk_42 (dk_at dksX1_undo_0 19 rfl rfl)
theorem dX1_undo_20 : decode cX1_undo 20 = .ok (.getfield 26, 3) := dk_180 0 26 (dk_at dksX1_undo_0 20 rfl rfl)
theorem dX1_undo_23 : decode cX1_undo 23 = .ok (.invokevirtual 312, 3) := dk_182 1 56 (dk_at dksX1_undo_1 0 rfl rfl)
theorem dX1_undo_26 : decode cX1_undo 26 = .ok (.checkcast 315, 3) := dk_192 1 59 (dk_at dksX1_undo_1 3 rfl rfl)
theorem dX1_undo_29 : decode cX1_undo 29 = .ok (.putfield 19, 3) := dk_181 0 19 (dk_at dksX1_undo_1 6 rfl rfl)
theorem dX1_undo_32 : decode cX1_undo 32 = .ok (.aload_n 0, 1) := dk_42 (dk_at dksX1_undo_1 9 rfl rfl)
theorem dX1_undo_33 : decode cX1_undo 33 = .ok (.getfield 26, 3) := dk_180 0 26 (dk_at dksX1_undo_1 10 rfl rfl)
theorem dX1_undo_36 : decode cX1_undo 36 = .ok (.invokevirtual 75, 3) := dk_182 0 75 (dk_at dksX1_undo_1 13 rfl rfl)
theorem dX1_undo_39 : decode cX1_undo 39 = .ok (.ireturn, 1) := dk_172 (dk_at dksX1_undo_1 16 rfl rfl)
theorem q86 : (Jvm.Cond.initialized "SharedSheet") ∈ lw_all := lw_g (lw_at lw_m1 1 rfl) rfl
theorem q130 : (Jvm.Cond.instantiable "SharedSheet" (4 : Nat)) ∈ lw_all := lw_g (lw_at lw_m1 45 rfl) rfl
theorem q132 : (Jvm.Cond.instanceMethod ({ cls := "SharedSheet", name := "<init>", desc := "()V" } : Jvm.MethodName)) ∈ lw_all := lw_g (lw_at lw_m1 47 rfl) rfl
theorem q133 : (Jvm.Cond.code ({ cls := "SharedSheet", name := "<init>", desc := "()V" } : Jvm.MethodName) prog_1_method_3_code (2 : Nat) (Option.none : Option Jvm.ClassFile.FieldType)) ∈ lw_all := lw_g (lw_at lw_m1 48 rfl) rfl
theorem q134 : (Jvm.Cond.methodLink "SharedSheet" (14 : Nat) ({ cls := "java/lang/Object", name := "<init>", desc := "()V" } : Jvm.MethodName)) ∈ lw_all := lw_g (lw_at lw_m1 49 rfl) rfl
theorem q137 : (Jvm.Cond.classLink "SharedSheet" (17 : Nat) "SharedSheet$Replica") ∈ lw_all := lw_g (lw_at lw_m1 52 rfl) rfl
theorem q139 : (Jvm.Cond.classLink "SharedSheet" (23 : Nat) "java/util/ArrayDeque") ∈ lw_all := lw_g (lw_at lw_m1 54 rfl) rfl
theorem q141 : (Jvm.Cond.methodLink "SharedSheet" (25 : Nat) ({ cls := "java/util/ArrayDeque", name := "<init>", desc := "()V" } : Jvm.MethodName)) ∈ lw_all := lw_g (lw_at lw_m1 56 rfl) rfl
theorem q160 : (Jvm.Cond.classLink "SharedSheet" (30 : Nat) "java/lang/StringBuilder") ∈ lw_all := lw_g (lw_at lw_m1 75 rfl) rfl
theorem q162 : (Jvm.Cond.methodLink "SharedSheet" (32 : Nat) ({ cls := "java/lang/StringBuilder", name := "<init>", desc := "()V" } : Jvm.MethodName)) ∈ lw_all := lw_g (lw_at lw_m1 77 rfl) rfl
theorem q194 : (Jvm.Cond.methodLink "SharedSheet" (37 : Nat) ({ cls := "SharedSheet$Replica", name := "<init>", desc := "(I)V" } : Jvm.MethodName)) ∈ lw_all := lw_g (lw_at lw_m1 109 rfl) rfl
theorem q255 : (Jvm.Cond.laysStatic "SharedSheet" "BEGINNING" "LSharedSheet$Stamp;") ∈ lw_tbl := lw_at lw_m1 170 rfl
theorem q257 : (Jvm.Cond.laysStatic "SharedSheet" "NEVER" "LSharedSheet$Stamp;") ∈ lw_tbl := lw_at lw_m1 172 rfl
theorem q265 : (Jvm.Cond.fieldLinkNest "SharedSheet" (98 : Nat) "SharedSheet$Register" "content" "Ljava/lang/Object;" "SharedSheet") ∈ lw_tbl := lw_at lw_m1 180 rfl
theorem q267 : (Jvm.Cond.fieldLinkNest "SharedSheet" (189 : Nat) "SharedSheet$Register" "stamp" "Ljava/lang/Comparable;" "SharedSheet") ∈ lw_tbl := lw_at lw_m1 182 rfl
theorem q276 : (Jvm.Cond.fieldLinkNest "SharedSheet" (138 : Nat) "SharedSheet$Line" "number" "I" "SharedSheet") ∈ lw_tbl := lw_at lw_m1 191 rfl
theorem q279 : (Jvm.Cond.fieldLinkNest "SharedSheet" (94 : Nat) "SharedSheet$Line" "place" "LSharedSheet$Register;" "SharedSheet") ∈ lw_tbl := lw_at lw_m1 194 rfl
theorem q294 : (Jvm.Cond.static ({ cls := "SharedSheet", name := "empty", desc := "()LSharedSheet$Content;" } : Jvm.MethodName)) ∈ lw_all := lw_g (lw_at lw_m1 209 rfl) rfl
theorem q295 : (Jvm.Cond.code ({ cls := "SharedSheet", name := "empty", desc := "()LSharedSheet$Content;" } : Jvm.MethodName) prog_1_method_2_code (0 : Nat) (Option.some (Jvm.ClassFile.FieldType.object "SharedSheet$Content"))) ∈ lw_all := lw_g (lw_at lw_m1 210 rfl) rfl
theorem q296 : (Jvm.Cond.classLink "SharedSheet" (1 : Nat) "SharedSheet$Content") ∈ lw_all := lw_g (lw_at lw_m1 211 rfl) rfl
theorem q298 : (Jvm.Cond.classLink "SharedSheet" (5 : Nat) "java/util/ArrayList") ∈ lw_all := lw_g (lw_at lw_m1 213 rfl) rfl
theorem q299 : (Jvm.Cond.methodLink "SharedSheet" (7 : Nat) ({ cls := "java/util/ArrayList", name := "<init>", desc := "()V" } : Jvm.MethodName)) ∈ lw_all := lw_g (lw_at lw_m1 214 rfl) rfl
theorem q300 : (Jvm.Cond.methodLink "SharedSheet" (11 : Nat) ({ cls := "SharedSheet$Content", name := "<init>", desc := "(IILjava/util/List;)V" } : Jvm.MethodName)) ∈ lw_all := lw_g (lw_at lw_m1 215 rfl) rfl
theorem q306 : (Jvm.Cond.fieldLinkNest "SharedSheet" (186 : Nat) "SharedSheet$Content" "kind" "I" "SharedSheet") ∈ lw_tbl := lw_at lw_m1 221 rfl
theorem q309 : (Jvm.Cond.fieldLinkNest "SharedSheet" (199 : Nat) "SharedSheet$Content" "number" "I" "SharedSheet") ∈ lw_tbl := lw_at lw_m1 224 rfl
theorem q312 : (Jvm.Cond.fieldLinkNest "SharedSheet" (241 : Nat) "SharedSheet$Content" "parts" "Ljava/util/List;" "SharedSheet") ∈ lw_tbl := lw_at lw_m1 227 rfl
theorem q361 : (Jvm.Cond.selects "SharedSheet" ({ cls := "java/lang/Object", name := "getClass", desc := "()Ljava/lang/Class;" } : Jvm.MethodName) ({ cls := "java/lang/Object", name := "getClass", desc := "()Ljava/lang/Class;" } : Jvm.MethodName)) ∈ lw_all := lw_g (lw_at lw_m2 36 rfl) rfl
theorem q401 : (Jvm.Cond.fieldLinkNest "SharedSheet" (265 : Nat) "SharedSheet$Replica" "number" "I" "SharedSheet") ∈ lw_tbl := lw_at lw_m2 76 rfl
theorem q403 : (Jvm.Cond.fieldLinkNest "SharedSheet" (150 : Nat) "SharedSheet$Replica" "lines" "[[LSharedSheet$Line;" "SharedSheet") ∈ lw_tbl := lw_at lw_m2 78 rfl
theorem q405 : (Jvm.Cond.fieldLinkNest "SharedSheet" (291 : Nat) "SharedSheet$Replica" "cells" "Ljava/util/List;" "SharedSheet") ∈ lw_tbl := lw_at lw_m2 80 rfl
theorem q407 : (Jvm.Cond.fieldLinkNest "SharedSheet" (71 : Nat) "SharedSheet$Replica" "log" "Ljava/util/List;" "SharedSheet") ∈ lw_tbl := lw_at lw_m2 82 rfl
theorem q409 : (Jvm.Cond.fieldLinkNest "SharedSheet" (262 : Nat) "SharedSheet$Replica" "received" "[I" "SharedSheet") ∈ lw_tbl := lw_at lw_m2 84 rfl
theorem q411 : (Jvm.Cond.fieldLinkNest "SharedSheet" (117 : Nat) "SharedSheet$Replica" "made" "[I" "SharedSheet") ∈ lw_tbl := lw_at lw_m2 86 rfl
theorem q413 : (Jvm.Cond.fieldLinkNest "SharedSheet" (154 : Nat) "SharedSheet$Replica" "clock" "I" "SharedSheet") ∈ lw_tbl := lw_at lw_m2 88 rfl
theorem q429 : (Jvm.Cond.fieldLink "SharedSheet" (19 : Nat) "SharedSheet" "replicas" "[LSharedSheet$Replica;") ∈ lw_all := lw_g (lw_at lw_m2 104 rfl) rfl
theorem q430 : (Jvm.Cond.fieldLink "SharedSheet" (26 : Nat) "SharedSheet" "saved" "Ljava/util/ArrayDeque;") ∈ lw_all := lw_g (lw_at lw_m2 105 rfl) rfl
theorem q431 : (Jvm.Cond.fieldLink "SharedSheet" (33 : Nat) "SharedSheet" "text" "Ljava/lang/StringBuilder;") ∈ lw_all := lw_g (lw_at lw_m2 106 rfl) rfl
theorem q432 : (Jvm.Cond.fieldLink "SharedSheet" (318 : Nat) "SharedSheet" "hash" "J") ∈ lw_all := lw_g (lw_at lw_m2 107 rfl) rfl
theorem q433 : (Jvm.Cond.lays "SharedSheet" "SharedSheet" "replicas" "[LSharedSheet$Replica;") ∈ lw_all := lw_g (lw_at lw_m2 108 rfl) rfl
theorem q434 : (Jvm.Cond.soleField "SharedSheet" "replicas") ∈ lw_all := lw_g (lw_at lw_m2 109 rfl) rfl
theorem q435 : (Jvm.Cond.laysFinal "SharedSheet" "SharedSheet" "saved" "Ljava/util/ArrayDeque;") ∈ lw_all := lw_g (lw_at lw_m2 110 rfl) rfl
theorem q436 : (Jvm.Cond.soleField "SharedSheet" "saved") ∈ lw_all := lw_g (lw_at lw_m2 111 rfl) rfl
theorem q437 : (Jvm.Cond.laysFinal "SharedSheet" "SharedSheet" "text" "Ljava/lang/StringBuilder;") ∈ lw_all := lw_g (lw_at lw_m2 112 rfl) rfl
theorem q438 : (Jvm.Cond.soleField "SharedSheet" "text") ∈ lw_all := lw_g (lw_at lw_m2 113 rfl) rfl
theorem q439 : (Jvm.Cond.lays "SharedSheet" "SharedSheet" "hash" "J") ∈ lw_all := lw_g (lw_at lw_m2 114 rfl) rfl
theorem q440 : (Jvm.Cond.soleField "SharedSheet" "hash") ∈ lw_all := lw_g (lw_at lw_m2 115 rfl) rfl
theorem q441 : (Jvm.Cond.superclass "SharedSheet" "java/lang/Object") ∈ lw_all := lw_g (lw_at lw_m2 116 rfl) rfl
theorem q443 : (Jvm.Cond.instanceMethod ({ cls := "SharedSheet", name := "settle", desc := "()I" } : Jvm.MethodName)) ∈ lw_all := lw_g (lw_at lw_m2 118 rfl) rfl
theorem q444 : (Jvm.Cond.selects "SharedSheet" ({ cls := "SharedSheet", name := "settle", desc := "()I" } : Jvm.MethodName) ({ cls := "SharedSheet", name := "settle", desc := "()I" } : Jvm.MethodName)) ∈ lw_all := lw_g (lw_at lw_m2 119 rfl) rfl
theorem q445 : (Jvm.Cond.code ({ cls := "SharedSheet", name := "settle", desc := "()I" } : Jvm.MethodName) prog_1_method_37_code (5 : Nat) (Option.some Jvm.ClassFile.FieldType.int)) ∈ lw_all := lw_g (lw_at lw_m2 120 rfl) rfl
theorem q446 : (Jvm.Cond.methodLink "SharedSheet" (128 : Nat) ({ cls := "SharedSheet", name := "save", desc := "()V" } : Jvm.MethodName)) ∈ lw_all := lw_g (lw_at lw_m2 121 rfl) rfl
theorem q447 : (Jvm.Cond.privateMethod ({ cls := "SharedSheet", name := "save", desc := "()V" } : Jvm.MethodName)) ∈ lw_tbl := lw_at lw_m2 122 rfl
theorem q448 : (Jvm.Cond.instanceMethod ({ cls := "SharedSheet", name := "save", desc := "()V" } : Jvm.MethodName)) ∈ lw_all := lw_g (lw_at lw_m2 123 rfl) rfl
theorem q449 : (Jvm.Cond.code ({ cls := "SharedSheet", name := "save", desc := "()V" } : Jvm.MethodName) prog_1_method_11_code (3 : Nat) (Option.none : Option Jvm.ClassFile.FieldType)) ∈ lw_all := lw_g (lw_at lw_m2 124 rfl) rfl
theorem q450 : (Jvm.Cond.methodLink "SharedSheet" (75 : Nat) ({ cls := "java/util/ArrayDeque", name := "size", desc := "()I" } : Jvm.MethodName)) ∈ lw_all := lw_g (lw_at lw_m2 125 rfl) rfl
theorem q457 : (Jvm.Cond.methodLink "SharedSheet" (76 : Nat) ({ cls := "java/util/ArrayDeque", name := "removeFirst", desc := "()Ljava/lang/Object;" } : Jvm.MethodName)) ∈ lw_all := lw_g (lw_at lw_m2 132 rfl) rfl
theorem q471 : (Jvm.Cond.methodLink "SharedSheet" (80 : Nat) ({ cls := "SharedSheet$Replica", name := "copy", desc := "()LSharedSheet$Replica;" } : Jvm.MethodName)) ∈ lw_all := lw_g (lw_at lw_m2 146 rfl) rfl
theorem q511 : (Jvm.Cond.methodLink "SharedSheet" (84 : Nat) ({ cls := "java/util/ArrayDeque", name := "addLast", desc := "(Ljava/lang/Object;)V" } : Jvm.MethodName)) ∈ lw_all := lw_g (lw_at lw_m2 186 rfl) rfl
theorem q598 : (Jvm.Cond.methodLink "SharedSheet" (266 : Nat) ({ cls := "SharedSheet", name := "missing", desc := "(LSharedSheet$Replica;LSharedSheet$Replica;)I" } : Jvm.MethodName)) ∈ lw_all := lw_g (lw_at lw_m3 33 rfl) rfl
theorem q599 : (Jvm.Cond.static ({ cls := "SharedSheet", name := "missing", desc := "(LSharedSheet$Replica;LSharedSheet$Replica;)I" } : Jvm.MethodName)) ∈ lw_all := lw_g (lw_at lw_m3 34 rfl) rfl
theorem q600 : (Jvm.Cond.code ({ cls := "SharedSheet", name := "missing", desc := "(LSharedSheet$Replica;LSharedSheet$Replica;)I" } : Jvm.MethodName) prog_1_method_35_code (2 : Nat) (Option.some Jvm.ClassFile.FieldType.int)) ∈ lw_all := lw_g (lw_at lw_m3 35 rfl) rfl
theorem q601 : (Jvm.Cond.interfaceEntry "SharedSheet" (65 : Nat)) ∈ lw_tbl := lw_at lw_m3 36 rfl
theorem q602 : (Jvm.Cond.methodLink "SharedSheet" (65 : Nat) ({ cls := "java/util/List", name := "size", desc := "()I" } : Jvm.MethodName)) ∈ lw_all := lw_g (lw_at lw_m3 37 rfl) rfl
theorem q603 : (Jvm.Cond.methodLink "SharedSheet" (270 : Nat) ({ cls := "SharedSheet$Replica", name := "receive", desc := "(LSharedSheet$Replica;)V" } : Jvm.MethodName)) ∈ lw_all := lw_g (lw_at lw_m3 38 rfl) rfl
theorem q857 : (Jvm.Cond.instanceMethod ({ cls := "SharedSheet", name := "clearText", desc := "()I" } : Jvm.MethodName)) ∈ lw_all := lw_g (lw_at lw_m4 52 rfl) rfl
theorem q858 : (Jvm.Cond.selects "SharedSheet" ({ cls := "SharedSheet", name := "clearText", desc := "()I" } : Jvm.MethodName) ({ cls := "SharedSheet", name := "clearText", desc := "()I" } : Jvm.MethodName)) ∈ lw_all := lw_g (lw_at lw_m4 53 rfl) rfl
theorem q859 : (Jvm.Cond.code ({ cls := "SharedSheet", name := "clearText", desc := "()I" } : Jvm.MethodName) prog_1_method_46_code (2 : Nat) (Option.some Jvm.ClassFile.FieldType.int)) ∈ lw_all := lw_g (lw_at lw_m4 54 rfl) rfl
theorem q860 : (Jvm.Cond.methodLink "SharedSheet" (248 : Nat) ({ cls := "java/lang/StringBuilder", name := "length", desc := "()I" } : Jvm.MethodName)) ∈ lw_all := lw_g (lw_at lw_m4 55 rfl) rfl
theorem q867 : (Jvm.Cond.methodLink "SharedSheet" (235 : Nat) ({ cls := "java/lang/StringBuilder", name := "setLength", desc := "(I)V" } : Jvm.MethodName)) ∈ lw_all := lw_g (lw_at lw_m4 62 rfl) rfl
theorem q1110 : (Jvm.Cond.instanceMethod ({ cls := "SharedSheet", name := "character", desc := "(I)I" } : Jvm.MethodName)) ∈ lw_all := lw_g (lw_at lw_m5 65 rfl) rfl
theorem q1111 : (Jvm.Cond.selects "SharedSheet" ({ cls := "SharedSheet", name := "character", desc := "(I)I" } : Jvm.MethodName) ({ cls := "SharedSheet", name := "character", desc := "(I)I" } : Jvm.MethodName)) ∈ lw_all := lw_g (lw_at lw_m5 66 rfl) rfl
theorem q1112 : (Jvm.Cond.code ({ cls := "SharedSheet", name := "character", desc := "(I)I" } : Jvm.MethodName) prog_1_method_48_code (2 : Nat) (Option.some Jvm.ClassFile.FieldType.int)) ∈ lw_all := lw_g (lw_at lw_m5 67 rfl) rfl
theorem q1113 : (Jvm.Cond.methodLink "SharedSheet" (49 : Nat) ({ cls := "SharedSheet", name := "isIn", desc := "(III)Z" } : Jvm.MethodName)) ∈ lw_all := lw_g (lw_at lw_m5 68 rfl) rfl
theorem q1114 : (Jvm.Cond.static ({ cls := "SharedSheet", name := "isIn", desc := "(III)Z" } : Jvm.MethodName)) ∈ lw_all := lw_g (lw_at lw_m5 69 rfl) rfl
theorem q1115 : (Jvm.Cond.code ({ cls := "SharedSheet", name := "isIn", desc := "(III)Z" } : Jvm.MethodName) prog_1_method_1_code (3 : Nat) (Option.some Jvm.ClassFile.FieldType.boolean)) ∈ lw_all := lw_g (lw_at lw_m5 70 rfl) rfl
theorem q1116 : (Jvm.Cond.methodLink "SharedSheet" (304 : Nat) ({ cls := "java/lang/StringBuilder", name := "charAt", desc := "(I)C" } : Jvm.MethodName)) ∈ lw_all := lw_g (lw_at lw_m5 71 rfl) rfl
theorem q1130 : (Jvm.Cond.instanceMethod ({ cls := "SharedSheet", name := "checksum", desc := "()J" } : Jvm.MethodName)) ∈ lw_all := lw_g (lw_at lw_m5 85 rfl) rfl
theorem q1131 : (Jvm.Cond.selects "SharedSheet" ({ cls := "SharedSheet", name := "checksum", desc := "()J" } : Jvm.MethodName) ({ cls := "SharedSheet", name := "checksum", desc := "()J" } : Jvm.MethodName)) ∈ lw_all := lw_g (lw_at lw_m5 86 rfl) rfl
theorem q1132 : (Jvm.Cond.code ({ cls := "SharedSheet", name := "checksum", desc := "()J" } : Jvm.MethodName) prog_1_method_53_code (2 : Nat) (Option.some Jvm.ClassFile.FieldType.long)) ∈ lw_all := lw_g (lw_at lw_m5 87 rfl) rfl
theorem q1133 : (Jvm.Cond.constantLong "SharedSheet" (330 : Nat) (18539 : Int64)) ∈ lw_all := lw_g (lw_at lw_m5 88 rfl) rfl
theorem q1134 : (Jvm.Cond.methodLink "SharedSheet" (332 : Nat) ({ cls := "SharedSheet", name := "mixReplica", desc := "(LSharedSheet$Replica;)V" } : Jvm.MethodName)) ∈ lw_all := lw_g (lw_at lw_m5 89 rfl) rfl
theorem q1135 : (Jvm.Cond.privateMethod ({ cls := "SharedSheet", name := "mixReplica", desc := "(LSharedSheet$Replica;)V" } : Jvm.MethodName)) ∈ lw_tbl := lw_at lw_m5 90 rfl
theorem q1136 : (Jvm.Cond.instanceMethod ({ cls := "SharedSheet", name := "mixReplica", desc := "(LSharedSheet$Replica;)V" } : Jvm.MethodName)) ∈ lw_all := lw_g (lw_at lw_m5 91 rfl) rfl
theorem q1137 : (Jvm.Cond.code ({ cls := "SharedSheet", name := "mixReplica", desc := "(LSharedSheet$Replica;)V" } : Jvm.MethodName) prog_1_method_52_code (5 : Nat) (Option.none : Option Jvm.ClassFile.FieldType)) ∈ lw_all := lw_g (lw_at lw_m5 92 rfl) rfl
theorem q1138 : (Jvm.Cond.methodLink "SharedSheet" (322 : Nat) ({ cls := "SharedSheet", name := "mix", desc := "(J)V" } : Jvm.MethodName)) ∈ lw_all := lw_g (lw_at lw_m5 93 rfl) rfl
theorem q1139 : (Jvm.Cond.privateMethod ({ cls := "SharedSheet", name := "mix", desc := "(J)V" } : Jvm.MethodName)) ∈ lw_tbl := lw_at lw_m5 94 rfl
theorem q1140 : (Jvm.Cond.instanceMethod ({ cls := "SharedSheet", name := "mix", desc := "(J)V" } : Jvm.MethodName)) ∈ lw_all := lw_g (lw_at lw_m5 95 rfl) rfl
theorem q1141 : (Jvm.Cond.code ({ cls := "SharedSheet", name := "mix", desc := "(J)V" } : Jvm.MethodName) prog_1_method_50_code (3 : Nat) (Option.none : Option Jvm.ClassFile.FieldType)) ∈ lw_all := lw_g (lw_at lw_m5 96 rfl) rfl
theorem q1142 : (Jvm.Cond.constantLong "SharedSheet" (316 : Nat) (31 : Int64)) ∈ lw_all := lw_g (lw_at lw_m5 97 rfl) rfl
theorem q1143 : (Jvm.Cond.classLink "SharedSheet" (143 : Nat) "SharedSheet$View") ∈ lw_all := lw_g (lw_at lw_m5 98 rfl) rfl
theorem q1145 : (Jvm.Cond.methodLink "SharedSheet" (214 : Nat) ({ cls := "SharedSheet$View", name := "<init>", desc := "(LSharedSheet$Replica;)V" } : Jvm.MethodName)) ∈ lw_all := lw_g (lw_at lw_m5 100 rfl) rfl
theorem q1250 : (Jvm.Cond.fieldLinkNest "SharedSheet" (277 : Nat) "SharedSheet$View" "rows" "Ljava/util/List;" "SharedSheet") ∈ lw_tbl := lw_at lw_m5 205 rfl
theorem q1252 : (Jvm.Cond.fieldLinkNest "SharedSheet" (284 : Nat) "SharedSheet$View" "columns" "Ljava/util/List;" "SharedSheet") ∈ lw_tbl := lw_at lw_m5 207 rfl
theorem q1254 : (Jvm.Cond.fieldLinkNest "SharedSheet" (217 : Nat) "SharedSheet$View" "wide" "I" "SharedSheet") ∈ lw_tbl := lw_at lw_m5 209 rfl
theorem q1256 : (Jvm.Cond.fieldLinkNest "SharedSheet" (208 : Nat) "SharedSheet$View" "size" "I" "SharedSheet") ∈ lw_tbl := lw_at lw_m5 211 rfl
theorem q1258 : (Jvm.Cond.fieldLinkNest "SharedSheet" (200 : Nat) "SharedSheet$View" "refers" "[[Z" "SharedSheet") ∈ lw_tbl := lw_at lw_m5 213 rfl
theorem q1286 : (Jvm.Cond.methodLink "SharedSheet" (326 : Nat) ({ cls := "SharedSheet", name := "mixLines", desc := "(Ljava/util/List;)V" } : Jvm.MethodName)) ∈ lw_all := lw_g (lw_at lw_m6 1 rfl) rfl
theorem q1287 : (Jvm.Cond.privateMethod ({ cls := "SharedSheet", name := "mixLines", desc := "(Ljava/util/List;)V" } : Jvm.MethodName)) ∈ lw_tbl := lw_at lw_m6 2 rfl
theorem q1288 : (Jvm.Cond.instanceMethod ({ cls := "SharedSheet", name := "mixLines", desc := "(Ljava/util/List;)V" } : Jvm.MethodName)) ∈ lw_all := lw_g (lw_at lw_m6 3 rfl) rfl
theorem q1289 : (Jvm.Cond.code ({ cls := "SharedSheet", name := "mixLines", desc := "(Ljava/util/List;)V" } : Jvm.MethodName) prog_1_method_51_code (3 : Nat) (Option.none : Option Jvm.ClassFile.FieldType)) ∈ lw_all := lw_g (lw_at lw_m6 4 rfl) rfl
theorem q1290 : (Jvm.Cond.interfaceEntry "SharedSheet" (88 : Nat)) ∈ lw_tbl := lw_at lw_m6 5 rfl
theorem q1291 : (Jvm.Cond.methodLink "SharedSheet" (88 : Nat) ({ cls := "java/util/List", name := "get", desc := "(I)Ljava/lang/Object;" } : Jvm.MethodName)) ∈ lw_all := lw_g (lw_at lw_m6 6 rfl) rfl
theorem q1292 : (Jvm.Cond.classLink "SharedSheet" (92 : Nat) "SharedSheet$Line") ∈ lw_all := lw_g (lw_at lw_m6 7 rfl) rfl
theorem q1293 : (Jvm.Cond.classLink "SharedSheet" (104 : Nat) "java/lang/Integer") ∈ lw_all := lw_g (lw_at lw_m6 8 rfl) rfl
theorem q1294 : (Jvm.Cond.methodLink "SharedSheet" (106 : Nat) ({ cls := "java/lang/Integer", name := "intValue", desc := "()I" } : Jvm.MethodName)) ∈ lw_all := lw_g (lw_at lw_m6 9 rfl) rfl
theorem q1298 : (Jvm.Cond.methodLink "SharedSheet" (220 : Nat) ({ cls := "SharedSheet", name := "property", desc := "(LSharedSheet$View;II)I" } : Jvm.MethodName)) ∈ lw_all := lw_g (lw_at lw_m6 13 rfl) rfl
theorem q1299 : (Jvm.Cond.static ({ cls := "SharedSheet", name := "property", desc := "(LSharedSheet$View;II)I" } : Jvm.MethodName)) ∈ lw_all := lw_g (lw_at lw_m6 14 rfl) rfl
theorem q1300 : (Jvm.Cond.code ({ cls := "SharedSheet", name := "property", desc := "(LSharedSheet$View;II)I" } : Jvm.MethodName) prog_1_method_26_code (6 : Nat) (Option.some Jvm.ClassFile.FieldType.int)) ∈ lw_all := lw_g (lw_at lw_m6 15 rfl) rfl
theorem q1301 : (Jvm.Cond.methodLink "SharedSheet" (182 : Nat) ({ cls := "SharedSheet$View", name := "at", desc := "(I)LSharedSheet$Register;" } : Jvm.MethodName)) ∈ lw_all := lw_g (lw_at lw_m6 16 rfl) rfl
theorem q1302 : (Jvm.Cond.classLink "SharedSheet" (193 : Nat) "SharedSheet$Stamp") ∈ lw_all := lw_g (lw_at lw_m6 17 rfl) rfl
theorem q1303 : (Jvm.Cond.methodLink "SharedSheet" (204 : Nat) ({ cls := "SharedSheet", name := "countOf", desc := "([Z)I" } : Jvm.MethodName)) ∈ lw_all := lw_g (lw_at lw_m6 18 rfl) rfl
theorem q1304 : (Jvm.Cond.static ({ cls := "SharedSheet", name := "countOf", desc := "([Z)I" } : Jvm.MethodName)) ∈ lw_all := lw_g (lw_at lw_m6 19 rfl) rfl
theorem q1305 : (Jvm.Cond.code ({ cls := "SharedSheet", name := "countOf", desc := "([Z)I" } : Jvm.MethodName) prog_1_method_25_code (3 : Nat) (Option.some Jvm.ClassFile.FieldType.int)) ∈ lw_all := lw_g (lw_at lw_m6 20 rfl) rfl
theorem q1306 : (Jvm.Cond.methodLink "SharedSheet" (210 : Nat) ({ cls := "SharedSheet$View", name := "isOnCycle", desc := "(I)Z" } : Jvm.MethodName)) ∈ lw_all := lw_g (lw_at lw_m6 21 rfl) rfl
theorem q1310 : (Jvm.Cond.methodLink "SharedSheet" (224 : Nat) ({ cls := "SharedSheet$View", name := "value", desc := "(I)J" } : Jvm.MethodName)) ∈ lw_all := lw_g (lw_at lw_m6 25 rfl) rfl
theorem q1402 : (Jvm.Cond.methodLink "SharedSheet" (228 : Nat) ({ cls := "SharedSheet$View", name := "error", desc := "(I)I" } : Jvm.MethodName)) ∈ lw_all := lw_g (lw_at lw_m6 117 rfl) rfl
theorem q1403 : (Jvm.Cond.methodLink "SharedSheet" (251 : Nat) ({ cls := "SharedSheet", name := "cyclesOf", desc := "(LSharedSheet$View;)I" } : Jvm.MethodName)) ∈ lw_all := lw_g (lw_at lw_m6 118 rfl) rfl
theorem q1404 : (Jvm.Cond.static ({ cls := "SharedSheet", name := "cyclesOf", desc := "(LSharedSheet$View;)I" } : Jvm.MethodName)) ∈ lw_all := lw_g (lw_at lw_m6 119 rfl) rfl
theorem q1405 : (Jvm.Cond.code ({ cls := "SharedSheet", name := "cyclesOf", desc := "(LSharedSheet$View;)I" } : Jvm.MethodName) prog_1_method_31_code (3 : Nat) (Option.some Jvm.ClassFile.FieldType.int)) ∈ lw_all := lw_g (lw_at lw_m6 120 rfl) rfl
theorem q1406 : (Jvm.Cond.methodLink "SharedSheet" (255 : Nat) ({ cls := "SharedSheet$View", name := "order", desc := "()Ljava/util/List;" } : Jvm.MethodName)) ∈ lw_all := lw_g (lw_at lw_m6 121 rfl) rfl
theorem q1423 : (Jvm.Cond.methodLink "SharedSheet" (258 : Nat) ({ cls := "SharedSheet", name := "toldAs", desc := "(LSharedSheet$View;I)I" } : Jvm.MethodName)) ∈ lw_all := lw_g (lw_at lw_m6 138 rfl) rfl
theorem q1424 : (Jvm.Cond.static ({ cls := "SharedSheet", name := "toldAs", desc := "(LSharedSheet$View;I)I" } : Jvm.MethodName)) ∈ lw_all := lw_g (lw_at lw_m6 139 rfl) rfl
theorem q1425 : (Jvm.Cond.code ({ cls := "SharedSheet", name := "toldAs", desc := "(LSharedSheet$View;I)I" } : Jvm.MethodName) prog_1_method_33_code (2 : Nat) (Option.some Jvm.ClassFile.FieldType.int)) ∈ lw_all := lw_g (lw_at lw_m6 140 rfl) rfl
theorem q1434 : (Jvm.Cond.instanceMethod ({ cls := "SharedSheet", name := "make", desc := "(IZI)I" } : Jvm.MethodName)) ∈ lw_all := lw_g (lw_at lw_m6 149 rfl) rfl
theorem q1435 : (Jvm.Cond.selects "SharedSheet" ({ cls := "SharedSheet", name := "make", desc := "(IZI)I" } : Jvm.MethodName) ({ cls := "SharedSheet", name := "make", desc := "(IZI)I" } : Jvm.MethodName)) ∈ lw_all := lw_g (lw_at lw_m6 150 rfl) rfl
theorem q1436 : (Jvm.Cond.code ({ cls := "SharedSheet", name := "make", desc := "(IZI)I" } : Jvm.MethodName) prog_1_method_13_code (9 : Nat) (Option.some Jvm.ClassFile.FieldType.int)) ∈ lw_all := lw_g (lw_at lw_m6 151 rfl) rfl
theorem q1437 : (Jvm.Cond.methodLink "SharedSheet" (57 : Nat) ({ cls := "SharedSheet", name := "replicaWith", desc := "(I)LSharedSheet$Replica;" } : Jvm.MethodName)) ∈ lw_all := lw_g (lw_at lw_m6 152 rfl) rfl
theorem q1438 : (Jvm.Cond.privateMethod ({ cls := "SharedSheet", name := "replicaWith", desc := "(I)LSharedSheet$Replica;" } : Jvm.MethodName)) ∈ lw_tbl := lw_at lw_m6 153 rfl
theorem q1439 : (Jvm.Cond.instanceMethod ({ cls := "SharedSheet", name := "replicaWith", desc := "(I)LSharedSheet$Replica;" } : Jvm.MethodName)) ∈ lw_all := lw_g (lw_at lw_m6 154 rfl) rfl
theorem q1440 : (Jvm.Cond.code ({ cls := "SharedSheet", name := "replicaWith", desc := "(I)LSharedSheet$Replica;" } : Jvm.MethodName) prog_1_method_7_code (2 : Nat) (Option.some (Jvm.ClassFile.FieldType.object "SharedSheet$Replica"))) ∈ lw_all := lw_g (lw_at lw_m6 155 rfl) rfl
theorem q1441 : (Jvm.Cond.methodLink "SharedSheet" (53 : Nat) ({ cls := "SharedSheet", name := "checkIndex", desc := "(Z)V" } : Jvm.MethodName)) ∈ lw_all := lw_g (lw_at lw_m6 156 rfl) rfl
theorem q1442 : (Jvm.Cond.static ({ cls := "SharedSheet", name := "checkIndex", desc := "(Z)V" } : Jvm.MethodName)) ∈ lw_all := lw_g (lw_at lw_m6 157 rfl) rfl
theorem q1443 : (Jvm.Cond.code ({ cls := "SharedSheet", name := "checkIndex", desc := "(Z)V" } : Jvm.MethodName) prog_1_method_4_code (1 : Nat) (Option.none : Option Jvm.ClassFile.FieldType)) ∈ lw_all := lw_g (lw_at lw_m6 158 rfl) rfl
theorem q1444 : (Jvm.Cond.classLink "SharedSheet" (40 : Nat) "java/lang/IndexOutOfBoundsException") ∈ lw_all := lw_g (lw_at lw_m6 159 rfl) rfl
theorem q1445 : (Jvm.Cond.methodLink "SharedSheet" (42 : Nat) ({ cls := "java/lang/IndexOutOfBoundsException", name := "<init>", desc := "()V" } : Jvm.MethodName)) ∈ lw_all := lw_g (lw_at lw_m6 160 rfl) rfl
theorem q1455 : (Jvm.Cond.methodLink "SharedSheet" (109 : Nat) ({ cls := "SharedSheet", name := "kindOf", desc := "(Z)I" } : Jvm.MethodName)) ∈ lw_all := lw_g (lw_at lw_m6 170 rfl) rfl
theorem q1456 : (Jvm.Cond.static ({ cls := "SharedSheet", name := "kindOf", desc := "(Z)I" } : Jvm.MethodName)) ∈ lw_all := lw_g (lw_at lw_m6 171 rfl) rfl
theorem q1457 : (Jvm.Cond.code ({ cls := "SharedSheet", name := "kindOf", desc := "(Z)I" } : Jvm.MethodName) prog_1_method_9_code (1 : Nat) (Option.some Jvm.ClassFile.FieldType.int)) ∈ lw_all := lw_g (lw_at lw_m6 172 rfl) rfl
theorem q1458 : (Jvm.Cond.methodLink "SharedSheet" (61 : Nat) ({ cls := "SharedSheet$Replica", name := "shown", desc := "(I)Ljava/util/List;" } : Jvm.MethodName)) ∈ lw_all := lw_g (lw_at lw_m6 173 rfl) rfl
theorem q1459 : (Jvm.Cond.methodLink "SharedSheet" (113 : Nat) ({ cls := "SharedSheet", name := "placeAt", desc := "(Ljava/util/List;I)I" } : Jvm.MethodName)) ∈ lw_all := lw_g (lw_at lw_m6 174 rfl) rfl
theorem q1460 : (Jvm.Cond.static ({ cls := "SharedSheet", name := "placeAt", desc := "(Ljava/util/List;I)I" } : Jvm.MethodName)) ∈ lw_all := lw_g (lw_at lw_m6 175 rfl) rfl
theorem q1461 : (Jvm.Cond.code ({ cls := "SharedSheet", name := "placeAt", desc := "(Ljava/util/List;I)I" } : Jvm.MethodName) prog_1_method_12_code (5 : Nat) (Option.some Jvm.ClassFile.FieldType.int)) ∈ lw_all := lw_g (lw_at lw_m6 176 rfl) rfl
theorem q1462 : (Jvm.Cond.methodLink "SharedSheet" (121 : Nat) ({ cls := "SharedSheet", name := "hasRoom", desc := "(LSharedSheet$Replica;)Z" } : Jvm.MethodName)) ∈ lw_all := lw_g (lw_at lw_m6 177 rfl) rfl
theorem q1463 : (Jvm.Cond.static ({ cls := "SharedSheet", name := "hasRoom", desc := "(LSharedSheet$Replica;)Z" } : Jvm.MethodName)) ∈ lw_all := lw_g (lw_at lw_m6 178 rfl) rfl
theorem q1464 : (Jvm.Cond.code ({ cls := "SharedSheet", name := "hasRoom", desc := "(LSharedSheet$Replica;)Z" } : Jvm.MethodName) prog_1_method_10_code (1 : Nat) (Option.some Jvm.ClassFile.FieldType.boolean)) ∈ lw_all := lw_g (lw_at lw_m6 179 rfl) rfl
theorem q1465 : (Jvm.Cond.methodLink "SharedSheet" (125 : Nat) ({ cls := "SharedSheet", name := "checkState", desc := "(Z)V" } : Jvm.MethodName)) ∈ lw_all := lw_g (lw_at lw_m6 180 rfl) rfl
theorem q1466 : (Jvm.Cond.static ({ cls := "SharedSheet", name := "checkState", desc := "(Z)V" } : Jvm.MethodName)) ∈ lw_all := lw_g (lw_at lw_m6 181 rfl) rfl
theorem q1467 : (Jvm.Cond.code ({ cls := "SharedSheet", name := "checkState", desc := "(Z)V" } : Jvm.MethodName) prog_1_method_6_code (1 : Nat) (Option.none : Option Jvm.ClassFile.FieldType)) ∈ lw_all := lw_g (lw_at lw_m6 182 rfl) rfl
theorem q1468 : (Jvm.Cond.classLink "SharedSheet" (46 : Nat) "java/lang/IllegalStateException") ∈ lw_all := lw_g (lw_at lw_m6 183 rfl) rfl
theorem q1469 : (Jvm.Cond.methodLink "SharedSheet" (48 : Nat) ({ cls := "java/lang/IllegalStateException", name := "<init>", desc := "()V" } : Jvm.MethodName)) ∈ lw_all := lw_g (lw_at lw_m6 184 rfl) rfl
theorem q1473 : (Jvm.Cond.methodLink "SharedSheet" (131 : Nat) ({ cls := "SharedSheet$Replica", name := "does", desc := "(IIIILSharedSheet$Content;)V" } : Jvm.MethodName)) ∈ lw_all := lw_g (lw_at lw_m6 188 rfl) rfl
theorem q1487 : (Jvm.Cond.fieldLinkNest "SharedSheet" (195 : Nat) "SharedSheet$Stamp" "clock" "I" "SharedSheet") ∈ lw_tbl := lw_at lw_m6 202 rfl
theorem q1489 : (Jvm.Cond.fieldLinkNest "SharedSheet" (196 : Nat) "SharedSheet$Stamp" "replica" "I" "SharedSheet") ∈ lw_tbl := lw_at lw_m6 204 rfl
theorem q1528 : (Jvm.Cond.instanceMethod ({ cls := "SharedSheet", name := "move", desc := "(IZII)I" } : Jvm.MethodName)) ∈ lw_all := lw_g (lw_at lw_m7 3 rfl) rfl
theorem q1529 : (Jvm.Cond.selects "SharedSheet" ({ cls := "SharedSheet", name := "move", desc := "(IZII)I" } : Jvm.MethodName) ({ cls := "SharedSheet", name := "move", desc := "(IZII)I" } : Jvm.MethodName)) ∈ lw_all := lw_g (lw_at lw_m7 4 rfl) rfl
theorem q1530 : (Jvm.Cond.code ({ cls := "SharedSheet", name := "move", desc := "(IZII)I" } : Jvm.MethodName) prog_1_method_14_code (10 : Nat) (Option.some Jvm.ClassFile.FieldType.int)) ∈ lw_all := lw_g (lw_at lw_m7 5 rfl) rfl
theorem q1531 : (Jvm.Cond.interfaceEntry "SharedSheet" (135 : Nat)) ∈ lw_tbl := lw_at lw_m7 6 rfl
theorem q1532 : (Jvm.Cond.methodLink "SharedSheet" (135 : Nat) ({ cls := "java/util/List", name := "remove", desc := "(I)Ljava/lang/Object;" } : Jvm.MethodName)) ∈ lw_all := lw_g (lw_at lw_m7 7 rfl) rfl
theorem q1544 : (Jvm.Cond.methodLinkNest "SharedSheet" (142 : Nat) ({ cls := "SharedSheet$View", name := "positionOf", desc := "(Ljava/util/List;I)I" } : Jvm.MethodName) "SharedSheet") ∈ lw_tbl := lw_at lw_m7 19 rfl
theorem q1549 : (Jvm.Cond.instanceMethod ({ cls := "SharedSheet", name := "remove", desc := "(IZI)I" } : Jvm.MethodName)) ∈ lw_all := lw_g (lw_at lw_m7 24 rfl) rfl
theorem q1550 : (Jvm.Cond.selects "SharedSheet" ({ cls := "SharedSheet", name := "remove", desc := "(IZI)I" } : Jvm.MethodName) ({ cls := "SharedSheet", name := "remove", desc := "(IZI)I" } : Jvm.MethodName)) ∈ lw_all := lw_g (lw_at lw_m7 25 rfl) rfl
theorem q1551 : (Jvm.Cond.code ({ cls := "SharedSheet", name := "remove", desc := "(IZI)I" } : Jvm.MethodName) prog_1_method_15_code (7 : Nat) (Option.some Jvm.ClassFile.FieldType.int)) ∈ lw_all := lw_g (lw_at lw_m7 26 rfl) rfl
theorem q1556 : (Jvm.Cond.instanceMethod ({ cls := "SharedSheet", name := "shown", desc := "(IZ)I" } : Jvm.MethodName)) ∈ lw_all := lw_g (lw_at lw_m7 31 rfl) rfl
theorem q1557 : (Jvm.Cond.selects "SharedSheet" ({ cls := "SharedSheet", name := "shown", desc := "(IZ)I" } : Jvm.MethodName) ({ cls := "SharedSheet", name := "shown", desc := "(IZ)I" } : Jvm.MethodName)) ∈ lw_all := lw_g (lw_at lw_m7 32 rfl) rfl
theorem q1558 : (Jvm.Cond.code ({ cls := "SharedSheet", name := "shown", desc := "(IZ)I" } : Jvm.MethodName) prog_1_method_16_code (3 : Nat) (Option.some Jvm.ClassFile.FieldType.int)) ∈ lw_all := lw_g (lw_at lw_m7 33 rfl) rfl
theorem q1563 : (Jvm.Cond.instanceMethod ({ cls := "SharedSheet", name := "line", desc := "(IZI)I" } : Jvm.MethodName)) ∈ lw_all := lw_g (lw_at lw_m7 38 rfl) rfl
theorem q1564 : (Jvm.Cond.selects "SharedSheet" ({ cls := "SharedSheet", name := "line", desc := "(IZI)I" } : Jvm.MethodName) ({ cls := "SharedSheet", name := "line", desc := "(IZI)I" } : Jvm.MethodName)) ∈ lw_all := lw_g (lw_at lw_m7 39 rfl) rfl
theorem q1565 : (Jvm.Cond.code ({ cls := "SharedSheet", name := "line", desc := "(IZI)I" } : Jvm.MethodName) prog_1_method_17_code (5 : Nat) (Option.some Jvm.ClassFile.FieldType.int)) ∈ lw_all := lw_g (lw_at lw_m7 40 rfl) rfl
theorem q1571 : (Jvm.Cond.instanceMethod ({ cls := "SharedSheet", name := "position", desc := "(IZI)I" } : Jvm.MethodName)) ∈ lw_all := lw_g (lw_at lw_m7 46 rfl) rfl
theorem q1572 : (Jvm.Cond.selects "SharedSheet" ({ cls := "SharedSheet", name := "position", desc := "(IZI)I" } : Jvm.MethodName) ({ cls := "SharedSheet", name := "position", desc := "(IZI)I" } : Jvm.MethodName)) ∈ lw_all := lw_g (lw_at lw_m7 47 rfl) rfl
theorem q1573 : (Jvm.Cond.code ({ cls := "SharedSheet", name := "position", desc := "(IZI)I" } : Jvm.MethodName) prog_1_method_18_code (5 : Nat) (Option.some Jvm.ClassFile.FieldType.int)) ∈ lw_all := lw_g (lw_at lw_m7 48 rfl) rfl
theorem q1574 : (Jvm.Cond.methodLink "SharedSheet" (147 : Nat) ({ cls := "SharedSheet", name := "checkThat", desc := "(Z)V" } : Jvm.MethodName)) ∈ lw_all := lw_g (lw_at lw_m7 49 rfl) rfl
theorem q1575 : (Jvm.Cond.static ({ cls := "SharedSheet", name := "checkThat", desc := "(Z)V" } : Jvm.MethodName)) ∈ lw_all := lw_g (lw_at lw_m7 50 rfl) rfl
theorem q1576 : (Jvm.Cond.code ({ cls := "SharedSheet", name := "checkThat", desc := "(Z)V" } : Jvm.MethodName) prog_1_method_5_code (1 : Nat) (Option.none : Option Jvm.ClassFile.FieldType)) ∈ lw_all := lw_g (lw_at lw_m7 51 rfl) rfl
theorem q1577 : (Jvm.Cond.classLink "SharedSheet" (43 : Nat) "java/lang/IllegalArgumentException") ∈ lw_all := lw_g (lw_at lw_m7 52 rfl) rfl
theorem q1578 : (Jvm.Cond.methodLink "SharedSheet" (45 : Nat) ({ cls := "java/lang/IllegalArgumentException", name := "<init>", desc := "()V" } : Jvm.MethodName)) ∈ lw_all := lw_g (lw_at lw_m7 53 rfl) rfl
theorem q1586 : (Jvm.Cond.instanceMethod ({ cls := "SharedSheet", name := "place", desc := "(IZI)I" } : Jvm.MethodName)) ∈ lw_all := lw_g (lw_at lw_m7 61 rfl) rfl
theorem q1587 : (Jvm.Cond.selects "SharedSheet" ({ cls := "SharedSheet", name := "place", desc := "(IZI)I" } : Jvm.MethodName) ({ cls := "SharedSheet", name := "place", desc := "(IZI)I" } : Jvm.MethodName)) ∈ lw_all := lw_g (lw_at lw_m7 62 rfl) rfl
theorem q1588 : (Jvm.Cond.code ({ cls := "SharedSheet", name := "place", desc := "(IZI)I" } : Jvm.MethodName) prog_1_method_19_code (5 : Nat) (Option.some Jvm.ClassFile.FieldType.int)) ∈ lw_all := lw_g (lw_at lw_m7 63 rfl) rfl
theorem q1593 : (Jvm.Cond.instanceMethod ({ cls := "SharedSheet", name := "setNumber", desc := "(IIII)I" } : Jvm.MethodName)) ∈ lw_all := lw_g (lw_at lw_m7 68 rfl) rfl
theorem q1594 : (Jvm.Cond.selects "SharedSheet" ({ cls := "SharedSheet", name := "setNumber", desc := "(IIII)I" } : Jvm.MethodName) ({ cls := "SharedSheet", name := "setNumber", desc := "(IIII)I" } : Jvm.MethodName)) ∈ lw_all := lw_g (lw_at lw_m7 69 rfl) rfl
theorem q1595 : (Jvm.Cond.code ({ cls := "SharedSheet", name := "setNumber", desc := "(IIII)I" } : Jvm.MethodName) prog_1_method_21_code (6 : Nat) (Option.some Jvm.ClassFile.FieldType.int)) ∈ lw_all := lw_g (lw_at lw_m7 70 rfl) rfl
theorem q1596 : (Jvm.Cond.methodLink "SharedSheet" (157 : Nat) ({ cls := "SharedSheet", name := "replicaWith", desc := "(III)LSharedSheet$Replica;" } : Jvm.MethodName)) ∈ lw_all := lw_g (lw_at lw_m7 71 rfl) rfl
theorem q1597 : (Jvm.Cond.privateMethod ({ cls := "SharedSheet", name := "replicaWith", desc := "(III)LSharedSheet$Replica;" } : Jvm.MethodName)) ∈ lw_tbl := lw_at lw_m7 72 rfl
theorem q1598 : (Jvm.Cond.instanceMethod ({ cls := "SharedSheet", name := "replicaWith", desc := "(III)LSharedSheet$Replica;" } : Jvm.MethodName)) ∈ lw_all := lw_g (lw_at lw_m7 73 rfl) rfl
theorem q1599 : (Jvm.Cond.code ({ cls := "SharedSheet", name := "replicaWith", desc := "(III)LSharedSheet$Replica;" } : Jvm.MethodName) prog_1_method_8_code (5 : Nat) (Option.some (Jvm.ClassFile.FieldType.object "SharedSheet$Replica"))) ∈ lw_all := lw_g (lw_at lw_m7 74 rfl) rfl
theorem q1600 : (Jvm.Cond.methodLink "SharedSheet" (160 : Nat) ({ cls := "SharedSheet", name := "put", desc := "(LSharedSheet$Replica;IILSharedSheet$Content;)I" } : Jvm.MethodName)) ∈ lw_all := lw_g (lw_at lw_m7 75 rfl) rfl
theorem q1601 : (Jvm.Cond.privateMethod ({ cls := "SharedSheet", name := "put", desc := "(LSharedSheet$Replica;IILSharedSheet$Content;)I" } : Jvm.MethodName)) ∈ lw_tbl := lw_at lw_m7 76 rfl
theorem q1602 : (Jvm.Cond.instanceMethod ({ cls := "SharedSheet", name := "put", desc := "(LSharedSheet$Replica;IILSharedSheet$Content;)I" } : Jvm.MethodName)) ∈ lw_all := lw_g (lw_at lw_m7 77 rfl) rfl
theorem q1603 : (Jvm.Cond.code ({ cls := "SharedSheet", name := "put", desc := "(LSharedSheet$Replica;IILSharedSheet$Content;)I" } : Jvm.MethodName) prog_1_method_20_code (5 : Nat) (Option.some Jvm.ClassFile.FieldType.int)) ∈ lw_all := lw_g (lw_at lw_m7 78 rfl) rfl
theorem q1608 : (Jvm.Cond.instanceMethod ({ cls := "SharedSheet", name := "clearCell", desc := "(III)I" } : Jvm.MethodName)) ∈ lw_all := lw_g (lw_at lw_m7 83 rfl) rfl
theorem q1609 : (Jvm.Cond.selects "SharedSheet" ({ cls := "SharedSheet", name := "clearCell", desc := "(III)I" } : Jvm.MethodName) ({ cls := "SharedSheet", name := "clearCell", desc := "(III)I" } : Jvm.MethodName)) ∈ lw_all := lw_g (lw_at lw_m7 84 rfl) rfl
theorem q1610 : (Jvm.Cond.code ({ cls := "SharedSheet", name := "clearCell", desc := "(III)I" } : Jvm.MethodName) prog_1_method_22_code (5 : Nat) (Option.some Jvm.ClassFile.FieldType.int)) ∈ lw_all := lw_g (lw_at lw_m7 85 rfl) rfl
theorem q1611 : (Jvm.Cond.methodLink "SharedSheet" (164 : Nat) ({ cls := "SharedSheet", name := "empty", desc := "()LSharedSheet$Content;" } : Jvm.MethodName)) ∈ lw_all := lw_g (lw_at lw_m7 86 rfl) rfl
theorem q1616 : (Jvm.Cond.instanceMethod ({ cls := "SharedSheet", name := "setFormula", desc := "(III)I" } : Jvm.MethodName)) ∈ lw_all := lw_g (lw_at lw_m7 91 rfl) rfl
theorem q1617 : (Jvm.Cond.selects "SharedSheet" ({ cls := "SharedSheet", name := "setFormula", desc := "(III)I" } : Jvm.MethodName) ({ cls := "SharedSheet", name := "setFormula", desc := "(III)I" } : Jvm.MethodName)) ∈ lw_all := lw_g (lw_at lw_m7 92 rfl) rfl
theorem q1618 : (Jvm.Cond.code ({ cls := "SharedSheet", name := "setFormula", desc := "(III)I" } : Jvm.MethodName) prog_1_method_24_code (6 : Nat) (Option.some Jvm.ClassFile.FieldType.int)) ∈ lw_all := lw_g (lw_at lw_m7 93 rfl) rfl
theorem q1619 : (Jvm.Cond.methodLink "SharedSheet" (179 : Nat) ({ cls := "SharedSheet", name := "formula", desc := "(LSharedSheet$Replica;)Ljava/util/List;" } : Jvm.MethodName)) ∈ lw_all := lw_g (lw_at lw_m7 94 rfl) rfl
theorem q1620 : (Jvm.Cond.privateMethod ({ cls := "SharedSheet", name := "formula", desc := "(LSharedSheet$Replica;)Ljava/util/List;" } : Jvm.MethodName)) ∈ lw_tbl := lw_at lw_m7 95 rfl
theorem q1621 : (Jvm.Cond.instanceMethod ({ cls := "SharedSheet", name := "formula", desc := "(LSharedSheet$Replica;)Ljava/util/List;" } : Jvm.MethodName)) ∈ lw_all := lw_g (lw_at lw_m7 96 rfl) rfl
theorem q1622 : (Jvm.Cond.codeWith ({ cls := "SharedSheet", name := "formula", desc := "(LSharedSheet$Replica;)Ljava/util/List;" } : Jvm.MethodName) prog_1_method_23_code (3 : Nat) (Option.some (Jvm.ClassFile.FieldType.object "java/util/List")) [((0 : Nat), (15 : Nat), (16 : Nat), (177 : Nat))]) ∈ lw_all := lw_g (lw_at lw_m7 97 rfl) rfl
theorem q1623 : (Jvm.Cond.classLink "SharedSheet" (177 : Nat) "SharedSheet$Fault") ∈ lw_all := lw_g (lw_at lw_m7 98 rfl) rfl
theorem q1624 : (Jvm.Cond.classLink "SharedSheet" (168 : Nat) "SharedSheet$Reader") ∈ lw_all := lw_g (lw_at lw_m7 99 rfl) rfl
theorem q1626 : (Jvm.Cond.methodLink "SharedSheet" (170 : Nat) ({ cls := "SharedSheet$Reader", name := "<init>", desc := "(Ljava/lang/CharSequence;LSharedSheet$Replica;)V" } : Jvm.MethodName)) ∈ lw_all := lw_g (lw_at lw_m7 101 rfl) rfl
theorem q1649 : (Jvm.Cond.methodLink "SharedSheet" (173 : Nat) ({ cls := "SharedSheet$Reader", name := "formula", desc := "()Ljava/util/List;" } : Jvm.MethodName)) ∈ lw_all := lw_g (lw_at lw_m7 124 rfl) rfl
theorem q1719 : (Jvm.Cond.fieldLinkNest "SharedSheet" (302 : Nat) "SharedSheet$Fault" "place" "I" "SharedSheet") ∈ lw_tbl := lw_at lw_m7 194 rfl
theorem q1775 : (Jvm.Cond.instanceMethod ({ cls := "SharedSheet", name := "cell", desc := "(IIII)I" } : Jvm.MethodName)) ∈ lw_all := lw_g (lw_at lw_m8 10 rfl) rfl
theorem q1776 : (Jvm.Cond.selects "SharedSheet" ({ cls := "SharedSheet", name := "cell", desc := "(IIII)I" } : Jvm.MethodName) ({ cls := "SharedSheet", name := "cell", desc := "(IIII)I" } : Jvm.MethodName)) ∈ lw_all := lw_g (lw_at lw_m8 11 rfl) rfl
theorem q1777 : (Jvm.Cond.code ({ cls := "SharedSheet", name := "cell", desc := "(IIII)I" } : Jvm.MethodName) prog_1_method_27_code (7 : Nat) (Option.some Jvm.ClassFile.FieldType.int)) ∈ lw_all := lw_g (lw_at lw_m8 12 rfl) rfl
theorem q1782 : (Jvm.Cond.instanceMethod ({ cls := "SharedSheet", name := "value", desc := "(III)I" } : Jvm.MethodName)) ∈ lw_all := lw_g (lw_at lw_m8 17 rfl) rfl
theorem q1783 : (Jvm.Cond.selects "SharedSheet" ({ cls := "SharedSheet", name := "value", desc := "(III)I" } : Jvm.MethodName) ({ cls := "SharedSheet", name := "value", desc := "(III)I" } : Jvm.MethodName)) ∈ lw_all := lw_g (lw_at lw_m8 18 rfl) rfl
theorem q1784 : (Jvm.Cond.code ({ cls := "SharedSheet", name := "value", desc := "(III)I" } : Jvm.MethodName) prog_1_method_28_code (5 : Nat) (Option.some Jvm.ClassFile.FieldType.int)) ∈ lw_all := lw_g (lw_at lw_m8 19 rfl) rfl
theorem q1789 : (Jvm.Cond.instanceMethod ({ cls := "SharedSheet", name := "error", desc := "(III)I" } : Jvm.MethodName)) ∈ lw_all := lw_g (lw_at lw_m8 24 rfl) rfl
theorem q1790 : (Jvm.Cond.selects "SharedSheet" ({ cls := "SharedSheet", name := "error", desc := "(III)I" } : Jvm.MethodName) ({ cls := "SharedSheet", name := "error", desc := "(III)I" } : Jvm.MethodName)) ∈ lw_all := lw_g (lw_at lw_m8 25 rfl) rfl
theorem q1791 : (Jvm.Cond.code ({ cls := "SharedSheet", name := "error", desc := "(III)I" } : Jvm.MethodName) prog_1_method_29_code (5 : Nat) (Option.some Jvm.ClassFile.FieldType.int)) ∈ lw_all := lw_g (lw_at lw_m8 26 rfl) rfl
theorem q1796 : (Jvm.Cond.instanceMethod ({ cls := "SharedSheet", name := "write", desc := "(III)I" } : Jvm.MethodName)) ∈ lw_all := lw_g (lw_at lw_m8 31 rfl) rfl
theorem q1797 : (Jvm.Cond.selects "SharedSheet" ({ cls := "SharedSheet", name := "write", desc := "(III)I" } : Jvm.MethodName) ({ cls := "SharedSheet", name := "write", desc := "(III)I" } : Jvm.MethodName)) ∈ lw_all := lw_g (lw_at lw_m8 32 rfl) rfl
theorem q1798 : (Jvm.Cond.code ({ cls := "SharedSheet", name := "write", desc := "(III)I" } : Jvm.MethodName) prog_1_method_30_code (6 : Nat) (Option.some Jvm.ClassFile.FieldType.int)) ∈ lw_all := lw_g (lw_at lw_m8 33 rfl) rfl
theorem q1799 : (Jvm.Cond.methodLink "SharedSheet" (232 : Nat) ({ cls := "SharedSheet$View", name := "isFormula", desc := "(I)Z" } : Jvm.MethodName)) ∈ lw_all := lw_g (lw_at lw_m8 34 rfl) rfl
theorem q1800 : (Jvm.Cond.methodLink "SharedSheet" (238 : Nat) ({ cls := "SharedSheet$View", name := "content", desc := "(I)LSharedSheet$Content;" } : Jvm.MethodName)) ∈ lw_all := lw_g (lw_at lw_m8 35 rfl) rfl
theorem q1801 : (Jvm.Cond.methodLink "SharedSheet" (244 : Nat) ({ cls := "SharedSheet$View", name := "write", desc := "(Ljava/lang/StringBuilder;Ljava/util/List;)V" } : Jvm.MethodName)) ∈ lw_all := lw_g (lw_at lw_m8 36 rfl) rfl
theorem q1829 : (Jvm.Cond.instanceMethod ({ cls := "SharedSheet", name := "cycles", desc := "(I)I" } : Jvm.MethodName)) ∈ lw_all := lw_g (lw_at lw_m8 64 rfl) rfl
theorem q1830 : (Jvm.Cond.selects "SharedSheet" ({ cls := "SharedSheet", name := "cycles", desc := "(I)I" } : Jvm.MethodName) ({ cls := "SharedSheet", name := "cycles", desc := "(I)I" } : Jvm.MethodName)) ∈ lw_all := lw_g (lw_at lw_m8 65 rfl) rfl
theorem q1831 : (Jvm.Cond.code ({ cls := "SharedSheet", name := "cycles", desc := "(I)I" } : Jvm.MethodName) prog_1_method_32_code (2 : Nat) (Option.some Jvm.ClassFile.FieldType.int)) ∈ lw_all := lw_g (lw_at lw_m8 66 rfl) rfl
theorem q1836 : (Jvm.Cond.instanceMethod ({ cls := "SharedSheet", name := "order", desc := "(II)I" } : Jvm.MethodName)) ∈ lw_all := lw_g (lw_at lw_m8 71 rfl) rfl
theorem q1837 : (Jvm.Cond.selects "SharedSheet" ({ cls := "SharedSheet", name := "order", desc := "(II)I" } : Jvm.MethodName) ({ cls := "SharedSheet", name := "order", desc := "(II)I" } : Jvm.MethodName)) ∈ lw_all := lw_g (lw_at lw_m8 72 rfl) rfl
theorem q1838 : (Jvm.Cond.code ({ cls := "SharedSheet", name := "order", desc := "(II)I" } : Jvm.MethodName) prog_1_method_34_code (5 : Nat) (Option.some Jvm.ClassFile.FieldType.int)) ∈ lw_all := lw_g (lw_at lw_m8 73 rfl) rfl
theorem q1843 : (Jvm.Cond.instanceMethod ({ cls := "SharedSheet", name := "receive", desc := "(III)I" } : Jvm.MethodName)) ∈ lw_all := lw_g (lw_at lw_m8 78 rfl) rfl
theorem q1844 : (Jvm.Cond.selects "SharedSheet" ({ cls := "SharedSheet", name := "receive", desc := "(III)I" } : Jvm.MethodName) ({ cls := "SharedSheet", name := "receive", desc := "(III)I" } : Jvm.MethodName)) ∈ lw_all := lw_g (lw_at lw_m8 79 rfl) rfl
theorem q1845 : (Jvm.Cond.code ({ cls := "SharedSheet", name := "receive", desc := "(III)I" } : Jvm.MethodName) prog_1_method_36_code (7 : Nat) (Option.some Jvm.ClassFile.FieldType.int)) ∈ lw_all := lw_g (lw_at lw_m8 80 rfl) rfl
theorem q1850 : (Jvm.Cond.instanceMethod ({ cls := "SharedSheet", name := "missing", desc := "(II)I" } : Jvm.MethodName)) ∈ lw_all := lw_g (lw_at lw_m8 85 rfl) rfl
theorem q1851 : (Jvm.Cond.selects "SharedSheet" ({ cls := "SharedSheet", name := "missing", desc := "(II)I" } : Jvm.MethodName) ({ cls := "SharedSheet", name := "missing", desc := "(II)I" } : Jvm.MethodName)) ∈ lw_all := lw_g (lw_at lw_m8 86 rfl) rfl
theorem q1852 : (Jvm.Cond.code ({ cls := "SharedSheet", name := "missing", desc := "(II)I" } : Jvm.MethodName) prog_1_method_38_code (5 : Nat) (Option.some Jvm.ClassFile.FieldType.int)) ∈ lw_all := lw_g (lw_at lw_m8 87 rfl) rfl
theorem q1857 : (Jvm.Cond.instanceMethod ({ cls := "SharedSheet", name := "clock", desc := "(I)I" } : Jvm.MethodName)) ∈ lw_all := lw_g (lw_at lw_m8 92 rfl) rfl
theorem q1858 : (Jvm.Cond.selects "SharedSheet" ({ cls := "SharedSheet", name := "clock", desc := "(I)I" } : Jvm.MethodName) ({ cls := "SharedSheet", name := "clock", desc := "(I)I" } : Jvm.MethodName)) ∈ lw_all := lw_g (lw_at lw_m8 93 rfl) rfl
theorem q1859 : (Jvm.Cond.code ({ cls := "SharedSheet", name := "clock", desc := "(I)I" } : Jvm.MethodName) prog_1_method_39_code (2 : Nat) (Option.some Jvm.ClassFile.FieldType.int)) ∈ lw_all := lw_g (lw_at lw_m8 94 rfl) rfl
theorem q1864 : (Jvm.Cond.instanceMethod ({ cls := "SharedSheet", name := "operation", desc := "(III)I" } : Jvm.MethodName)) ∈ lw_all := lw_g (lw_at lw_m8 99 rfl) rfl
theorem q1865 : (Jvm.Cond.selects "SharedSheet" ({ cls := "SharedSheet", name := "operation", desc := "(III)I" } : Jvm.MethodName) ({ cls := "SharedSheet", name := "operation", desc := "(III)I" } : Jvm.MethodName)) ∈ lw_all := lw_g (lw_at lw_m8 100 rfl) rfl
theorem q1866 : (Jvm.Cond.code ({ cls := "SharedSheet", name := "operation", desc := "(III)I" } : Jvm.MethodName) prog_1_method_40_code (5 : Nat) (Option.some Jvm.ClassFile.FieldType.int)) ∈ lw_all := lw_g (lw_at lw_m8 101 rfl) rfl
theorem q1867 : (Jvm.Cond.classLink "SharedSheet" (273 : Nat) "SharedSheet$Operation") ∈ lw_all := lw_g (lw_at lw_m8 102 rfl) rfl
theorem q1868 : (Jvm.Cond.methodLink "SharedSheet" (275 : Nat) ({ cls := "SharedSheet$Operation", name := "property", desc := "(I)I" } : Jvm.MethodName)) ∈ lw_all := lw_g (lw_at lw_m8 103 rfl) rfl
theorem q1876 : (Jvm.Cond.instanceMethod ({ cls := "SharedSheet", name := "areAlike", desc := "(II)Z" } : Jvm.MethodName)) ∈ lw_all := lw_g (lw_at lw_m8 111 rfl) rfl
theorem q1877 : (Jvm.Cond.selects "SharedSheet" ({ cls := "SharedSheet", name := "areAlike", desc := "(II)Z" } : Jvm.MethodName) ({ cls := "SharedSheet", name := "areAlike", desc := "(II)Z" } : Jvm.MethodName)) ∈ lw_all := lw_g (lw_at lw_m8 112 rfl) rfl
theorem q1878 : (Jvm.Cond.code ({ cls := "SharedSheet", name := "areAlike", desc := "(II)Z" } : Jvm.MethodName) prog_1_method_43_code (7 : Nat) (Option.some Jvm.ClassFile.FieldType.boolean)) ∈ lw_all := lw_g (lw_at lw_m8 113 rfl) rfl
theorem q1879 : (Jvm.Cond.methodLink "SharedSheet" (280 : Nat) ({ cls := "SharedSheet", name := "areAlike", desc := "(Ljava/util/List;Ljava/util/List;)Z" } : Jvm.MethodName)) ∈ lw_all := lw_g (lw_at lw_m8 114 rfl) rfl
theorem q1880 : (Jvm.Cond.static ({ cls := "SharedSheet", name := "areAlike", desc := "(Ljava/util/List;Ljava/util/List;)Z" } : Jvm.MethodName)) ∈ lw_all := lw_g (lw_at lw_m8 115 rfl) rfl
theorem q1881 : (Jvm.Cond.code ({ cls := "SharedSheet", name := "areAlike", desc := "(Ljava/util/List;Ljava/util/List;)Z" } : Jvm.MethodName) prog_1_method_41_code (4 : Nat) (Option.some Jvm.ClassFile.FieldType.boolean)) ∈ lw_all := lw_g (lw_at lw_m8 116 rfl) rfl
theorem q1882 : (Jvm.Cond.methodLink "SharedSheet" (287 : Nat) ({ cls := "SharedSheet", name := "showSame", desc := "(LSharedSheet$View;LSharedSheet$View;I)Z" } : Jvm.MethodName)) ∈ lw_all := lw_g (lw_at lw_m8 117 rfl) rfl
theorem q1883 : (Jvm.Cond.static ({ cls := "SharedSheet", name := "showSame", desc := "(LSharedSheet$View;LSharedSheet$View;I)Z" } : Jvm.MethodName)) ∈ lw_all := lw_g (lw_at lw_m8 118 rfl) rfl
theorem q1884 : (Jvm.Cond.code ({ cls := "SharedSheet", name := "showSame", desc := "(LSharedSheet$View;LSharedSheet$View;I)Z" } : Jvm.MethodName) prog_1_method_42_code (5 : Nat) (Option.some Jvm.ClassFile.FieldType.boolean)) ∈ lw_all := lw_g (lw_at lw_m8 119 rfl) rfl
theorem q1889 : (Jvm.Cond.instanceMethod ({ cls := "SharedSheet", name := "different", desc := "(II)I" } : Jvm.MethodName)) ∈ lw_all := lw_g (lw_at lw_m8 124 rfl) rfl
theorem q1890 : (Jvm.Cond.selects "SharedSheet" ({ cls := "SharedSheet", name := "different", desc := "(II)I" } : Jvm.MethodName) ({ cls := "SharedSheet", name := "different", desc := "(II)I" } : Jvm.MethodName)) ∈ lw_all := lw_g (lw_at lw_m8 125 rfl) rfl
theorem q1891 : (Jvm.Cond.code ({ cls := "SharedSheet", name := "different", desc := "(II)I" } : Jvm.MethodName) prog_1_method_44_code (7 : Nat) (Option.some Jvm.ClassFile.FieldType.int)) ∈ lw_all := lw_g (lw_at lw_m8 126 rfl) rfl
theorem q1892 : (Jvm.Cond.classLink "SharedSheet" (99 : Nat) "SharedSheet$Register") ∈ lw_all := lw_g (lw_at lw_m8 127 rfl) rfl
theorem q1893 : (Jvm.Cond.methodLink "SharedSheet" (294 : Nat) ({ cls := "SharedSheet$Stamp", name := "compareTo", desc := "(LSharedSheet$Stamp;)I" } : Jvm.MethodName)) ∈ lw_all := lw_g (lw_at lw_m8 128 rfl) rfl
theorem q1898 : (Jvm.Cond.instanceMethod ({ cls := "SharedSheet", name := "type", desc := "(I)I" } : Jvm.MethodName)) ∈ lw_all := lw_g (lw_at lw_m8 133 rfl) rfl
theorem q1899 : (Jvm.Cond.selects "SharedSheet" ({ cls := "SharedSheet", name := "type", desc := "(I)I" } : Jvm.MethodName) ({ cls := "SharedSheet", name := "type", desc := "(I)I" } : Jvm.MethodName)) ∈ lw_all := lw_g (lw_at lw_m8 134 rfl) rfl
theorem q1900 : (Jvm.Cond.code ({ cls := "SharedSheet", name := "type", desc := "(I)I" } : Jvm.MethodName) prog_1_method_45_code (2 : Nat) (Option.some Jvm.ClassFile.FieldType.int)) ∈ lw_all := lw_g (lw_at lw_m8 135 rfl) rfl
theorem q1901 : (Jvm.Cond.methodLink "SharedSheet" (298 : Nat) ({ cls := "java/lang/StringBuilder", name := "append", desc := "(C)Ljava/lang/StringBuilder;" } : Jvm.MethodName)) ∈ lw_all := lw_g (lw_at lw_m8 136 rfl) rfl
theorem q1906 : (Jvm.Cond.instanceMethod ({ cls := "SharedSheet", name := "fault", desc := "(I)I" } : Jvm.MethodName)) ∈ lw_all := lw_g (lw_at lw_m8 141 rfl) rfl
theorem q1907 : (Jvm.Cond.selects "SharedSheet" ({ cls := "SharedSheet", name := "fault", desc := "(I)I" } : Jvm.MethodName) ({ cls := "SharedSheet", name := "fault", desc := "(I)I" } : Jvm.MethodName)) ∈ lw_all := lw_g (lw_at lw_m8 142 rfl) rfl
theorem q1908 : (Jvm.Cond.codeWith ({ cls := "SharedSheet", name := "fault", desc := "(I)I" } : Jvm.MethodName) prog_1_method_47_code (4 : Nat) (Option.some Jvm.ClassFile.FieldType.int) [((6 : Nat), (22 : Nat), (25 : Nat), (177 : Nat))]) ∈ lw_all := lw_g (lw_at lw_m8 143 rfl) rfl
theorem q1913 : (Jvm.Cond.instanceMethod ({ cls := "SharedSheet", name := "undo", desc := "()I" } : Jvm.MethodName)) ∈ lw_all := lw_g (lw_at lw_m8 148 rfl) rfl
theorem q1914 : (Jvm.Cond.selects "SharedSheet" ({ cls := "SharedSheet", name := "undo", desc := "()I" } : Jvm.MethodName) ({ cls := "SharedSheet", name := "undo", desc := "()I" } : Jvm.MethodName)) ∈ lw_all := lw_g (lw_at lw_m8 149 rfl) rfl
theorem q1915 : (Jvm.Cond.code ({ cls := "SharedSheet", name := "undo", desc := "()I" } : Jvm.MethodName) prog_1_method_49_code (1 : Nat) (Option.some Jvm.ClassFile.FieldType.int)) ∈ lw_all := lw_g (lw_at lw_m8 150 rfl) rfl
theorem q1916 : (Jvm.Cond.methodLink "SharedSheet" (308 : Nat) ({ cls := "java/util/ArrayDeque", name := "isEmpty", desc := "()Z" } : Jvm.MethodName)) ∈ lw_all := lw_g (lw_at lw_m8 151 rfl) rfl
theorem q1920 : (Jvm.Cond.methodLink "SharedSheet" (312 : Nat) ({ cls := "java/util/ArrayDeque", name := "removeLast", desc := "()Ljava/lang/Object;" } : Jvm.MethodName)) ∈ lw_all := lw_g (lw_at lw_m8 155 rfl) rfl
theorem q1931 : (Jvm.Cond.classLink "SharedSheet" (315 : Nat) "[LSharedSheet$Replica;") ∈ lw_all := lw_g (lw_at lw_m8 166 rfl) rfl
theorem q2399 : (Jvm.Cond.castable "SharedSheet" "java/lang/Object") ∈ lw_tbl := lw_at lw_m10 154 rfl
theorem in_X1 : ∀ w ∈ wsX10, w ∈ lw_all := lw_in wsX10 [433, 435, 437, 439] (by decide +kernel) (by decide +kernel)
