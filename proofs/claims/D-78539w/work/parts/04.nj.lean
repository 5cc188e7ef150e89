/-! java/util/ArrayList -/
set_option maxRecDepth 100000
def RJ7 : String := "java/util/ArrayList"
def TJ7 : u_T := fun k => match k with
  | 0 => ("java/util/AbstractList", "modCount", "I", false)
  | 1 => ("java/util/ArrayList", "elementData", "[Ljava/lang/Object;", false)
  | _ => ("java/util/ArrayList", "size", "I", false)
def tyJ7 : Nat → FieldType := fun k => match k with
  | 0 => .int
  | 1 => .array (.object "java/lang/Object")
  | _ => .int
abbrev wsJ70 : List Cond := u_ws RJ7 TJ7 3
theorem nmJ7 : ∀ a, a < 3 → ∀ b, b < 3 → a ≠ b → (TJ7 a).2.1 ≠ (TJ7 b).2.1 := by decide +kernel
theorem tyJ7_ok : ∀ k, k < 3 → parseFieldDescriptor (TJ7 k).2.2.1 = some (tyJ7 k) := by decide +kernel
abbrev cJ7_init : ByteArray := prog_46_method_2_code
def yJ7_init : MethodName := ⟨RJ7, "<init>", "()V"⟩
def dkwJ7_init_0 : List UInt8 := [42, 183, 0, 1, 42, 178, 0, 39, 181, 0, 9, 177]
abbrev dktJ7_init_0 : List UInt8 := dkwJ7_init_0 ++ []
theorem dksJ7_init_0 : cJ7_init.data.toList.drop 0 = dktJ7_init_0 := by decide +kernel
theorem dJ7_init_0 : decode cJ7_init 0 = .ok (.aload_n 0, 1) := dk_42 (dk_at dksJ7_init_0 0 rfl rfl)
theorem dJ7_init_1 : decode cJ7_init 1 = .ok (.invokespecial 1, 3) := dk_183 0 1 (dk_at dksJ7_init_0 1 rfl rfl)
theorem dJ7_init_4 : decode cJ7_init 4 = .ok (.aload_n 0, 1) := dk_42 (dk_at dksJ7_init_0 4 rfl rfl)
theorem dJ7_init_5 : decode cJ7_init 5 = .ok (.getstatic 39, 3) := dk_178 0 39 (dk_at dksJ7_init_0 5 rfl rfl)
theorem dJ7_init_8 : decode cJ7_init 8 = .ok (.putfield 9, 3) := dk_181 0 9 (dk_at dksJ7_init_0 8 rfl rfl)
theorem dJ7_init_11 : decode cJ7_init 11 = .ok (.return_, 1) := dk_177 (dk_at dksJ7_init_0 11 rfl rfl)
abbrev cJ7_add : ByteArray := prog_46_method_25_code
def yJ7_add : MethodName := ⟨RJ7, "add", "(Ljava/lang/Object;)Z"⟩
def dkwJ7_add_1 : List UInt8 := [172]
abbrev dktJ7_add_1 : List UInt8 := dkwJ7_add_1 ++ []
def dkwJ7_add_0 : List UInt8 := [42, 89, 180, 0, 63, 4, 96, 181, 0, 63, 42, 43, 42, 180, 0, 9, 42, 180, 0, 48, 182, 0, 131, 4]
abbrev dktJ7_add_0 : List UInt8 := dkwJ7_add_0 ++ dktJ7_add_1
theorem dksJ7_add_0 : cJ7_add.data.toList.drop 0 = dktJ7_add_0 := by decide +kernel
theorem dksJ7_add_1 : cJ7_add.data.toList.drop 24 = dktJ7_add_1 := dk_seg dksJ7_add_0 24 rfl rfl
theorem dJ7_add_0 : decode cJ7_add 0 = .ok (.aload_n 0, 1) := dk_42 (dk_at dksJ7_add_0 0 rfl rfl)
theorem dJ7_add_1 : decode cJ7_add 1 = .ok (.dup, 1) := dk_89 (dk_at dksJ7_add_0 1 rfl rfl)
theorem dJ7_add_2 : decode cJ7_add 2 = .ok (.getfield 63, 3) := dk_180 0 63 (dk_at dksJ7_add_0 2 rfl rfl)
theorem dJ7_add_5 : decode cJ7_add 5 = .ok (.iconst 1, 1) := dk_4 (dk_at dksJ7_add_0 5 rfl rfl)
theorem dJ7_add_6 : decode cJ7_add 6 = .ok (.iadd, 1) := dk_96 (dk_at dksJ7_add_0 6 rfl rfl)
theorem dJ7_add_7 : decode cJ7_add 7 = .ok (.putfield 63, 3) := dk_181 0 63 (dk_at dksJ7_add_0 7 rfl rfl)
theorem dJ7_add_10 : decode cJ7_add 10 = .ok (.aload_n 0, 1) := dk_42 (dk_at dksJ7_add_0 10 rfl rfl)
theorem dJ7_add_11 : decode cJ7_add 11 = .ok (.aload_n 1, 1) := dk_43 (dk_at dksJ7_add_0 11 rfl rfl)
theorem dJ7_add_12 : decode cJ7_add 12 = .ok (.aload_n 0, 1) := dk_42 (dk_at dksJ7_add_0 12 rfl rfl)
theorem dJ7_add_13 : decode cJ7_add 13 = .ok (.getfield 9, 3) := dk_180 0 9 (dk_at dksJ7_add_0 13 rfl rfl)
theorem dJ7_add_16 : decode cJ7_add 16 = .ok (.aload_n 0, 1) := dk_42 (dk_at dksJ7_add_0 16 rfl rfl)
theorem dJ7_add_17 : decode cJ7_add 17 = .ok (.getfield 48, 3) := dk_180 0 48 (dk_at dksJ7_add_0 17 rfl rfl)
theorem dJ7_add_20 : decode cJ7_add 20 = .ok (.invokevirtual 131, 3) := dk_182 0 131 (dk_at dksJ7_add_0 20 rfl rfl)
theorem dJ7_add_23 : decode cJ7_add 23 = .ok (.iconst 1, 1) := dk_4 (dk_at dksJ7_add_0 23 rfl rfl)
theorem dJ7_add_24 : decode cJ7_add 24 = .ok (.ireturn, 1) := dk_172 (dk_at dksJ7_add_1 0 rfl rfl)
abbrev cJ7_add_2 : ByteArray := prog_46_method_24_code
def yJ7_add_2 : MethodName := ⟨RJ7, "add", "(Ljava/lang/Object;[Ljava/lang/Object;I)V"⟩
def dkwJ7_add_2_0 : List UInt8 := [29, 44, 190, 160, 0, 8, 42, 182, 0, 129, 77, 44, 29, 43, 83, 42, 29, 4, 96, 181, 0, 48, 177]
abbrev dktJ7_add_2_0 : List UInt8 := dkwJ7_add_2_0 ++ []
theorem dksJ7_add_2_0 : cJ7_add_2.data.toList.drop 0 = dktJ7_add_2_0 := by decide +kernel
theorem dJ7_add_2_0 : decode cJ7_add_2 0 = .ok (.iload_n 3, 1) := dk_29 (dk_at dksJ7_add_2_0 0 rfl rfl)
theorem dJ7_add_2_1 : decode cJ7_add_2 1 = .ok (.aload_n 2, 1) := dk_44 (dk_at dksJ7_add_2_0 1 rfl rfl)
theorem dJ7_add_2_2 : decode cJ7_add_2 2 = .ok (.arraylength, 1) := dk_190 (dk_at dksJ7_add_2_0 2 rfl rfl)
theorem dJ7_add_2_3 : decode cJ7_add_2 3 = .ok (.if_icmp .ne 8, 3) := dk_160 0 8 (dk_at dksJ7_add_2_0 3 rfl rfl)
theorem dJ7_add_2_6 : decode cJ7_add_2 6 = .ok (.aload_n 0, 1) := dk_42 (dk_at dksJ7_add_2_0 6 rfl rfl)
theorem dJ7_add_2_7 : decode cJ7_add_2 7 = .ok (.invokevirtual 129, 3) := dk_182 0 129 (dk_at dksJ7_add_2_0 7 rfl rfl)
theorem dJ7_add_2_10 : decode cJ7_add_2 10 = .ok (.astore_n 2, 1) := dk_77 (dk_at dksJ7_add_2_0 10 rfl rfl)
theorem dJ7_add_2_11 : decode cJ7_add_2 11 = .ok (.aload_n 2, 1) := dk_44 (dk_at dksJ7_add_2_0 11 rfl rfl)
theorem dJ7_add_2_12 : decode cJ7_add_2 12 = .ok (.iload_n 3, 1) := dk_29 (dk_at dksJ7_add_2_0 12 rfl rfl)
theorem dJ7_add_2_13 : decode cJ7_add_2 13 = .ok (.aload_n 1, 1) := dk_43 (dk_at dksJ7_add_2_0 13 rfl rfl)
theorem dJ7_add_2_14 : decode cJ7_add_2 14 = .ok (.aastore, 1) := dk_83 (dk_at dksJ7_add_2_0 14 rfl rfl)
theorem dJ7_add_2_15 : decode cJ7_add_2 15 = .ok (.aload_n 0, 1) := dk_42 (dk_at dksJ7_add_2_0 15 rfl rfl)
theorem dJ7_add_2_16 : decode cJ7_add_2 16 = .ok (.iload_n 3, 1) := dk_29 (dk_at dksJ7_add_2_0 16 rfl rfl)
theorem dJ7_add_2_17 : decode cJ7_add_2 17 = .ok (.iconst 1, 1) := dk_4 (dk_at dksJ7_add_2_0 17 rfl rfl)
theorem dJ7_add_2_18 : decode cJ7_add_2 18 = .ok (.iadd, 1) := dk_96 (dk_at dksJ7_add_2_0 18 rfl rfl)
theorem dJ7_add_2_19 : decode cJ7_add_2 19 = .ok (.putfield 48, 3) := dk_181 0 48 (dk_at dksJ7_add_2_0 19 rfl rfl)
theorem dJ7_add_2_22 : decode cJ7_add_2 22 = .ok (.return_, 1) := dk_177 (dk_at dksJ7_add_2_0 22 rfl rfl)
abbrev cJ7_grow : ByteArray := prog_46_method_7_code
def yJ7_grow : MethodName := ⟨RJ7, "grow", "()[Ljava/lang/Object;"⟩
def dkwJ7_grow_0 : List UInt8 := [42, 42, 180, 0, 48, 4, 96, 182, 0, 69, 176]
abbrev dktJ7_grow_0 : List UInt8 := dkwJ7_grow_0 ++ []
theorem dksJ7_grow_0 : cJ7_grow.data.toList.drop 0 = dktJ7_grow_0 := by decide +kernel
theorem dJ7_grow_0 : decode cJ7_grow 0 = .ok (.aload_n 0, 1) := dk_42 (dk_at dksJ7_grow_0 0 rfl rfl)
theorem dJ7_grow_1 : decode cJ7_grow 1 = .ok (.aload_n 0, 1) := dk_42 (dk_at dksJ7_grow_0 1 rfl rfl)
theorem dJ7_grow_2 : decode cJ7_grow 2 = .ok (.getfield 48, 3) := dk_180 0 48 (dk_at dksJ7_grow_0 2 rfl rfl)
theorem dJ7_grow_5 : decode cJ7_grow 5 = .ok (.iconst 1, 1) := dk_4 (dk_at dksJ7_grow_0 5 rfl rfl)
theorem dJ7_grow_6 : decode cJ7_grow 6 = .ok (.iadd, 1) := dk_96 (dk_at dksJ7_grow_0 6 rfl rfl)
theorem dJ7_grow_7 : decode cJ7_grow 7 = .ok (.invokevirtual 69, 3) := dk_182 0 69 (dk_at dksJ7_grow_0 7 rfl rfl)
theorem dJ7_grow_10 : decode cJ7_grow 10 = .ok (.areturn, 1) := dk_176 (dk_at dksJ7_grow_0 10 rfl rfl)
abbrev cJ7_grow_2 : ByteArray := prog_46_method_6_code
def yJ7_grow_2 : MethodName := ⟨RJ7, "grow", "(I)[Ljava/lang/Object;"⟩
def dkwJ7_grow_2_2 : List UInt8 := [27, 184, 0, 79, 189, 0, 7, 90, 181, 0, 9, 176]
abbrev dktJ7_grow_2_2 : List UInt8 := dkwJ7_grow_2_2 ++ []
def dkwJ7_grow_2_1 : List UInt8 := [28, 4, 122, 184, 0, 73, 62, 42, 42, 180, 0, 9, 29, 184, 0, 66, 90, 181, 0, 9, 176, 42, 16, 10]
abbrev dktJ7_grow_2_1 : List UInt8 := dkwJ7_grow_2_1 ++ dktJ7_grow_2_2
def dkwJ7_grow_2_0 : List UInt8 := [42, 180, 0, 9, 190, 61, 28, 157, 0, 13, 42, 180, 0, 9, 178, 0, 39, 165, 0, 28, 28, 27, 28, 100]
abbrev dktJ7_grow_2_0 : List UInt8 := dkwJ7_grow_2_0 ++ dktJ7_grow_2_1
theorem dksJ7_grow_2_0 : cJ7_grow_2.data.toList.drop 0 = dktJ7_grow_2_0 := by decide +kernel
theorem dksJ7_grow_2_1 : cJ7_grow_2.data.toList.drop 24 = dktJ7_grow_2_1 := dk_seg dksJ7_grow_2_0 24 rfl rfl
theorem dksJ7_grow_2_2 : cJ7_grow_2.data.toList.drop 48 = dktJ7_grow_2_2 := dk_seg dksJ7_grow_2_1 24 rfl rfl
theorem dJ7_grow_2_0 : decode cJ7_grow_2 0 = .ok (.aload_n 0, 1) := dk_42 (dk_at dksJ7_grow_2_0 0 rfl rfl)
theorem dJ7_grow_2_1 : decode cJ7_grow_2 1 = .ok (.getfield 9, 3) := dk_180 0 9 (dk_at dksJ7_grow_2_0 1 rfl rfl)
theorem dJ7_grow_2_4 : decode cJ7_grow_2 4 = .ok (.arraylength, 1) := dk_190 (dk_at dksJ7_grow_2_0 4 rfl rfl)
theorem dJ7_grow_2_5 : decode cJ7_grow_2 5 = .ok (.istore_n 2, 1) := dk_61 (dk_at dksJ7_grow_2_0 5 rfl rfl)
theorem dJ7_grow_2_6 : decode cJ7_grow_2 6 = .ok (.iload_n 2, 1) := dk_28 (dk_at dksJ7_grow_2_0 6 rfl rfl)
theorem dJ7_grow_2_7 : decode cJ7_grow_2 7 = .ok (.ifCond .gt 13, 3) := dk_157 0 13 (dk_at dksJ7_grow_2_0 7 rfl rfl)
theorem dJ7_grow_2_10 : decode cJ7_grow_2 10 = .ok (.aload_n 0, 1) := dk_42 (dk_at dksJ7_grow_2_0 10 rfl rfl)
theorem dJ7_grow_2_11 : decode cJ7_grow_2 11 = .ok (.getfield 9, 3) := dk_180 0 9 (dk_at dksJ7_grow_2_0 11 rfl rfl)
theorem dJ7_grow_2_14 : decode cJ7_grow_2 14 = .ok (.getstatic 39, 3) := dk_178 0 39 (dk_at dksJ7_grow_2_0 14 rfl rfl)
theorem dJ7_grow_2_17 : decode cJ7_grow_2 17 = .ok (.if_acmp .eq 28, 3) := dk_165 0 28 (dk_at dksJ7_grow_2_0 17 rfl rfl)
theorem dJ7_grow_2_20 : decode cJ7_grow_2 20 = .ok (.iload_n 2, 1) := dk_28 (dk_at dksJ7_grow_2_0 20 rfl rfl)
theorem dJ7_grow_2_21 : decode cJ7_grow_2 21 = .ok (.iload_n 1, 1) := dk_27 (dk_at dksJ7_grow_2_0 21 rfl rfl)
theorem dJ7_grow_2_22 : decode cJ7_grow_2 22 = .ok (.iload_n 2, 1) := dk_28 (dk_at dksJ7_grow_2_0 22 rfl rfl)
theorem dJ7_grow_2_23 : decode cJ7_grow_2 23 = .ok (.isub, 1) := dk_100 (dk_at dksJ7_grow_2_0 23 rfl rfl)
theorem dJ7_grow_2_24 : decode cJ7_grow_2 24 = .ok (.iload_n 2, 1) := dk_28 (dk_at dksJ7_grow_2_1 0 rfl rfl)
theorem dJ7_grow_2_25 : decode cJ7_grow_2 25 = .ok (.iconst 1, 1) := dk_4 (dk_at dksJ7_grow_2_1 1 rfl rfl)
theorem dJ7_grow_2_26 : decode cJ7_grow_2 26 = .ok (.ishr, 1) := dk_122 (dk_at dksJ7_grow_2_1 2 rfl rfl)
theorem dJ7_grow_2_27 : decode cJ7_grow_2 27 = .ok (.invokestatic 73, 3) := dk_184 0 73 (dk_at dksJ7_grow_2_1 3 rfl rfl)
theorem dJ7_grow_2_30 : decode cJ7_grow_2 30 = .ok (.istore_n 3, 1) := dk_62 (dk_at dksJ7_grow_2_1 6 rfl rfl)
theorem dJ7_grow_2_31 : decode cJ7_grow_2 31 = .ok (.aload_n 0, 1) := dk_42 (dk_at dksJ7_grow_2_1 7 rfl rfl)
theorem dJ7_grow_2_32 : decode cJ7_grow_2 32 = .ok (.aload_n 0, 1) := dk_42 (dk_at dksJ7_grow_2_1 8 rfl rfl)
theorem dJ7_grow_2_33 : decode cJ7_grow_2 33 = .ok (.getfield 9, 3) := dk_180 0 9 (dk_at dksJ7_grow_2_1 9 rfl rfl)
theorem dJ7_grow_2_36 : decode cJ7_grow_2 36 = .ok (.iload_n 3, 1) := dk_29 (dk_at dksJ7_grow_2_1 12 rfl rfl)
theorem dJ7_grow_2_37 : decode cJ7_grow_2 37 = .ok (.invokestatic 66, 3) := dk_184 0 66 (dk_at dksJ7_grow_2_1 13 rfl rfl)
theorem dJ7_grow_2_40 : decode cJ7_grow_2 40 = .ok (.dup_x1, 1) := dk_90 (dk_at dksJ7_grow_2_1 16 rfl rfl)
theorem dJ7_grow_2_41 : decode cJ7_grow_2 41 = .ok (.putfield 9, 3) := dk_181 0 9 (dk_at dksJ7_grow_2_1 17 rfl rfl)
theorem dJ7_grow_2_44 : decode cJ7_grow_2 44 = .ok (.areturn, 1) := dk_176 (dk_at dksJ7_grow_2_1 20 rfl rfl)
theorem dJ7_grow_2_45 : decode cJ7_grow_2 45 = .ok (.aload_n 0, 1) := dk_42 (dk_at dksJ7_grow_2_1 21 rfl rfl)
theorem dJ7_grow_2_46 : decode cJ7_grow_2 46 = .ok (.bipush 10, 2) := dk_16 10 (dk_at dksJ7_grow_2_1 22 rfl rfl)
theorem dJ7_grow_2_48 : decode cJ7_grow_2 48 = .ok (.iload_n 1, 1) := dk_27 (dk_at dksJ7_grow_2_2 0 rfl rfl)
theorem dJ7_grow_2_49 : decode cJ7_grow_2 49 = .ok (.invokestatic 79, 3) := dk_184 0 79 (dk_at dksJ7_grow_2_2 1 rfl rfl)
theorem dJ7_grow_2_52 : decode cJ7_grow_2 52 = .ok (.anewarray 7, 3) := dk_189 0 7 (dk_at dksJ7_grow_2_2 4 rfl rfl)
theorem dJ7_grow_2_55 : decode cJ7_grow_2 55 = .ok (.dup_x1, 1) := dk_90 (dk_at dksJ7_grow_2_2 7 rfl rfl)
theorem dJ7_grow_2_56 : decode cJ7_grow_2 56 = .ok (.putfield 9, 3) := dk_181 0 9 (dk_at dksJ7_grow_2_2 8 rfl rfl)
theorem dJ7_grow_2_59 : decode cJ7_grow_2 59 = .ok (.areturn, 1) := dk_176 (dk_at dksJ7_grow_2_2 11 rfl rfl)
abbrev cJ7_get : ByteArray := prog_46_method_20_code
def yJ7_get : MethodName := ⟨RJ7, "get", "(I)Ljava/lang/Object;"⟩
def dkwJ7_get_0 : List UInt8 := [27, 42, 180, 0, 48, 184, 0, 118, 87, 42, 27, 182, 0, 123, 176]
abbrev dktJ7_get_0 : List UInt8 := dkwJ7_get_0 ++ []
theorem dksJ7_get_0 : cJ7_get.data.toList.drop 0 = dktJ7_get_0 := by decide +kernel
theorem dJ7_get_0 : decode cJ7_get 0 = .ok (.iload_n 1, 1) := dk_27 (dk_at dksJ7_get_0 0 rfl rfl)
theorem dJ7_get_1 : decode cJ7_get 1 = .ok (.aload_n 0, 1) := dk_42 (dk_at dksJ7_get_0 1 rfl rfl)
theorem dJ7_get_2 : decode cJ7_get 2 = .ok (.getfield 48, 3) := dk_180 0 48 (dk_at dksJ7_get_0 2 rfl rfl)
theorem dJ7_get_5 : decode cJ7_get 5 = .ok (.invokestatic 118, 3) := dk_184 0 118 (dk_at dksJ7_get_0 5 rfl rfl)
theorem dJ7_get_8 : decode cJ7_get 8 = .ok (.pop, 1) := dk_87 (dk_at dksJ7_get_0 8 rfl rfl)
theorem dJ7_get_9 : decode cJ7_get 9 = .ok (.aload_n 0, 1) := dk_42 (dk_at dksJ7_get_0 9 rfl rfl)
theorem dJ7_get_10 : decode cJ7_get 10 = .ok (.iload_n 1, 1) := dk_27 (dk_at dksJ7_get_0 10 rfl rfl)
theorem dJ7_get_11 : decode cJ7_get 11 = .ok (.invokevirtual 123, 3) := dk_182 0 123 (dk_at dksJ7_get_0 11 rfl rfl)
theorem dJ7_get_14 : decode cJ7_get 14 = .ok (.areturn, 1) := dk_176 (dk_at dksJ7_get_0 14 rfl rfl)
abbrev cJ7_elementData : ByteArray := prog_46_method_18_code
def yJ7_elementData : MethodName := ⟨RJ7, "elementData", "(I)Ljava/lang/Object;"⟩
def dkwJ7_elementData_0 : List UInt8 := [42, 180, 0, 9, 27, 50, 176]
abbrev dktJ7_elementData_0 : List UInt8 := dkwJ7_elementData_0 ++ []
theorem dksJ7_elementData_0 : cJ7_elementData.data.toList.drop 0 = dktJ7_elementData_0 := by decide +kernel
theorem dJ7_elementData_0 : decode cJ7_elementData 0 = .ok (.aload_n 0, 1) := dk_42 (dk_at dksJ7_elementData_0 0 rfl rfl)
theorem dJ7_elementData_1 : decode cJ7_elementData 1 = .ok (.getfield 9, 3) := dk_180 0 9 (dk_at dksJ7_elementData_0 1 rfl rfl)
theorem dJ7_elementData_4 : decode cJ7_elementData 4 = .ok (.iload_n 1, 1) := dk_27 (dk_at dksJ7_elementData_0 4 rfl rfl)
theorem dJ7_elementData_5 : decode cJ7_elementData 5 = .ok (.aaload, 1) := dk_50 (dk_at dksJ7_elementData_0 5 rfl rfl)
theorem dJ7_elementData_6 : decode cJ7_elementData 6 = .ok (.areturn, 1) := dk_176 (dk_at dksJ7_elementData_0 6 rfl rfl)
abbrev cJ7_size : ByteArray := prog_46_method_8_code
def yJ7_size : MethodName := ⟨RJ7, "size", "()I"⟩
theorem dJ7_size_0 : decode cJ7_size 0 = .ok (.aload_n 0, 1) := by decide +kernel
theorem dJ7_size_1 : decode cJ7_size 1 = .ok (.getfield 48, 3) := by decide +kernel
theorem dJ7_size_4 : decode cJ7_size 4 = .ok (.ireturn, 1) := by decide +kernel
abbrev cJ7_add_3 : ByteArray := prog_46_method_26_code
def yJ7_add_3 : MethodName := ⟨RJ7, "add", "(ILjava/lang/Object;)V"⟩
def dkwJ7_add_3_2 : List UInt8 := [29, 27, 100, 184, 0, 112, 25, 4, 27, 44, 83, 42, 29, 4, 96, 181, 0, 48, 177]
abbrev dktJ7_add_3_2 : List UInt8 := dkwJ7_add_3_2 ++ []
def dkwJ7_add_3_1 : List UInt8 := [180, 0, 9, 89, 58, 4, 190, 160, 0, 9, 42, 182, 0, 129, 58, 4, 25, 4, 27, 25, 4, 27, 4, 96]
abbrev dktJ7_add_3_1 : List UInt8 := dkwJ7_add_3_1 ++ dktJ7_add_3_2
def dkwJ7_add_3_0 : List UInt8 := [42, 27, 182, 0, 135, 42, 89, 180, 0, 63, 4, 96, 181, 0, 63, 42, 180, 0, 48, 89, 62, 42]
abbrev dktJ7_add_3_0 : List UInt8 := dkwJ7_add_3_0 ++ dktJ7_add_3_1
theorem dksJ7_add_3_0 : cJ7_add_3.data.toList.drop 0 = dktJ7_add_3_0 := by decide +kernel
theorem dksJ7_add_3_1 : cJ7_add_3.data.toList.drop 22 = dktJ7_add_3_1 := dk_seg dksJ7_add_3_0 22 rfl rfl
theorem dksJ7_add_3_2 : cJ7_add_3.data.toList.drop 46 = dktJ7_add_3_2 := dk_seg dksJ7_add_3_1 24 rfl rfl
theorem dJ7_add_3_0 : decode cJ7_add_3 0 = .ok (.aload_n 0, 1) := dk_42 (dk_at dksJ7_add_3_0 0 rfl rfl)
theorem dJ7_add_3_1 : decode cJ7_add_3 1 = .ok (.iload_n 1, 1) := dk_27 (dk_at dksJ7_add_3_0 1 rfl rfl)
theorem dJ7_add_3_2 : decode cJ7_add_3 2 = .ok (.invokevirtual 135, 3) := dk_182 0 135 (dk_at dksJ7_add_3_0 2 rfl rfl)
theorem dJ7_add_3_5 : decode cJ7_add_3 5 = .ok (.aload_n 0, 1) := dk_42 (dk_at dksJ7_add_3_0 5 rfl rfl)
theorem dJ7_add_3_6 : decode cJ7_add_3 6 = .ok (.dup, 1) := dk_89 (dk_at dksJ7_add_3_0 6 rfl rfl)
theorem dJ7_add_3_7 : decode cJ7_add_3 7 = .ok (.getfield 63, 3) := dk_180 0 63 (dk_at dksJ7_add_3_0 7 rfl rfl)
theorem dJ7_add_3_10 : decode cJ7_add_3 10 = .ok (.iconst 1, 1) := dk_4 (dk_at dksJ7_add_3_0 10 rfl rfl)
theorem dJ7_add_3_11 : decode cJ7_add_3 11 = .ok (.iadd, 1) := dk_96 (dk_at dksJ7_add_3_0 11 rfl rfl)
theorem dJ7_add_3_12 : decode cJ7_add_3 12 = .ok (.putfield 63, 3) := dk_181 0 63 (dk_at dksJ7_add_3_0 12 rfl rfl)
theorem dJ7_add_3_15 : decode cJ7_add_3 15 = .ok (.aload_n 0, 1) := dk_42 (dk_at dksJ7_add_3_0 15 rfl rfl)
theorem dJ7_add_3_16 : decode cJ7_add_3 16 = .ok (.getfield 48, 3) := dk_180 0 48 (dk_at dksJ7_add_3_0 16 rfl rfl)
theorem dJ7_add_3_19 : decode cJ7_add_3 19 = .ok (.dup, 1) := dk_89 (dk_at dksJ7_add_3_0 19 rfl rfl)
theorem dJ7_add_3_20 : decode cJ7_add_3 20 = .ok (.istore_n 3, 1) := dk_62 (dk_at dksJ7_add_3_0 20 rfl rfl)
theorem dJ7_add_3_21 : decode cJ7_add_3 21 = .ok (.aload_n 0, 1) := dk_42 (dk_at dksJ7_add_3_0 21 rfl rfl)
theorem dJ7_add_3_22 : decode cJ7_add_3 22 = .ok (.getfield 9, 3) := dk_180 0 9 (dk_at dksJ7_add_3_1 0 rfl rfl)
theorem dJ7_add_3_25 : decode cJ7_add_3 25 = .ok (.dup, 1) := dk_89 (dk_at dksJ7_add_3_1 3 rfl rfl)
theorem dJ7_add_3_26 : decode cJ7_add_3 26 = .ok (.astore 4, 2) := dk_58 4 (dk_at dksJ7_add_3_1 4 rfl rfl)
theorem dJ7_add_3_28 : decode cJ7_add_3 28 = .ok (.arraylength, 1) := dk_190 (dk_at dksJ7_add_3_1 6 rfl rfl)
theorem dJ7_add_3_29 : decode cJ7_add_3 29 = .ok (.if_icmp .ne 9, 3) := dk_160 0 9 (dk_at dksJ7_add_3_1 7 rfl rfl)
theorem dJ7_add_3_32 : decode cJ7_add_3 32 = .ok (.aload_n 0, 1) := dk_42 (dk_at dksJ7_add_3_1 10 rfl rfl)
theorem dJ7_add_3_33 : decode cJ7_add_3 33 = .ok (.invokevirtual 129, 3) := dk_182 0 129 (dk_at dksJ7_add_3_1 11 rfl rfl)
theorem dJ7_add_3_36 : decode cJ7_add_3 36 = .ok (.astore 4, 2) := dk_58 4 (dk_at dksJ7_add_3_1 14 rfl rfl)
theorem dJ7_add_3_38 : decode cJ7_add_3 38 = .ok (.aload 4, 2) := dk_25 4 (dk_at dksJ7_add_3_1 16 rfl rfl)
theorem dJ7_add_3_40 : decode cJ7_add_3 40 = .ok (.iload_n 1, 1) := dk_27 (dk_at dksJ7_add_3_1 18 rfl rfl)
theorem dJ7_add_3_41 : decode cJ7_add_3 41 = .ok (.aload 4, 2) := dk_25 4 (dk_at dksJ7_add_3_1 19 rfl rfl)
theorem dJ7_add_3_43 : decode cJ7_add_3 43 = .ok (.iload_n 1, 1) := dk_27 (dk_at dksJ7_add_3_1 21 rfl rfl)
theorem dJ7_add_3_44 : decode cJ7_add_3 44 = .ok (.iconst 1, 1) := dk_4 (dk_at dksJ7_add_3_1 22 rfl rfl)
theorem dJ7_add_3_45 : decode cJ7_add_3 45 = .ok (.iadd, 1) := dk_96 (dk_at dksJ7_add_3_1 23 rfl rfl)
theorem dJ7_add_3_46 : decode cJ7_add_3 46 = .ok (.iload_n 3, 1) := dk_29 (dk_at dksJ7_add_3_2 0 rfl rfl)
theorem dJ7_add_3_47 : decode cJ7_add_3 47 = .ok (.iload_n 1, 1) := dk_27 (dk_at dksJ7_add_3_2 1 rfl rfl)
theorem dJ7_add_3_48 : decode cJ7_add_3 48 = .ok (.isub, 1) := dk_100 (dk_at dksJ7_add_3_2 2 rfl rfl)
theorem dJ7_add_3_49 : decode cJ7_add_3 49 = .ok (.invokestatic 112, 3) := dk_184 0 112 (dk_at dksJ7_add_3_2 3 rfl rfl)
theorem dJ7_add_3_52 : decode cJ7_add_3 52 = .ok (.aload 4, 2) := dk_25 4 (dk_at dksJ7_add_3_2 6 rfl rfl)
theorem dJ7_add_3_54 : decode cJ7_add_3 54 = .ok (.iload_n 1, 1) := dk_27 (dk_at dksJ7_add_3_2 8 rfl rfl)
theorem dJ7_add_3_55 : decode cJ7_add_3 55 = .ok (.aload_n 2, 1) := dk_44 (dk_at dksJ7_add_3_2 9 rfl rfl)
theorem dJ7_add_3_56 : decode cJ7_add_3 56 = .ok (.aastore, 1) := dk_83 (dk_at dksJ7_add_3_2 10 rfl rfl)
theorem dJ7_add_3_57 : decode cJ7_add_3 57 = .ok (.aload_n 0, 1) := dk_42 (dk_at dksJ7_add_3_2 11 rfl rfl)
theorem dJ7_add_3_58 : decode cJ7_add_3 58 = .ok (.iload_n 3, 1) := dk_29 (dk_at dksJ7_add_3_2 12 rfl rfl)
theorem dJ7_add_3_59 : decode cJ7_add_3 59 = .ok (.iconst 1, 1) := dk_4 (dk_at dksJ7_add_3_2 13 rfl rfl)
theorem dJ7_add_3_60 : decode cJ7_add_3 60 = .ok (.iadd, 1) := dk_96 (dk_at dksJ7_add_3_2 14 rfl rfl)
theorem dJ7_add_3_61 : decode cJ7_add_3 61 = .ok (.putfield 48, 3) := dk_181 0 48 (dk_at dksJ7_add_3_2 15 rfl rfl)
theorem dJ7_add_3_64 : decode cJ7_add_3 64 = .ok (.return_, 1) := dk_177 (dk_at dksJ7_add_3_2 18 rfl rfl)
abbrev cJ7_rangeCheckForAdd : ByteArray := prog_46_method_45_code
def yJ7_rangeCheckForAdd : MethodName := ⟨RJ7, "rangeCheckForAdd", "(I)V"⟩
def dkwJ7_rangeCheckForAdd_1 : List UInt8 := [191, 177]
abbrev dktJ7_rangeCheckForAdd_1 : List UInt8 := dkwJ7_rangeCheckForAdd_1 ++ []
def dkwJ7_rangeCheckForAdd_0 : List UInt8 := [27, 42, 180, 0, 48, 163, 0, 7, 27, 156, 0, 16, 187, 0, 187, 89, 42, 27, 182, 0, 198, 183, 0, 193]
abbrev dktJ7_rangeCheckForAdd_0 : List UInt8 := dkwJ7_rangeCheckForAdd_0 ++ dktJ7_rangeCheckForAdd_1
theorem dksJ7_rangeCheckForAdd_0 : cJ7_rangeCheckForAdd.data.toList.drop 0 = dktJ7_rangeCheckForAdd_0 := by decide +kernel
theorem dksJ7_rangeCheckForAdd_1 : cJ7_rangeCheckForAdd.data.toList.drop 24 = dktJ7_rangeCheckForAdd_1 := dk_seg dksJ7_rangeCheckForAdd_0 24 rfl rfl
theorem dJ7_rangeCheckForAdd_0 : decode cJ7_rangeCheckForAdd 0 = .ok (.iload_n 1, 1) := dk_27 (dk_at dksJ7_rangeCheckForAdd_0 0 rfl rfl)
theorem dJ7_rangeCheckForAdd_1 : decode cJ7_rangeCheckForAdd 1 = .ok (.aload_n 0, 1) := dk_42 (dk_at dksJ7_rangeCheckForAdd_0 1 rfl rfl)
theorem dJ7_rangeCheckForAdd_2 : decode cJ7_rangeCheckForAdd 2 = .ok (.getfield 48, 3) := dk_180 0 48 (dk_at dksJ7_rangeCheckForAdd_0 2 rfl rfl)
theorem dJ7_rangeCheckForAdd_5 : decode cJ7_rangeCheckForAdd 5 = .ok (.if_icmp .gt 7, 3) := dk_163 0 7 (dk_at dksJ7_rangeCheckForAdd_0 5 rfl rfl)
theorem dJ7_rangeCheckForAdd_8 : decode cJ7_rangeCheckForAdd 8 = .ok (.iload_n 1, 1) := dk_27 (dk_at dksJ7_rangeCheckForAdd_0 8 rfl rfl)
theorem dJ7_rangeCheckForAdd_9 : decode cJ7_rangeCheckForAdd 9 = .ok (.ifCond .ge 16, 3) := dk_156 0 16 (dk_at dksJ7_rangeCheckForAdd_0 9 rfl rfl)
theorem dJ7_rangeCheckForAdd_12 : decode cJ7_rangeCheckForAdd 12 = .ok (.new 187, 3) := dk_187 0 187 (dk_at dksJ7_rangeCheckForAdd_0 12 rfl rfl)
theorem dJ7_rangeCheckForAdd_15 : decode cJ7_rangeCheckForAdd 15 = .ok (.dup, 1) := dk_89 (dk_at dksJ7_rangeCheckForAdd_0 15 rfl rfl)
theorem dJ7_rangeCheckForAdd_16 : decode cJ7_rangeCheckForAdd 16 = .ok (.aload_n 0, 1) := dk_42 (dk_at dksJ7_rangeCheckForAdd_0 16 rfl rfl)
theorem dJ7_rangeCheckForAdd_17 : decode cJ7_rangeCheckForAdd 17 = .ok (.iload_n 1, 1) := dk_27 (dk_at dksJ7_rangeCheckForAdd_0 17 rfl rfl)
theorem dJ7_rangeCheckForAdd_18 : decode cJ7_rangeCheckForAdd 18 = .ok (.invokevirtual 198, 3) := dk_182 0 198 (dk_at dksJ7_rangeCheckForAdd_0 18 rfl rfl)
theorem dJ7_rangeCheckForAdd_21 : decode cJ7_rangeCheckForAdd 21 = .ok (.invokespecial 193, 3) := dk_183 0 193 (dk_at dksJ7_rangeCheckForAdd_0 21 rfl rfl)
theorem dJ7_rangeCheckForAdd_24 : decode cJ7_rangeCheckForAdd 24 = .ok (.athrow, 1) := dk_191 (dk_at dksJ7_rangeCheckForAdd_1 0 rfl rfl)
theorem dJ7_rangeCheckForAdd_25 : decode cJ7_rangeCheckForAdd 25 = .ok (.return_, 1) := dk_177 (dk_at dksJ7_rangeCheckForAdd_1 1 rfl rfl)
abbrev cJ7_outOfBoundsMsg : ByteArray := prog_46_method_46_code
def yJ7_outOfBoundsMsg : MethodName := ⟨RJ7, "outOfBoundsMsg", "(I)Ljava/lang/String;"⟩
def dkwJ7_outOfBoundsMsg_1 : List UInt8 := [180, 0, 48, 182, 0, 29, 182, 0, 32, 176]
abbrev dktJ7_outOfBoundsMsg_1 : List UInt8 := dkwJ7_outOfBoundsMsg_1 ++ []
def dkwJ7_outOfBoundsMsg_0 : List UInt8 := [187, 0, 20, 89, 183, 0, 22, 18, 201, 182, 0, 25, 27, 182, 0, 29, 18, 203, 182, 0, 25, 42]
abbrev dktJ7_outOfBoundsMsg_0 : List UInt8 := dkwJ7_outOfBoundsMsg_0 ++ dktJ7_outOfBoundsMsg_1
theorem dksJ7_outOfBoundsMsg_0 : cJ7_outOfBoundsMsg.data.toList.drop 0 = dktJ7_outOfBoundsMsg_0 := by decide +kernel
theorem dksJ7_outOfBoundsMsg_1 : cJ7_outOfBoundsMsg.data.toList.drop 22 = dktJ7_outOfBoundsMsg_1 := dk_seg dksJ7_outOfBoundsMsg_0 22 rfl rfl
theorem dJ7_outOfBoundsMsg_0 : decode cJ7_outOfBoundsMsg 0 = .ok (.new 20, 3) := dk_187 0 20 (dk_at dksJ7_outOfBoundsMsg_0 0 rfl rfl)
theorem dJ7_outOfBoundsMsg_3 : decode cJ7_outOfBoundsMsg 3 = .ok (.dup, 1) := dk_89 (dk_at dksJ7_outOfBoundsMsg_0 3 rfl rfl)
theorem dJ7_outOfBoundsMsg_4 : decode cJ7_outOfBoundsMsg 4 = .ok (.invokespecial 22, 3) := dk_183 0 22 (dk_at dksJ7_outOfBoundsMsg_0 4 rfl rfl)
theorem dJ7_outOfBoundsMsg_7 : decode cJ7_outOfBoundsMsg 7 = .ok (.ldc 201, 2) := dk_18 201 (dk_at dksJ7_outOfBoundsMsg_0 7 rfl rfl)
theorem dJ7_outOfBoundsMsg_9 : decode cJ7_outOfBoundsMsg 9 = .ok (.invokevirtual 25, 3) := dk_182 0 25 (dk_at dksJ7_outOfBoundsMsg_0 9 rfl rfl)
theorem dJ7_outOfBoundsMsg_12 : decode cJ7_outOfBoundsMsg 12 = .ok (.iload_n 1, 1) := dk_27 (dk_at dksJ7_outOfBoundsMsg_0 12 rfl rfl)
theorem dJ7_outOfBoundsMsg_13 : decode cJ7_outOfBoundsMsg 13 = .ok (.invokevirtual 29, 3) := dk_182 0 29 (dk_at dksJ7_outOfBoundsMsg_0 13 rfl rfl)
theorem dJ7_outOfBoundsMsg_16 : decode cJ7_outOfBoundsMsg 16 = .ok (.ldc 203, 2) := dk_18 203 (dk_at dksJ7_outOfBoundsMsg_0 16 rfl rfl)
theorem dJ7_outOfBoundsMsg_18 : decode cJ7_outOfBoundsMsg 18 = .ok (.invokevirtual 25, 3) := dk_182 0 25 (dk_at dksJ7_outOfBoundsMsg_0 18 rfl rfl)
theorem dJ7_outOfBoundsMsg_21 : decode cJ7_outOfBoundsMsg 21 = .ok (.aload_n 0, 1) := dk_42 (dk_at dksJ7_outOfBoundsMsg_0 21 rfl rfl)
theorem dJ7_outOfBoundsMsg_22 : decode cJ7_outOfBoundsMsg 22 = .ok (.getfield 48, 3) := dk_180 0 48 (dk_at dksJ7_outOfBoundsMsg_1 0 rfl rfl)
theorem dJ7_outOfBoundsMsg_25 : decode cJ7_outOfBoundsMsg 25 = .ok (.invokevirtual 29, 3) := dk_182 0 29 (dk_at dksJ7_outOfBoundsMsg_1 3 rfl rfl)
theorem dJ7_outOfBoundsMsg_28 : decode cJ7_outOfBoundsMsg 28 = .ok (.invokevirtual 32, 3) := dk_182 0 32 (dk_at dksJ7_outOfBoundsMsg_1 6 rfl rfl)
theorem dJ7_outOfBoundsMsg_31 : decode cJ7_outOfBoundsMsg 31 = .ok (.areturn, 1) := dk_176 (dk_at dksJ7_outOfBoundsMsg_1 9 rfl rfl)
abbrev cJ7_remove : ByteArray := prog_46_method_29_code
def yJ7_remove : MethodName := ⟨RJ7, "remove", "(I)Ljava/lang/Object;"⟩
def dkwJ7_remove_1 : List UInt8 := [45, 176]
abbrev dktJ7_remove_1 : List UInt8 := dkwJ7_remove_1 ++ []
def dkwJ7_remove_0 : List UInt8 := [27, 42, 180, 0, 48, 184, 0, 118, 87, 42, 180, 0, 9, 77, 44, 27, 50, 78, 42, 44, 27, 182, 0, 144]
abbrev dktJ7_remove_0 : List UInt8 := dkwJ7_remove_0 ++ dktJ7_remove_1
theorem dksJ7_remove_0 : cJ7_remove.data.toList.drop 0 = dktJ7_remove_0 := by decide +kernel
theorem dksJ7_remove_1 : cJ7_remove.data.toList.drop 24 = dktJ7_remove_1 := dk_seg dksJ7_remove_0 24 rfl rfl
theorem dJ7_remove_0 : decode cJ7_remove 0 = .ok (.iload_n 1, 1) := dk_27 (dk_at dksJ7_remove_0 0 rfl rfl)
theorem dJ7_remove_1 : decode cJ7_remove 1 = .ok (.aload_n 0, 1) := dk_42 (dk_at dksJ7_remove_0 1 rfl rfl)
theorem dJ7_remove_2 : decode cJ7_remove 2 = .ok (.getfield 48, 3) := dk_180 0 48 (dk_at dksJ7_remove_0 2 rfl rfl)
theorem dJ7_remove_5 : decode cJ7_remove 5 = .ok (.invokestatic 118, 3) := dk_184 0 118 (dk_at dksJ7_remove_0 5 rfl rfl)
theorem dJ7_remove_8 : decode cJ7_remove 8 = .ok (.pop, 1) := dk_87 (dk_at dksJ7_remove_0 8 rfl rfl)
theorem dJ7_remove_9 : decode cJ7_remove 9 = .ok (.aload_n 0, 1) := dk_42 (dk_at dksJ7_remove_0 9 rfl rfl)
theorem dJ7_remove_10 : decode cJ7_remove 10 = .ok (.getfield 9, 3) := dk_180 0 9 (dk_at dksJ7_remove_0 10 rfl rfl)
theorem dJ7_remove_13 : decode cJ7_remove 13 = .ok (.astore_n 2, 1) := dk_77 (dk_at dksJ7_remove_0 13 rfl rfl)
theorem dJ7_remove_14 : decode cJ7_remove 14 = .ok (.aload_n 2, 1) := dk_44 (dk_at dksJ7_remove_0 14 rfl rfl)
theorem dJ7_remove_15 : decode cJ7_remove 15 = .ok (.iload_n 1, 1) := dk_27 (dk_at dksJ7_remove_0 15 rfl rfl)
theorem dJ7_remove_16 : decode cJ7_remove 16 = .ok (.aaload, 1) := dk_50 (dk_at dksJ7_remove_0 16 rfl rfl)
theorem dJ7_remove_17 : decode cJ7_remove 17 = .ok (.astore_n 3, 1) := dk_78 (dk_at dksJ7_remove_0 17 rfl rfl)
theorem dJ7_remove_18 : decode cJ7_remove 18 = .ok (.aload_n 0, 1) := dk_42 (dk_at dksJ7_remove_0 18 rfl rfl)
theorem dJ7_remove_19 : decode cJ7_remove 19 = .ok (.aload_n 2, 1) := dk_44 (dk_at dksJ7_remove_0 19 rfl rfl)
theorem dJ7_remove_20 : decode cJ7_remove 20 = .ok (.iload_n 1, 1) := dk_27 (dk_at dksJ7_remove_0 20 rfl rfl)
theorem dJ7_remove_21 : decode cJ7_remove 21 = .ok (.invokevirtual 144, 3) := dk_182 0 144 (dk_at dksJ7_remove_0 21 rfl rfl)
theorem dJ7_remove_24 : decode cJ7_remove 24 = .ok (.aload_n 3, 1) := dk_45 (dk_at dksJ7_remove_1 0 rfl rfl)
theorem dJ7_remove_25 : decode cJ7_remove 25 = .ok (.areturn, 1) := dk_176 (dk_at dksJ7_remove_1 1 rfl rfl)
abbrev cJ7_fastRemove : ByteArray := prog_46_method_39_code
def yJ7_fastRemove : MethodName := ⟨RJ7, "fastRemove", "([Ljava/lang/Object;I)V"⟩
def dkwJ7_fastRemove_1 : List UInt8 := [4, 96, 43, 28, 29, 28, 100, 184, 0, 112, 43, 42, 29, 90, 181, 0, 48, 1, 83, 177]
abbrev dktJ7_fastRemove_1 : List UInt8 := dkwJ7_fastRemove_1 ++ []
def dkwJ7_fastRemove_0 : List UInt8 := [42, 89, 180, 0, 63, 4, 96, 181, 0, 63, 42, 180, 0, 48, 4, 100, 89, 62, 28, 164, 0, 15, 43, 28]
abbrev dktJ7_fastRemove_0 : List UInt8 := dkwJ7_fastRemove_0 ++ dktJ7_fastRemove_1
theorem dksJ7_fastRemove_0 : cJ7_fastRemove.data.toList.drop 0 = dktJ7_fastRemove_0 := by decide +kernel
theorem dksJ7_fastRemove_1 : cJ7_fastRemove.data.toList.drop 24 = dktJ7_fastRemove_1 := dk_seg dksJ7_fastRemove_0 24 rfl rfl
theorem dJ7_fastRemove_0 : decode cJ7_fastRemove 0 = .ok (.aload_n 0, 1) := dk_42 (dk_at dksJ7_fastRemove_0 0 rfl rfl)
theorem dJ7_fastRemove_1 : decode cJ7_fastRemove 1 = .ok (.dup, 1) := dk_89 (dk_at dksJ7_fastRemove_0 1 rfl rfl)
theorem dJ7_fastRemove_2 : decode cJ7_fastRemove 2 = .ok (.getfield 63, 3) := dk_180 0 63 (dk_at dksJ7_fastRemove_0 2 rfl rfl)
theorem dJ7_fastRemove_5 : decode cJ7_fastRemove 5 = .ok (.iconst 1, 1) := dk_4 (dk_at dksJ7_fastRemove_0 5 rfl rfl)
theorem dJ7_fastRemove_6 : decode cJ7_fastRemove 6 = .ok (.iadd, 1) := dk_96 (dk_at dksJ7_fastRemove_0 6 rfl rfl)
theorem dJ7_fastRemove_7 : decode cJ7_fastRemove 7 = .ok (.putfield 63, 3) := dk_181 0 63 (dk_at dksJ7_fastRemove_0 7 rfl rfl)
theorem dJ7_fastRemove_10 : decode cJ7_fastRemove 10 = .ok (.aload_n 0, 1) := dk_42 (dk_at dksJ7_fastRemove_0 10 rfl rfl)
theorem dJ7_fastRemove_11 : decode cJ7_fastRemove 11 = .ok (.getfield 48, 3) := dk_180 0 48 (dk_at dksJ7_fastRemove_0 11 rfl rfl)
theorem dJ7_fastRemove_14 : decode cJ7_fastRemove 14 = .ok (.iconst 1, 1) := dk_4 (dk_at dksJ7_fastRemove_0 14 rfl rfl)
theorem dJ7_fastRemove_15 : decode cJ7_fastRemove 15 = .ok (.isub, 1) := dk_100 (dk_at dksJ7_fastRemove_0 15 rfl rfl)
theorem dJ7_fastRemove_16 : decode cJ7_fastRemove 16 = .ok (.dup, 1) := dk_89 (dk_at dksJ7_fastRemove_0 16 rfl rfl)
theorem dJ7_fastRemove_17 : decode cJ7_fastRemove 17 = .ok (.istore_n 3, 1) := dk_62 (dk_at dksJ7_fastRemove_0 17 rfl rfl)
theorem dJ7_fastRemove_18 : decode cJ7_fastRemove 18 = .ok (.iload_n 2, 1) := dk_28 (dk_at dksJ7_fastRemove_0 18 rfl rfl)
theorem dJ7_fastRemove_19 : decode cJ7_fastRemove 19 = .ok (.if_icmp .le 15, 3) := dk_164 0 15 (dk_at dksJ7_fastRemove_0 19 rfl rfl)
theorem dJ7_fastRemove_22 : decode cJ7_fastRemove 22 = .ok (.aload_n 1, 1) := dk_43 (dk_at dksJ7_fastRemove_0 22 rfl rfl)
theorem dJ7_fastRemove_23 : decode cJ7_fastRemove 23 = .ok (.iload_n 2, 1) := dk_28 (dk_at dksJ7_fastRemove_0 23 rfl rfl)
theorem dJ7_fastRemove_24 : decode cJ7_fastRemove 24 = .ok (.iconst 1, 1) := dk_4 (dk_at dksJ7_fastRemove_1 0 rfl rfl)
theorem dJ7_fastRemove_25 : decode cJ7_fastRemove 25 = .ok (.iadd, 1) := dk_96 (dk_at dksJ7_fastRemove_1 1 rfl rfl)
theorem dJ7_fastRemove_26 : decode cJ7_fastRemove 26 = .ok (.aload_n 1, 1) := dk_43 (dk_at dksJ7_fastRemove_1 2 rfl rfl)
theorem dJ7_fastRemove_27 : decode cJ7_fastRemove 27 = .ok (.iload_n 2, 1) := dk_28 (dk_at dksJ7_fastRemove_1 3 rfl rfl)
theorem dJ7_fastRemove_28 : decode cJ7_fastRemove 28 = .ok (.iload_n 3, 1) := dk_29 (dk_at dksJ7_fastRemove_1 4 rfl rfl)
theorem dJ7_fastRemove_29 : decode cJ7_fastRemove 29 = .ok (.iload_n 2, 1) := dk_28 (dk_at dksJ7_fastRemove_1 5 rfl rfl)
theorem dJ7_fastRemove_30 : decode cJ7_fastRemove 30 = .ok (.isub, 1) := dk_100 (dk_at dksJ7_fastRemove_1 6 rfl rfl)
theorem dJ7_fastRemove_31 : decode cJ7_fastRemove 31 = .ok (.invokestatic 112, 3) := dk_184 0 112 (dk_at dksJ7_fastRemove_1 7 rfl rfl)
theorem dJ7_fastRemove_34 : decode cJ7_fastRemove 34 = .ok (.aload_n 1, 1) := dk_43 (dk_at dksJ7_fastRemove_1 10 rfl rfl)
theorem dJ7_fastRemove_35 : decode cJ7_fastRemove 35 = .ok (.aload_n 0, 1) := dk_42 (dk_at dksJ7_fastRemove_1 11 rfl rfl)
theorem dJ7_fastRemove_36 : decode cJ7_fastRemove 36 = .ok (.iload_n 3, 1) := dk_29 (dk_at dksJ7_fastRemove_1 12 rfl rfl)
theorem dJ7_fastRemove_37 : decode cJ7_fastRemove 37 = .ok (.dup_x1, 1) := dk_90 (dk_at dksJ7_fastRemove_1 13 rfl rfl)
theorem dJ7_fastRemove_38 : decode cJ7_fastRemove 38 = .ok (.putfield 48, 3) := dk_181 0 48 (dk_at dksJ7_fastRemove_1 14 rfl rfl)
theorem dJ7_fastRemove_41 : decode cJ7_fastRemove 41 = .ok (.aconst_null, 1) := dk_1 (dk_at dksJ7_fastRemove_1 17 rfl rfl)
theorem dJ7_fastRemove_42 : decode cJ7_fastRemove 42 = .ok (.aastore, 1) := dk_83 (dk_at dksJ7_fastRemove_1 18 rfl rfl)
theorem dJ7_fastRemove_43 : decode cJ7_fastRemove 43 = .ok (.return_, 1) := dk_177 (dk_at dksJ7_fastRemove_1 19 rfl rfl)
theorem q95 : (Jvm.Cond.initialized "java/util/ArrayList") ∈ lw_all := lw_g (lw_at lw_m1 10 rfl) rfl
theorem q203 : (Jvm.Cond.instantiable "java/util/ArrayList" (3 : Nat)) ∈ lw_all := lw_g (lw_at lw_m1 118 rfl) rfl
theorem q205 : (Jvm.Cond.instanceMethod ({ cls := "java/util/ArrayList", name := "<init>", desc := "()V" } : Jvm.MethodName)) ∈ lw_all := lw_g (lw_at lw_m1 120 rfl) rfl
theorem q206 : (Jvm.Cond.code ({ cls := "java/util/ArrayList", name := "<init>", desc := "()V" } : Jvm.MethodName) prog_46_method_2_code (1 : Nat) (Option.none : Option Jvm.ClassFile.FieldType)) ∈ lw_all := lw_g (lw_at lw_m1 121 rfl) rfl
theorem q207 : (Jvm.Cond.methodLink "java/util/ArrayList" (1 : Nat) ({ cls := "java/util/AbstractList", name := "<init>", desc := "()V" } : Jvm.MethodName)) ∈ lw_all := lw_g (lw_at lw_m1 122 rfl) rfl
theorem q211 : (Jvm.Cond.fieldLink "java/util/ArrayList" (39 : Nat) "java/util/ArrayList" "DEFAULTCAPACITY_EMPTY_ELEMENTDATA" "[Ljava/lang/Object;") ∈ lw_all := lw_g (lw_at lw_m1 126 rfl) rfl
theorem q212 : (Jvm.Cond.laysStatic "java/util/ArrayList" "DEFAULTCAPACITY_EMPTY_ELEMENTDATA" "[Ljava/lang/Object;") ∈ lw_tbl := lw_at lw_m1 127 rfl
theorem q213 : (Jvm.Cond.fieldLink "java/util/ArrayList" (9 : Nat) "java/util/ArrayList" "elementData" "[Ljava/lang/Object;") ∈ lw_all := lw_g (lw_at lw_m1 128 rfl) rfl
theorem q214 : (Jvm.Cond.fieldLink "java/util/ArrayList" (48 : Nat) "java/util/ArrayList" "size" "I") ∈ lw_all := lw_g (lw_at lw_m1 129 rfl) rfl
theorem q216 : (Jvm.Cond.fieldLink "java/util/ArrayList" (63 : Nat) "java/util/ArrayList" "modCount" "I") ∈ lw_all := lw_g (lw_at lw_m1 131 rfl) rfl
theorem q217 : (Jvm.Cond.sameField "java/util/ArrayList" "java/util/AbstractList" "modCount" "I") ∈ lw_all := lw_g (lw_at lw_m1 132 rfl) rfl
theorem q218 : (Jvm.Cond.lays "java/util/ArrayList" "java/util/ArrayList" "elementData" "[Ljava/lang/Object;") ∈ lw_all := lw_g (lw_at lw_m1 133 rfl) rfl
theorem q219 : (Jvm.Cond.soleField "java/util/ArrayList" "elementData") ∈ lw_all := lw_g (lw_at lw_m1 134 rfl) rfl
theorem q220 : (Jvm.Cond.lays "java/util/ArrayList" "java/util/ArrayList" "size" "I") ∈ lw_all := lw_g (lw_at lw_m1 135 rfl) rfl
theorem q221 : (Jvm.Cond.soleField "java/util/ArrayList" "size") ∈ lw_all := lw_g (lw_at lw_m1 136 rfl) rfl
theorem q222 : (Jvm.Cond.lays "java/util/ArrayList" "java/util/AbstractList" "modCount" "I") ∈ lw_all := lw_g (lw_at lw_m1 137 rfl) rfl
theorem q224 : (Jvm.Cond.superclass "java/util/ArrayList" "java/util/AbstractList") ∈ lw_all := lw_g (lw_at lw_m1 139 rfl) rfl
theorem q327 : (Jvm.Cond.castable "java/util/ArrayList" "java/util/List") ∈ lw_tbl := lw_at lw_m2 2 rfl
theorem q328 : (Jvm.Cond.selects "java/util/ArrayList" ({ cls := "java/util/List", name := "add", desc := "(Ljava/lang/Object;)Z" } : Jvm.MethodName) ({ cls := "java/util/ArrayList", name := "add", desc := "(Ljava/lang/Object;)Z" } : Jvm.MethodName)) ∈ lw_all := lw_g (lw_at lw_m2 3 rfl) rfl
theorem q329 : (Jvm.Cond.unhidden "java/util/ArrayList" "add" "(Ljava/lang/Object;)Z") ∈ lw_tbl := lw_at lw_m2 4 rfl
theorem q330 : (Jvm.Cond.instanceMethod ({ cls := "java/util/ArrayList", name := "add", desc := "(Ljava/lang/Object;)Z" } : Jvm.MethodName)) ∈ lw_all := lw_g (lw_at lw_m2 5 rfl) rfl
theorem q331 : (Jvm.Cond.publicMethod ({ cls := "java/util/ArrayList", name := "add", desc := "(Ljava/lang/Object;)Z" } : Jvm.MethodName)) ∈ lw_tbl := lw_at lw_m2 6 rfl
theorem q332 : (Jvm.Cond.code ({ cls := "java/util/ArrayList", name := "add", desc := "(Ljava/lang/Object;)Z" } : Jvm.MethodName) prog_46_method_25_code (2 : Nat) (Option.some Jvm.ClassFile.FieldType.boolean)) ∈ lw_all := lw_g (lw_at lw_m2 7 rfl) rfl
theorem q333 : (Jvm.Cond.methodLink "java/util/ArrayList" (131 : Nat) ({ cls := "java/util/ArrayList", name := "add", desc := "(Ljava/lang/Object;[Ljava/lang/Object;I)V" } : Jvm.MethodName)) ∈ lw_all := lw_g (lw_at lw_m2 8 rfl) rfl
theorem q334 : (Jvm.Cond.privateMethod ({ cls := "java/util/ArrayList", name := "add", desc := "(Ljava/lang/Object;[Ljava/lang/Object;I)V" } : Jvm.MethodName)) ∈ lw_tbl := lw_at lw_m2 9 rfl
theorem q335 : (Jvm.Cond.instanceMethod ({ cls := "java/util/ArrayList", name := "add", desc := "(Ljava/lang/Object;[Ljava/lang/Object;I)V" } : Jvm.MethodName)) ∈ lw_all := lw_g (lw_at lw_m2 10 rfl) rfl
theorem q336 : (Jvm.Cond.code ({ cls := "java/util/ArrayList", name := "add", desc := "(Ljava/lang/Object;[Ljava/lang/Object;I)V" } : Jvm.MethodName) prog_46_method_24_code (4 : Nat) (Option.none : Option Jvm.ClassFile.FieldType)) ∈ lw_all := lw_g (lw_at lw_m2 11 rfl) rfl
theorem q337 : (Jvm.Cond.methodLink "java/util/ArrayList" (129 : Nat) ({ cls := "java/util/ArrayList", name := "grow", desc := "()[Ljava/lang/Object;" } : Jvm.MethodName)) ∈ lw_all := lw_g (lw_at lw_m2 12 rfl) rfl
theorem q338 : (Jvm.Cond.privateMethod ({ cls := "java/util/ArrayList", name := "grow", desc := "()[Ljava/lang/Object;" } : Jvm.MethodName)) ∈ lw_tbl := lw_at lw_m2 13 rfl
theorem q339 : (Jvm.Cond.instanceMethod ({ cls := "java/util/ArrayList", name := "grow", desc := "()[Ljava/lang/Object;" } : Jvm.MethodName)) ∈ lw_all := lw_g (lw_at lw_m2 14 rfl) rfl
theorem q340 : (Jvm.Cond.code ({ cls := "java/util/ArrayList", name := "grow", desc := "()[Ljava/lang/Object;" } : Jvm.MethodName) prog_46_method_7_code (1 : Nat) (Option.some (Jvm.ClassFile.FieldType.array (Jvm.ClassFile.FieldType.object "java/lang/Object")))) ∈ lw_all := lw_g (lw_at lw_m2 15 rfl) rfl
theorem q341 : (Jvm.Cond.methodLink "java/util/ArrayList" (69 : Nat) ({ cls := "java/util/ArrayList", name := "grow", desc := "(I)[Ljava/lang/Object;" } : Jvm.MethodName)) ∈ lw_all := lw_g (lw_at lw_m2 16 rfl) rfl
theorem q342 : (Jvm.Cond.privateMethod ({ cls := "java/util/ArrayList", name := "grow", desc := "(I)[Ljava/lang/Object;" } : Jvm.MethodName)) ∈ lw_tbl := lw_at lw_m2 17 rfl
theorem q343 : (Jvm.Cond.instanceMethod ({ cls := "java/util/ArrayList", name := "grow", desc := "(I)[Ljava/lang/Object;" } : Jvm.MethodName)) ∈ lw_all := lw_g (lw_at lw_m2 18 rfl) rfl
theorem q344 : (Jvm.Cond.code ({ cls := "java/util/ArrayList", name := "grow", desc := "(I)[Ljava/lang/Object;" } : Jvm.MethodName) prog_46_method_6_code (4 : Nat) (Option.some (Jvm.ClassFile.FieldType.array (Jvm.ClassFile.FieldType.object "java/lang/Object")))) ∈ lw_all := lw_g (lw_at lw_m2 19 rfl) rfl
theorem q345 : (Jvm.Cond.methodLink "java/util/ArrayList" (73 : Nat) ({ cls := "jdk/internal/util/ArraysSupport", name := "newLength", desc := "(III)I" } : Jvm.MethodName)) ∈ lw_all := lw_g (lw_at lw_m2 20 rfl) rfl
theorem q355 : (Jvm.Cond.methodLink "java/util/ArrayList" (66 : Nat) ({ cls := "java/util/Arrays", name := "copyOf", desc := "([Ljava/lang/Object;I)[Ljava/lang/Object;" } : Jvm.MethodName)) ∈ lw_all := lw_g (lw_at lw_m2 30 rfl) rfl
theorem q384 : (Jvm.Cond.selects "java/util/ArrayList" ({ cls := "java/lang/Object", name := "getClass", desc := "()Ljava/lang/Class;" } : Jvm.MethodName) ({ cls := "java/lang/Object", name := "getClass", desc := "()Ljava/lang/Class;" } : Jvm.MethodName)) ∈ lw_all := lw_g (lw_at lw_m2 59 rfl) rfl
theorem q398 : (Jvm.Cond.methodLink "java/util/ArrayList" (79 : Nat) ({ cls := "java/lang/Math", name := "max", desc := "(II)I" } : Jvm.MethodName)) ∈ lw_all := lw_g (lw_at lw_m2 73 rfl) rfl
theorem q399 : (Jvm.Cond.classLink "java/util/ArrayList" (7 : Nat) "java/lang/Object") ∈ lw_all := lw_g (lw_at lw_m2 74 rfl) rfl
theorem q485 : (Jvm.Cond.selects "java/util/ArrayList" ({ cls := "java/util/List", name := "get", desc := "(I)Ljava/lang/Object;" } : Jvm.MethodName) ({ cls := "java/util/ArrayList", name := "get", desc := "(I)Ljava/lang/Object;" } : Jvm.MethodName)) ∈ lw_all := lw_g (lw_at lw_m2 160 rfl) rfl
theorem q486 : (Jvm.Cond.unhidden "java/util/ArrayList" "get" "(I)Ljava/lang/Object;") ∈ lw_tbl := lw_at lw_m2 161 rfl
theorem q487 : (Jvm.Cond.instanceMethod ({ cls := "java/util/ArrayList", name := "get", desc := "(I)Ljava/lang/Object;" } : Jvm.MethodName)) ∈ lw_all := lw_g (lw_at lw_m2 162 rfl) rfl
theorem q488 : (Jvm.Cond.publicMethod ({ cls := "java/util/ArrayList", name := "get", desc := "(I)Ljava/lang/Object;" } : Jvm.MethodName)) ∈ lw_tbl := lw_at lw_m2 163 rfl
theorem q489 : (Jvm.Cond.code ({ cls := "java/util/ArrayList", name := "get", desc := "(I)Ljava/lang/Object;" } : Jvm.MethodName) prog_46_method_20_code (2 : Nat) (Option.some (Jvm.ClassFile.FieldType.object "java/lang/Object"))) ∈ lw_all := lw_g (lw_at lw_m2 164 rfl) rfl
theorem q490 : (Jvm.Cond.methodLink "java/util/ArrayList" (118 : Nat) ({ cls := "java/util/Objects", name := "checkIndex", desc := "(II)I" } : Jvm.MethodName)) ∈ lw_all := lw_g (lw_at lw_m2 165 rfl) rfl
theorem q496 : (Jvm.Cond.methodLink "java/util/ArrayList" (123 : Nat) ({ cls := "java/util/ArrayList", name := "elementData", desc := "(I)Ljava/lang/Object;" } : Jvm.MethodName)) ∈ lw_all := lw_g (lw_at lw_m2 171 rfl) rfl
theorem q497 : (Jvm.Cond.instanceMethod ({ cls := "java/util/ArrayList", name := "elementData", desc := "(I)Ljava/lang/Object;" } : Jvm.MethodName)) ∈ lw_all := lw_g (lw_at lw_m2 172 rfl) rfl
theorem q498 : (Jvm.Cond.selects "java/util/ArrayList" ({ cls := "java/util/ArrayList", name := "elementData", desc := "(I)Ljava/lang/Object;" } : Jvm.MethodName) ({ cls := "java/util/ArrayList", name := "elementData", desc := "(I)Ljava/lang/Object;" } : Jvm.MethodName)) ∈ lw_all := lw_g (lw_at lw_m2 173 rfl) rfl
theorem q499 : (Jvm.Cond.code ({ cls := "java/util/ArrayList", name := "elementData", desc := "(I)Ljava/lang/Object;" } : Jvm.MethodName) prog_46_method_18_code (2 : Nat) (Option.some (Jvm.ClassFile.FieldType.object "java/lang/Object"))) ∈ lw_all := lw_g (lw_at lw_m2 174 rfl) rfl
theorem q504 : (Jvm.Cond.selects "java/util/ArrayList" ({ cls := "java/util/List", name := "size", desc := "()I" } : Jvm.MethodName) ({ cls := "java/util/ArrayList", name := "size", desc := "()I" } : Jvm.MethodName)) ∈ lw_all := lw_g (lw_at lw_m2 179 rfl) rfl
theorem q505 : (Jvm.Cond.unhidden "java/util/ArrayList" "size" "()I") ∈ lw_tbl := lw_at lw_m2 180 rfl
theorem q506 : (Jvm.Cond.instanceMethod ({ cls := "java/util/ArrayList", name := "size", desc := "()I" } : Jvm.MethodName)) ∈ lw_all := lw_g (lw_at lw_m2 181 rfl) rfl
theorem q507 : (Jvm.Cond.publicMethod ({ cls := "java/util/ArrayList", name := "size", desc := "()I" } : Jvm.MethodName)) ∈ lw_tbl := lw_at lw_m2 182 rfl
theorem q508 : (Jvm.Cond.code ({ cls := "java/util/ArrayList", name := "size", desc := "()I" } : Jvm.MethodName) prog_46_method_8_code (1 : Nat) (Option.some Jvm.ClassFile.FieldType.int)) ∈ lw_all := lw_g (lw_at lw_m2 183 rfl) rfl
theorem q1167 : (Jvm.Cond.selects "java/util/ArrayList" ({ cls := "java/util/List", name := "add", desc := "(ILjava/lang/Object;)V" } : Jvm.MethodName) ({ cls := "java/util/ArrayList", name := "add", desc := "(ILjava/lang/Object;)V" } : Jvm.MethodName)) ∈ lw_all := lw_g (lw_at lw_m5 122 rfl) rfl
theorem q1168 : (Jvm.Cond.unhidden "java/util/ArrayList" "add" "(ILjava/lang/Object;)V") ∈ lw_tbl := lw_at lw_m5 123 rfl
theorem q1169 : (Jvm.Cond.instanceMethod ({ cls := "java/util/ArrayList", name := "add", desc := "(ILjava/lang/Object;)V" } : Jvm.MethodName)) ∈ lw_all := lw_g (lw_at lw_m5 124 rfl) rfl
theorem q1170 : (Jvm.Cond.publicMethod ({ cls := "java/util/ArrayList", name := "add", desc := "(ILjava/lang/Object;)V" } : Jvm.MethodName)) ∈ lw_tbl := lw_at lw_m5 125 rfl
theorem q1171 : (Jvm.Cond.code ({ cls := "java/util/ArrayList", name := "add", desc := "(ILjava/lang/Object;)V" } : Jvm.MethodName) prog_46_method_26_code (5 : Nat) (Option.none : Option Jvm.ClassFile.FieldType)) ∈ lw_all := lw_g (lw_at lw_m5 126 rfl) rfl
theorem q1172 : (Jvm.Cond.methodLink "java/util/ArrayList" (135 : Nat) ({ cls := "java/util/ArrayList", name := "rangeCheckForAdd", desc := "(I)V" } : Jvm.MethodName)) ∈ lw_all := lw_g (lw_at lw_m5 127 rfl) rfl
theorem q1173 : (Jvm.Cond.privateMethod ({ cls := "java/util/ArrayList", name := "rangeCheckForAdd", desc := "(I)V" } : Jvm.MethodName)) ∈ lw_tbl := lw_at lw_m5 128 rfl
theorem q1174 : (Jvm.Cond.instanceMethod ({ cls := "java/util/ArrayList", name := "rangeCheckForAdd", desc := "(I)V" } : Jvm.MethodName)) ∈ lw_all := lw_g (lw_at lw_m5 129 rfl) rfl
theorem q1175 : (Jvm.Cond.code ({ cls := "java/util/ArrayList", name := "rangeCheckForAdd", desc := "(I)V" } : Jvm.MethodName) prog_46_method_45_code (2 : Nat) (Option.none : Option Jvm.ClassFile.FieldType)) ∈ lw_all := lw_g (lw_at lw_m5 130 rfl) rfl
theorem q1176 : (Jvm.Cond.classLink "java/util/ArrayList" (187 : Nat) "java/lang/IndexOutOfBoundsException") ∈ lw_all := lw_g (lw_at lw_m5 131 rfl) rfl
theorem q1185 : (Jvm.Cond.methodLink "java/util/ArrayList" (198 : Nat) ({ cls := "java/util/ArrayList", name := "outOfBoundsMsg", desc := "(I)Ljava/lang/String;" } : Jvm.MethodName)) ∈ lw_all := lw_g (lw_at lw_m5 140 rfl) rfl
theorem q1186 : (Jvm.Cond.privateMethod ({ cls := "java/util/ArrayList", name := "outOfBoundsMsg", desc := "(I)Ljava/lang/String;" } : Jvm.MethodName)) ∈ lw_tbl := lw_at lw_m5 141 rfl
theorem q1187 : (Jvm.Cond.instanceMethod ({ cls := "java/util/ArrayList", name := "outOfBoundsMsg", desc := "(I)Ljava/lang/String;" } : Jvm.MethodName)) ∈ lw_all := lw_g (lw_at lw_m5 142 rfl) rfl
theorem q1188 : (Jvm.Cond.code ({ cls := "java/util/ArrayList", name := "outOfBoundsMsg", desc := "(I)Ljava/lang/String;" } : Jvm.MethodName) prog_46_method_46_code (2 : Nat) (Option.some (Jvm.ClassFile.FieldType.object "java/lang/String"))) ∈ lw_all := lw_g (lw_at lw_m5 143 rfl) rfl
theorem q1189 : (Jvm.Cond.classLink "java/util/ArrayList" (20 : Nat) "java/lang/StringBuilder") ∈ lw_all := lw_g (lw_at lw_m5 144 rfl) rfl
theorem q1190 : (Jvm.Cond.methodLink "java/util/ArrayList" (22 : Nat) ({ cls := "java/lang/StringBuilder", name := "<init>", desc := "()V" } : Jvm.MethodName)) ∈ lw_all := lw_g (lw_at lw_m5 145 rfl) rfl
theorem q1191 : (Jvm.Cond.stringRef "java/util/ArrayList" (201 : Nat) "Index: ") ∈ lw_tbl := lw_at lw_m5 146 rfl
theorem q1192 : (Jvm.Cond.methodLink "java/util/ArrayList" (25 : Nat) ({ cls := "java/lang/StringBuilder", name := "append", desc := "(Ljava/lang/String;)Ljava/lang/StringBuilder;" } : Jvm.MethodName)) ∈ lw_all := lw_g (lw_at lw_m5 147 rfl) rfl
theorem q1193 : (Jvm.Cond.methodLink "java/util/ArrayList" (29 : Nat) ({ cls := "java/lang/StringBuilder", name := "append", desc := "(I)Ljava/lang/StringBuilder;" } : Jvm.MethodName)) ∈ lw_all := lw_g (lw_at lw_m5 148 rfl) rfl
theorem q1194 : (Jvm.Cond.stringRef "java/util/ArrayList" (203 : Nat) ", Size: ") ∈ lw_tbl := lw_at lw_m5 149 rfl
theorem q1195 : (Jvm.Cond.methodLink "java/util/ArrayList" (32 : Nat) ({ cls := "java/lang/StringBuilder", name := "toString", desc := "()Ljava/lang/String;" } : Jvm.MethodName)) ∈ lw_all := lw_g (lw_at lw_m5 150 rfl) rfl
theorem q1196 : (Jvm.Cond.methodLink "java/util/ArrayList" (193 : Nat) ({ cls := "java/lang/IndexOutOfBoundsException", name := "<init>", desc := "(Ljava/lang/String;)V" } : Jvm.MethodName)) ∈ lw_all := lw_g (lw_at lw_m5 151 rfl) rfl
theorem q1199 : (Jvm.Cond.methodLink "java/util/ArrayList" (112 : Nat) ({ cls := "java/lang/System", name := "arraycopy", desc := "(Ljava/lang/Object;ILjava/lang/Object;II)V" } : Jvm.MethodName)) ∈ lw_all := lw_g (lw_at lw_m5 154 rfl) rfl
theorem q1535 : (Jvm.Cond.selects "java/util/ArrayList" ({ cls := "java/util/List", name := "remove", desc := "(I)Ljava/lang/Object;" } : Jvm.MethodName) ({ cls := "java/util/ArrayList", name := "remove", desc := "(I)Ljava/lang/Object;" } : Jvm.MethodName)) ∈ lw_all := lw_g (lw_at lw_m7 10 rfl) rfl
theorem q1536 : (Jvm.Cond.unhidden "java/util/ArrayList" "remove" "(I)Ljava/lang/Object;") ∈ lw_tbl := lw_at lw_m7 11 rfl
theorem q1537 : (Jvm.Cond.instanceMethod ({ cls := "java/util/ArrayList", name := "remove", desc := "(I)Ljava/lang/Object;" } : Jvm.MethodName)) ∈ lw_all := lw_g (lw_at lw_m7 12 rfl) rfl
theorem q1538 : (Jvm.Cond.publicMethod ({ cls := "java/util/ArrayList", name := "remove", desc := "(I)Ljava/lang/Object;" } : Jvm.MethodName)) ∈ lw_tbl := lw_at lw_m7 13 rfl
theorem q1539 : (Jvm.Cond.code ({ cls := "java/util/ArrayList", name := "remove", desc := "(I)Ljava/lang/Object;" } : Jvm.MethodName) prog_46_method_29_code (4 : Nat) (Option.some (Jvm.ClassFile.FieldType.object "java/lang/Object"))) ∈ lw_all := lw_g (lw_at lw_m7 14 rfl) rfl
theorem q1540 : (Jvm.Cond.methodLink "java/util/ArrayList" (144 : Nat) ({ cls := "java/util/ArrayList", name := "fastRemove", desc := "([Ljava/lang/Object;I)V" } : Jvm.MethodName)) ∈ lw_all := lw_g (lw_at lw_m7 15 rfl) rfl
theorem q1541 : (Jvm.Cond.privateMethod ({ cls := "java/util/ArrayList", name := "fastRemove", desc := "([Ljava/lang/Object;I)V" } : Jvm.MethodName)) ∈ lw_tbl := lw_at lw_m7 16 rfl
theorem q1542 : (Jvm.Cond.instanceMethod ({ cls := "java/util/ArrayList", name := "fastRemove", desc := "([Ljava/lang/Object;I)V" } : Jvm.MethodName)) ∈ lw_all := lw_g (lw_at lw_m7 17 rfl) rfl
theorem q1543 : (Jvm.Cond.code ({ cls := "java/util/ArrayList", name := "fastRemove", desc := "([Ljava/lang/Object;I)V" } : Jvm.MethodName) prog_46_method_39_code (4 : Nat) (Option.none : Option Jvm.ClassFile.FieldType)) ∈ lw_all := lw_g (lw_at lw_m7 18 rfl) rfl
theorem q2402 : (Jvm.Cond.castable "java/util/ArrayList" "java/lang/Object") ∈ lw_tbl := lw_at lw_m10 157 rfl
theorem in_J7 : ∀ w ∈ wsJ70, w ∈ lw_all := lw_in wsJ70 [222, 218, 220] (by decide +kernel) (by decide +kernel)
/-! java/util/ArrayDeque -/
set_option maxRecDepth 100000
def RJ1 : String := "java/util/ArrayDeque"
def TJ1 : u_T := fun k => match k with
  | 0 => ("java/util/ArrayDeque", "elements", "[Ljava/lang/Object;", false)
  | 1 => ("java/util/ArrayDeque", "head", "I", false)
  | _ => ("java/util/ArrayDeque", "tail", "I", false)
def tyJ1 : Nat → FieldType := fun k => match k with
  | 0 => .array (.object "java/lang/Object")
  | 1 => .int
  | _ => .int
abbrev wsJ10 : List Cond := u_ws RJ1 TJ1 3
theorem nmJ1 : ∀ a, a < 3 → ∀ b, b < 3 → a ≠ b → (TJ1 a).2.1 ≠ (TJ1 b).2.1 := by decide +kernel
theorem tyJ1_ok : ∀ k, k < 3 → parseFieldDescriptor (TJ1 k).2.2.1 = some (tyJ1 k) := by decide +kernel
abbrev cJ1_init : ByteArray := prog_45_method_3_code
def yJ1_init : MethodName := ⟨RJ1, "<init>", "()V"⟩
def dkwJ1_init_0 : List UInt8 := [42, 183, 0, 42, 42, 16, 17, 189, 0, 47, 181, 0, 3, 177]
abbrev dktJ1_init_0 : List UInt8 := dkwJ1_init_0 ++ []
theorem dksJ1_init_0 : cJ1_init.data.toList.drop 0 = dktJ1_init_0 := by decide +kernel
theorem dJ1_init_0 : decode cJ1_init 0 = .ok (.aload_n 0, 1) := dk_42 (dk_at dksJ1_init_0 0 rfl rfl)
theorem dJ1_init_1 : decode cJ1_init 1 = .ok (.invokespecial 42, 3) := dk_183 0 42 (dk_at dksJ1_init_0 1 rfl rfl)
theorem dJ1_init_4 : decode cJ1_init 4 = .ok (.aload_n 0, 1) := dk_42 (dk_at dksJ1_init_0 4 rfl rfl)
theorem dJ1_init_5 : decode cJ1_init 5 = .ok (.bipush 17, 2) := dk_16 17 (dk_at dksJ1_init_0 5 rfl rfl)
theorem dJ1_init_7 : decode cJ1_init 7 = .ok (.anewarray 47, 3) := dk_189 0 47 (dk_at dksJ1_init_0 7 rfl rfl)
theorem dJ1_init_10 : decode cJ1_init 10 = .ok (.putfield 3, 3) := dk_181 0 3 (dk_at dksJ1_init_0 10 rfl rfl)
theorem dJ1_init_13 : decode cJ1_init 13 = .ok (.return_, 1) := dk_177 (dk_at dksJ1_init_0 13 rfl rfl)
abbrev cJ1_size : ByteArray := prog_45_method_37_code
def yJ1_size : MethodName := ⟨RJ1, "size", "()I"⟩
def dkwJ1_size_0 : List UInt8 := [42, 180, 0, 20, 42, 180, 0, 24, 42, 180, 0, 3, 190, 184, 0, 127, 172]
abbrev dktJ1_size_0 : List UInt8 := dkwJ1_size_0 ++ []
theorem dksJ1_size_0 : cJ1_size.data.toList.drop 0 = dktJ1_size_0 := by decide +kernel
theorem dJ1_size_0 : decode cJ1_size 0 = .ok (.aload_n 0, 1) := dk_42 (dk_at dksJ1_size_0 0 rfl rfl)
theorem dJ1_size_1 : decode cJ1_size 1 = .ok (.getfield 20, 3) := dk_180 0 20 (dk_at dksJ1_size_0 1 rfl rfl)
theorem dJ1_size_4 : decode cJ1_size 4 = .ok (.aload_n 0, 1) := dk_42 (dk_at dksJ1_size_0 4 rfl rfl)
theorem dJ1_size_5 : decode cJ1_size 5 = .ok (.getfield 24, 3) := dk_180 0 24 (dk_at dksJ1_size_0 5 rfl rfl)
theorem dJ1_size_8 : decode cJ1_size 8 = .ok (.aload_n 0, 1) := dk_42 (dk_at dksJ1_size_0 8 rfl rfl)
theorem dJ1_size_9 : decode cJ1_size 9 = .ok (.getfield 3, 3) := dk_180 0 3 (dk_at dksJ1_size_0 9 rfl rfl)
theorem dJ1_size_12 : decode cJ1_size 12 = .ok (.arraylength, 1) := dk_190 (dk_at dksJ1_size_0 12 rfl rfl)
theorem dJ1_size_13 : decode cJ1_size 13 = .ok (.invokestatic 127, 3) := dk_184 0 127 (dk_at dksJ1_size_0 13 rfl rfl)
theorem dJ1_size_16 : decode cJ1_size 16 = .ok (.ireturn, 1) := dk_172 (dk_at dksJ1_size_0 16 rfl rfl)
abbrev cJ1_sub : ByteArray := prog_45_method_9_code
def yJ1_sub : MethodName := ⟨RJ1, "sub", "(III)I"⟩
def dkwJ1_sub_0 : List UInt8 := [26, 27, 100, 89, 59, 156, 0, 7, 26, 28, 96, 59, 26, 172]
abbrev dktJ1_sub_0 : List UInt8 := dkwJ1_sub_0 ++ []
theorem dksJ1_sub_0 : cJ1_sub.data.toList.drop 0 = dktJ1_sub_0 := by decide +kernel
theorem dJ1_sub_0 : decode cJ1_sub 0 = .ok (.iload_n 0, 1) := dk_26 (dk_at dksJ1_sub_0 0 rfl rfl)
theorem dJ1_sub_1 : decode cJ1_sub 1 = .ok (.iload_n 1, 1) := dk_27 (dk_at dksJ1_sub_0 1 rfl rfl)
theorem dJ1_sub_2 : decode cJ1_sub 2 = .ok (.isub, 1) := dk_100 (dk_at dksJ1_sub_0 2 rfl rfl)
theorem dJ1_sub_3 : decode cJ1_sub 3 = .ok (.dup, 1) := dk_89 (dk_at dksJ1_sub_0 3 rfl rfl)
theorem dJ1_sub_4 : decode cJ1_sub 4 = .ok (.istore_n 0, 1) := dk_59 (dk_at dksJ1_sub_0 4 rfl rfl)
theorem dJ1_sub_5 : decode cJ1_sub 5 = .ok (.ifCond .ge 7, 3) := dk_156 0 7 (dk_at dksJ1_sub_0 5 rfl rfl)
theorem dJ1_sub_8 : decode cJ1_sub 8 = .ok (.iload_n 0, 1) := dk_26 (dk_at dksJ1_sub_0 8 rfl rfl)
theorem dJ1_sub_9 : decode cJ1_sub 9 = .ok (.iload_n 2, 1) := dk_28 (dk_at dksJ1_sub_0 9 rfl rfl)
theorem dJ1_sub_10 : decode cJ1_sub 10 = .ok (.iadd, 1) := dk_96 (dk_at dksJ1_sub_0 10 rfl rfl)
theorem dJ1_sub_11 : decode cJ1_sub 11 = .ok (.istore_n 0, 1) := dk_59 (dk_at dksJ1_sub_0 11 rfl rfl)
theorem dJ1_sub_12 : decode cJ1_sub 12 = .ok (.iload_n 0, 1) := dk_26 (dk_at dksJ1_sub_0 12 rfl rfl)
theorem dJ1_sub_13 : decode cJ1_sub 13 = .ok (.ireturn, 1) := dk_172 (dk_at dksJ1_sub_0 13 rfl rfl)
abbrev cJ1_removeFirst : ByteArray := prog_45_method_18_code
def yJ1_removeFirst : MethodName := ⟨RJ1, "removeFirst", "()Ljava/lang/Object;"⟩
def dkwJ1_removeFirst_0 : List UInt8 := [42, 182, 0, 93, 76, 43, 199, 0, 11, 187, 0, 97, 89, 183, 0, 99, 191, 43, 176]
abbrev dktJ1_removeFirst_0 : List UInt8 := dkwJ1_removeFirst_0 ++ []
theorem dksJ1_removeFirst_0 : cJ1_removeFirst.data.toList.drop 0 = dktJ1_removeFirst_0 := by decide +kernel
theorem dJ1_removeFirst_0 : decode cJ1_removeFirst 0 = .ok (.aload_n 0, 1) := dk_42 (dk_at dksJ1_removeFirst_0 0 rfl rfl)
theorem dJ1_removeFirst_1 : decode cJ1_removeFirst 1 = .ok (.invokevirtual 93, 3) := dk_182 0 93 (dk_at dksJ1_removeFirst_0 1 rfl rfl)
theorem dJ1_removeFirst_4 : decode cJ1_removeFirst 4 = .ok (.astore_n 1, 1) := dk_76 (dk_at dksJ1_removeFirst_0 4 rfl rfl)
theorem dJ1_removeFirst_5 : decode cJ1_removeFirst 5 = .ok (.aload_n 1, 1) := dk_43 (dk_at dksJ1_removeFirst_0 5 rfl rfl)
theorem dJ1_removeFirst_6 : decode cJ1_removeFirst 6 = .ok (.ifnonnull 11, 3) := dk_199 0 11 (dk_at dksJ1_removeFirst_0 6 rfl rfl)
theorem dJ1_removeFirst_9 : decode cJ1_removeFirst 9 = .ok (.new 97, 3) := dk_187 0 97 (dk_at dksJ1_removeFirst_0 9 rfl rfl)
theorem dJ1_removeFirst_12 : decode cJ1_removeFirst 12 = .ok (.dup, 1) := dk_89 (dk_at dksJ1_removeFirst_0 12 rfl rfl)
theorem dJ1_removeFirst_13 : decode cJ1_removeFirst 13 = .ok (.invokespecial 99, 3) := dk_183 0 99 (dk_at dksJ1_removeFirst_0 13 rfl rfl)
theorem dJ1_removeFirst_16 : decode cJ1_removeFirst 16 = .ok (.athrow, 1) := dk_191 (dk_at dksJ1_removeFirst_0 16 rfl rfl)
theorem dJ1_removeFirst_17 : decode cJ1_removeFirst 17 = .ok (.aload_n 1, 1) := dk_43 (dk_at dksJ1_removeFirst_0 17 rfl rfl)
theorem dJ1_removeFirst_18 : decode cJ1_removeFirst 18 = .ok (.areturn, 1) := dk_176 (dk_at dksJ1_removeFirst_0 18 rfl rfl)
abbrev cJ1_pollFirst : ByteArray := prog_45_method_20_code
def yJ1_pollFirst : MethodName := ⟨RJ1, "pollFirst", "()Ljava/lang/Object;"⟩
def dkwJ1_pollFirst_1 : List UInt8 := [42, 28, 43, 190, 184, 0, 74, 181, 0, 24, 45, 176]
abbrev dktJ1_pollFirst_1 : List UInt8 := dkwJ1_pollFirst_1 ++ []
def dkwJ1_pollFirst_0 : List UInt8 := [42, 180, 0, 3, 89, 76, 42, 180, 0, 24, 89, 61, 184, 0, 103, 78, 45, 198, 0, 17, 43, 28, 1, 83]
abbrev dktJ1_pollFirst_0 : List UInt8 := dkwJ1_pollFirst_0 ++ dktJ1_pollFirst_1
theorem dksJ1_pollFirst_0 : cJ1_pollFirst.data.toList.drop 0 = dktJ1_pollFirst_0 := by decide +kernel
theorem dksJ1_pollFirst_1 : cJ1_pollFirst.data.toList.drop 24 = dktJ1_pollFirst_1 := dk_seg dksJ1_pollFirst_0 24 rfl rfl
theorem dJ1_pollFirst_0 : decode cJ1_pollFirst 0 = .ok (.aload_n 0, 1) := dk_42 (dk_at dksJ1_pollFirst_0 0 rfl rfl)
theorem dJ1_pollFirst_1 : decode cJ1_pollFirst 1 = .ok (.getfield 3, 3) := dk_180 0 3 (dk_at dksJ1_pollFirst_0 1 rfl rfl)
theorem dJ1_pollFirst_4 : decode cJ1_pollFirst 4 = .ok (.dup, 1) := dk_89 (dk_at dksJ1_pollFirst_0 4 rfl rfl)
theorem dJ1_pollFirst_5 : decode cJ1_pollFirst 5 = .ok (.astore_n 1, 1) := dk_76 (dk_at dksJ1_pollFirst_0 5 rfl rfl)
theorem dJ1_pollFirst_6 : decode cJ1_pollFirst 6 = .ok (.aload_n 0, 1) := dk_42 (dk_at dksJ1_pollFirst_0 6 rfl rfl)
theorem dJ1_pollFirst_7 : decode cJ1_pollFirst 7 = .ok (.getfield 24, 3) := dk_180 0 24 (dk_at dksJ1_pollFirst_0 7 rfl rfl)
theorem dJ1_pollFirst_10 : decode cJ1_pollFirst 10 = .ok (.dup, 1) := dk_89 (dk_at dksJ1_pollFirst_0 10 rfl rfl)
theorem dJ1_pollFirst_11 : decode cJ1_pollFirst 11 = .ok (.istore_n 2, 1) := dk_61 (dk_at dksJ1_pollFirst_0 11 rfl rfl)
theorem dJ1_pollFirst_12 : decode cJ1_pollFirst 12 = .ok (.invokestatic 103, 3) := dk_184 0 103 (dk_at dksJ1_pollFirst_0 12 rfl rfl)
theorem dJ1_pollFirst_15 : decode cJ1_pollFirst 15 = .ok (.astore_n 3, 1) := dk_78 (dk_at dksJ1_pollFirst_0 15 rfl rfl)
theorem dJ1_pollFirst_16 : decode cJ1_pollFirst 16 = .ok (.aload_n 3, 1) := dk_45 (dk_at dksJ1_pollFirst_0 16 rfl rfl)
theorem dJ1_pollFirst_17 : decode cJ1_pollFirst 17 = .ok (.ifnull 17, 3) := dk_198 0 17 (dk_at dksJ1_pollFirst_0 17 rfl rfl)
theorem dJ1_pollFirst_20 : decode cJ1_pollFirst 20 = .ok (.aload_n 1, 1) := dk_43 (dk_at dksJ1_pollFirst_0 20 rfl rfl)
theorem dJ1_pollFirst_21 : decode cJ1_pollFirst 21 = .ok (.iload_n 2, 1) := dk_28 (dk_at dksJ1_pollFirst_0 21 rfl rfl)
theorem dJ1_pollFirst_22 : decode cJ1_pollFirst 22 = .ok (.aconst_null, 1) := dk_1 (dk_at dksJ1_pollFirst_0 22 rfl rfl)
theorem dJ1_pollFirst_23 : decode cJ1_pollFirst 23 = .ok (.aastore, 1) := dk_83 (dk_at dksJ1_pollFirst_0 23 rfl rfl)
theorem dJ1_pollFirst_24 : decode cJ1_pollFirst 24 = .ok (.aload_n 0, 1) := dk_42 (dk_at dksJ1_pollFirst_1 0 rfl rfl)
theorem dJ1_pollFirst_25 : decode cJ1_pollFirst 25 = .ok (.iload_n 2, 1) := dk_28 (dk_at dksJ1_pollFirst_1 1 rfl rfl)
theorem dJ1_pollFirst_26 : decode cJ1_pollFirst 26 = .ok (.aload_n 1, 1) := dk_43 (dk_at dksJ1_pollFirst_1 2 rfl rfl)
theorem dJ1_pollFirst_27 : decode cJ1_pollFirst 27 = .ok (.arraylength, 1) := dk_190 (dk_at dksJ1_pollFirst_1 3 rfl rfl)
theorem dJ1_pollFirst_28 : decode cJ1_pollFirst 28 = .ok (.invokestatic 74, 3) := dk_184 0 74 (dk_at dksJ1_pollFirst_1 4 rfl rfl)
theorem dJ1_pollFirst_31 : decode cJ1_pollFirst 31 = .ok (.putfield 24, 3) := dk_181 0 24 (dk_at dksJ1_pollFirst_1 7 rfl rfl)
theorem dJ1_pollFirst_34 : decode cJ1_pollFirst 34 = .ok (.aload_n 3, 1) := dk_45 (dk_at dksJ1_pollFirst_1 10 rfl rfl)
theorem dJ1_pollFirst_35 : decode cJ1_pollFirst 35 = .ok (.areturn, 1) := dk_176 (dk_at dksJ1_pollFirst_1 11 rfl rfl)
abbrev cJ1_elementAt : ByteArray := prog_45_method_10_code
def yJ1_elementAt : MethodName := ⟨RJ1, "elementAt", "([Ljava/lang/Object;I)Ljava/lang/Object;"⟩
def dkwJ1_elementAt_0 : List UInt8 := [42, 27, 50, 176]
abbrev dktJ1_elementAt_0 : List UInt8 := dkwJ1_elementAt_0 ++ []
theorem dksJ1_elementAt_0 : cJ1_elementAt.data.toList.drop 0 = dktJ1_elementAt_0 := by decide +kernel
theorem dJ1_elementAt_0 : decode cJ1_elementAt 0 = .ok (.aload_n 0, 1) := dk_42 (dk_at dksJ1_elementAt_0 0 rfl rfl)
theorem dJ1_elementAt_1 : decode cJ1_elementAt 1 = .ok (.iload_n 1, 1) := dk_27 (dk_at dksJ1_elementAt_0 1 rfl rfl)
theorem dJ1_elementAt_2 : decode cJ1_elementAt 2 = .ok (.aaload, 1) := dk_50 (dk_at dksJ1_elementAt_0 2 rfl rfl)
theorem dJ1_elementAt_3 : decode cJ1_elementAt 3 = .ok (.areturn, 1) := dk_176 (dk_at dksJ1_elementAt_0 3 rfl rfl)
abbrev cJ1_inc : ByteArray := prog_45_method_6_code
def yJ1_inc : MethodName := ⟨RJ1, "inc", "(II)I"⟩
def dkwJ1_inc_0 : List UInt8 := [132, 0, 1, 26, 27, 161, 0, 5, 3, 59, 26, 172]
abbrev dktJ1_inc_0 : List UInt8 := dkwJ1_inc_0 ++ []
theorem dksJ1_inc_0 : cJ1_inc.data.toList.drop 0 = dktJ1_inc_0 := by decide +kernel
theorem dJ1_inc_0 : decode cJ1_inc 0 = .ok (.iinc 0 1, 3) := dk_132 0 1 (dk_at dksJ1_inc_0 0 rfl rfl)
theorem dJ1_inc_3 : decode cJ1_inc 3 = .ok (.iload_n 0, 1) := dk_26 (dk_at dksJ1_inc_0 3 rfl rfl)
theorem dJ1_inc_4 : decode cJ1_inc 4 = .ok (.iload_n 1, 1) := dk_27 (dk_at dksJ1_inc_0 4 rfl rfl)
theorem dJ1_inc_5 : decode cJ1_inc 5 = .ok (.if_icmp .lt 5, 3) := dk_161 0 5 (dk_at dksJ1_inc_0 5 rfl rfl)
theorem dJ1_inc_8 : decode cJ1_inc 8 = .ok (.iconst 0, 1) := dk_3 (dk_at dksJ1_inc_0 8 rfl rfl)
theorem dJ1_inc_9 : decode cJ1_inc 9 = .ok (.istore_n 0, 1) := dk_59 (dk_at dksJ1_inc_0 9 rfl rfl)
theorem dJ1_inc_10 : decode cJ1_inc 10 = .ok (.iload_n 0, 1) := dk_26 (dk_at dksJ1_inc_0 10 rfl rfl)
theorem dJ1_inc_11 : decode cJ1_inc 11 = .ok (.ireturn, 1) := dk_172 (dk_at dksJ1_inc_0 11 rfl rfl)
abbrev cJ1_addLast : ByteArray := prog_45_method_13_code
def yJ1_addLast : MethodName := ⟨RJ1, "addLast", "(Ljava/lang/Object;)V"⟩
def dkwJ1_addLast_2 : List UInt8 := [182, 0, 71, 177]
abbrev dktJ1_addLast_2 : List UInt8 := dkwJ1_addLast_2 ++ []
def dkwJ1_addLast_1 : List UInt8 := [42, 180, 0, 24, 42, 42, 180, 0, 20, 44, 190, 184, 0, 74, 90, 181, 0, 20, 160, 0, 8, 42, 4]
abbrev dktJ1_addLast_1 : List UInt8 := dkwJ1_addLast_1 ++ dktJ1_addLast_2
def dkwJ1_addLast_0 : List UInt8 := [43, 199, 0, 11, 187, 0, 65, 89, 183, 0, 67, 191, 42, 180, 0, 3, 77, 44, 42, 180, 0, 20, 43, 83]
abbrev dktJ1_addLast_0 : List UInt8 := dkwJ1_addLast_0 ++ dktJ1_addLast_1
theorem dksJ1_addLast_0 : cJ1_addLast.data.toList.drop 0 = dktJ1_addLast_0 := by decide +kernel
theorem dksJ1_addLast_1 : cJ1_addLast.data.toList.drop 24 = dktJ1_addLast_1 := dk_seg dksJ1_addLast_0 24 rfl rfl
theorem dksJ1_addLast_2 : cJ1_addLast.data.toList.drop 47 = dktJ1_addLast_2 := dk_seg dksJ1_addLast_1 23 rfl rfl
theorem dJ1_addLast_0 : decode cJ1_addLast 0 = .ok (.aload_n 1, 1) := dk_43 (dk_at dksJ1_addLast_0 0 rfl rfl)
theorem dJ1_addLast_1 : decode cJ1_addLast 1 = .ok (.ifnonnull 11, 3) := dk_199 0 11 (dk_at dksJ1_addLast_0 1 rfl rfl)
theorem dJ1_addLast_4 : decode cJ1_addLast 4 = .ok (.new 65, 3) := dk_187 0 65 (dk_at dksJ1_addLast_0 4 rfl rfl)
theorem dJ1_addLast_7 : decode cJ1_addLast 7 = .ok (.dup, 1) := dk_89 (dk_at dksJ1_addLast_0 7 rfl rfl)
theorem dJ1_addLast_8 : decode cJ1_addLast 8 = .ok (.invokespecial 67, 3) := dk_183 0 67 (dk_at dksJ1_addLast_0 8 rfl rfl)
theorem dJ1_addLast_11 : decode cJ1_addLast 11 = .ok (.athrow, 1) := dk_191 (dk_at dksJ1_addLast_0 11 rfl rfl)
theorem dJ1_addLast_12 : decode cJ1_addLast 12 = .ok (.aload_n 0, 1) := dk_42 (dk_at dksJ1_addLast_0 12 rfl rfl)
theorem dJ1_addLast_13 : decode cJ1_addLast 13 = .ok (.getfield 3, 3) := dk_180 0 3 (dk_at dksJ1_addLast_0 13 rfl rfl)
theorem dJ1_addLast_16 : decode cJ1_addLast 16 = .ok (.astore_n 2, 1) := dk_77 (dk_at dksJ1_addLast_0 16 rfl rfl)
theorem dJ1_addLast_17 : decode cJ1_addLast 17 = .ok (.aload_n 2, 1) := dk_44 (dk_at dksJ1_addLast_0 17 rfl rfl)
theorem dJ1_addLast_18 : decode cJ1_addLast 18 = .ok (.aload_n 0, 1) := dk_42 (dk_at dksJ1_addLast_0 18 rfl rfl)
theorem dJ1_addLast_19 : decode cJ1_addLast 19 = .ok (.getfield 20, 3) := dk_180 0 20 (dk_at dksJ1_addLast_0 19 rfl rfl)
theorem dJ1_addLast_22 : decode cJ1_addLast 22 = .ok (.aload_n 1, 1) := dk_43 (dk_at dksJ1_addLast_0 22 rfl rfl)
theorem dJ1_addLast_23 : decode cJ1_addLast 23 = .ok (.aastore, 1) := dk_83 (dk_at dksJ1_addLast_0 23 rfl rfl)
theorem dJ1_addLast_24 : decode cJ1_addLast 24 = .ok (.aload_n 0, 1) := dk_42 (dk_at dksJ1_addLast_1 0 rfl rfl)
theorem dJ1_addLast_25 : decode cJ1_addLast 25 = .ok (.getfield 24, 3) := dk_180 0 24 (dk_at dksJ1_addLast_1 1 rfl rfl)
theorem dJ1_addLast_28 : decode cJ1_addLast 28 = .ok (.aload_n 0, 1) := dk_42 (dk_at dksJ1_addLast_1 4 rfl rfl)
theorem dJ1_addLast_29 : decode cJ1_addLast 29 = .ok (.aload_n 0, 1) := dk_42 (dk_at dksJ1_addLast_1 5 rfl rfl)
theorem dJ1_addLast_30 : decode cJ1_addLast 30 = .ok (.getfield 20, 3) := dk_180 0 20 (dk_at dksJ1_addLast_1 6 rfl rfl)
theorem dJ1_addLast_33 : decode cJ1_addLast 33 = .ok (.aload_n 2, 1) := dk_44 (dk_at dksJ1_addLast_1 9 rfl rfl)
theorem dJ1_addLast_34 : decode cJ1_addLast 34 = .ok (.arraylength, 1) := dk_190 (dk_at dksJ1_addLast_1 10 rfl rfl)
theorem dJ1_addLast_35 : decode cJ1_addLast 35 = .ok (.invokestatic 74, 3) := dk_184 0 74 (dk_at dksJ1_addLast_1 11 rfl rfl)
theorem dJ1_addLast_38 : decode cJ1_addLast 38 = .ok (.dup_x1, 1) := dk_90 (dk_at dksJ1_addLast_1 14 rfl rfl)
theorem dJ1_addLast_39 : decode cJ1_addLast 39 = .ok (.putfield 20, 3) := dk_181 0 20 (dk_at dksJ1_addLast_1 15 rfl rfl)
theorem dJ1_addLast_42 : decode cJ1_addLast 42 = .ok (.if_icmp .ne 8, 3) := dk_160 0 8 (dk_at dksJ1_addLast_1 18 rfl rfl)
theorem dJ1_addLast_45 : decode cJ1_addLast 45 = .ok (.aload_n 0, 1) := dk_42 (dk_at dksJ1_addLast_1 21 rfl rfl)
theorem dJ1_addLast_46 : decode cJ1_addLast 46 = .ok (.iconst 1, 1) := dk_4 (dk_at dksJ1_addLast_1 22 rfl rfl)
theorem dJ1_addLast_47 : decode cJ1_addLast 47 = .ok (.invokevirtual 71, 3) := dk_182 0 71 (dk_at dksJ1_addLast_2 0 rfl rfl)
theorem dJ1_addLast_50 : decode cJ1_addLast 50 = .ok (.return_, 1) := dk_177 (dk_at dksJ1_addLast_2 3 rfl rfl)
abbrev cJ1_grow : ByteArray := prog_45_method_1_code
def yJ1_grow : MethodName := ⟨RJ1, "grow", "(I)V"⟩
def dkwJ1_grow_7 : List UInt8 := [177]
abbrev dktJ1_grow_7 : List UInt8 := dkwJ1_grow_7 ++ []
def dkwJ1_grow_6 : List UInt8 := [181, 0, 24, 54, 8, 21, 7, 21, 8, 162, 0, 15, 25, 5, 21, 7, 1, 83, 132, 7, 1, 167, 255, 240]
abbrev dktJ1_grow_6 : List UInt8 := dkwJ1_grow_6 ++ dktJ1_grow_7
def dkwJ1_grow_5 : List UInt8 := [42, 180, 0, 24, 100, 184, 0, 27, 42, 180, 0, 24, 54, 7, 42, 89, 180, 0, 24, 21, 6, 96, 90]
abbrev dktJ1_grow_5 : List UInt8 := dkwJ1_grow_5 ++ dktJ1_grow_6
def dkwJ1_grow_4 : List UInt8 := [198, 0, 71, 29, 28, 100, 54, 6, 25, 5, 42, 180, 0, 24, 25, 5, 42, 180, 0, 24, 21, 6, 96, 28]
abbrev dktJ1_grow_4 : List UInt8 := dkwJ1_grow_4 ++ dktJ1_grow_5
def dkwJ1_grow_3 : List UInt8 := [180, 0, 24, 161, 0, 24, 42, 180, 0, 20, 42, 180, 0, 24, 160, 0, 81, 25, 5, 42, 180, 0, 24, 50]
abbrev dktJ1_grow_3 : List UInt8 := dkwJ1_grow_3 ++ dktJ1_grow_4
def dkwJ1_grow_2 : List UInt8 := [182, 0, 10, 62, 42, 42, 180, 0, 3, 29, 184, 0, 14, 90, 181, 0, 3, 58, 5, 42, 180, 0, 20, 42]
abbrev dktJ1_grow_2 : List UInt8 := dkwJ1_grow_2 ++ dktJ1_grow_3
def dkwJ1_grow_1 : List UInt8 := [21, 4, 27, 161, 0, 15, 28, 21, 4, 96, 89, 62, 18, 9, 100, 158, 0, 11, 42, 27, 21, 4]
abbrev dktJ1_grow_1 : List UInt8 := dkwJ1_grow_1 ++ dktJ1_grow_2
def dkwJ1_grow_0 : List UInt8 := [42, 180, 0, 3, 190, 61, 28, 16, 64, 162, 0, 9, 28, 5, 96, 167, 0, 6, 28, 4, 122, 54, 4]
abbrev dktJ1_grow_0 : List UInt8 := dkwJ1_grow_0 ++ dktJ1_grow_1
theorem dksJ1_grow_0 : cJ1_grow.data.toList.drop 0 = dktJ1_grow_0 := by decide +kernel
theorem dksJ1_grow_1 : cJ1_grow.data.toList.drop 23 = dktJ1_grow_1 := dk_seg dksJ1_grow_0 23 rfl rfl
theorem dksJ1_grow_2 : cJ1_grow.data.toList.drop 45 = dktJ1_grow_2 := dk_seg dksJ1_grow_1 22 rfl rfl
theorem dksJ1_grow_3 : cJ1_grow.data.toList.drop 69 = dktJ1_grow_3 := dk_seg dksJ1_grow_2 24 rfl rfl
theorem dksJ1_grow_4 : cJ1_grow.data.toList.drop 93 = dktJ1_grow_4 := dk_seg dksJ1_grow_3 24 rfl rfl
theorem dksJ1_grow_5 : cJ1_grow.data.toList.drop 117 = dktJ1_grow_5 := dk_seg dksJ1_grow_4 24 rfl rfl
theorem dksJ1_grow_6 : cJ1_grow.data.toList.drop 140 = dktJ1_grow_6 := dk_seg dksJ1_grow_5 23 rfl rfl
theorem dksJ1_grow_7 : cJ1_grow.data.toList.drop 164 = dktJ1_grow_7 := dk_seg dksJ1_grow_6 24 rfl rfl
theorem dJ1_grow_0 : decode cJ1_grow 0 = .ok (.aload_n 0, 1) := dk_42 (dk_at dksJ1_grow_0 0 rfl rfl)
theorem dJ1_grow_1 : decode cJ1_grow 1 = .ok (.getfield 3, 3) := dk_180 0 3 (dk_at dksJ1_grow_0 1 rfl rfl)
theorem dJ1_grow_4 : decode cJ1_grow 4 = .ok (.arraylength, 1) := dk_190 (dk_at dksJ1_grow_0 4 rfl rfl)
theorem dJ1_grow_5 : decode cJ1_grow 5 = .ok (.istore_n 2, 1) := dk_61 (dk_at dksJ1_grow_0 5 rfl rfl)
theorem dJ1_grow_6 : decode cJ1_grow 6 = .ok (.iload_n 2, 1) := dk_28 (dk_at dksJ1_grow_0 6 rfl rfl)
theorem dJ1_grow_7 : decode cJ1_grow 7 = .ok (.bipush 64, 2) := dk_16 64 (dk_at dksJ1_grow_0 7 rfl rfl)
theorem dJ1_grow_9 : decode cJ1_grow 9 = .ok (.if_icmp .ge 9, 3) := dk_162 0 9 (dk_at dksJ1_grow_0 9 rfl rfl)
theorem dJ1_grow_12 : decode cJ1_grow 12 = .ok (.iload_n 2, 1) := dk_28 (dk_at dksJ1_grow_0 12 rfl rfl)
theorem dJ1_grow_13 : decode cJ1_grow 13 = .ok (.iconst 2, 1) := dk_5 (dk_at dksJ1_grow_0 13 rfl rfl)
theorem dJ1_grow_14 : decode cJ1_grow 14 = .ok (.iadd, 1) := dk_96 (dk_at dksJ1_grow_0 14 rfl rfl)
theorem dJ1_grow_15 : decode cJ1_grow 15 = .ok (.goto 6, 3) := dk_167 0 6 (dk_at dksJ1_grow_0 15 rfl rfl)
theorem dJ1_grow_18 : decode cJ1_grow 18 = .ok (.iload_n 2, 1) := dk_28 (dk_at dksJ1_grow_0 18 rfl rfl)
theorem dJ1_grow_19 : decode cJ1_grow 19 = .ok (.iconst 1, 1) := dk_4 (dk_at dksJ1_grow_0 19 rfl rfl)
theorem dJ1_grow_20 : decode cJ1_grow 20 = .ok (.ishr, 1) := dk_122 (dk_at dksJ1_grow_0 20 rfl rfl)
theorem dJ1_grow_21 : decode cJ1_grow 21 = .ok (.istore 4, 2) := dk_54 4 (dk_at dksJ1_grow_0 21 rfl rfl)
theorem dJ1_grow_23 : decode cJ1_grow 23 = .ok (.iload 4, 2) := dk_21 4 (dk_at dksJ1_grow_1 0 rfl rfl)
theorem dJ1_grow_25 : decode cJ1_grow 25 = .ok (.iload_n 1, 1) := dk_27 (dk_at dksJ1_grow_1 2 rfl rfl)
theorem dJ1_grow_26 : decode cJ1_grow 26 = .ok (.if_icmp .lt 15, 3) := dk_161 0 15 (dk_at dksJ1_grow_1 3 rfl rfl)
theorem dJ1_grow_29 : decode cJ1_grow 29 = .ok (.iload_n 2, 1) := dk_28 (dk_at dksJ1_grow_1 6 rfl rfl)
theorem dJ1_grow_30 : decode cJ1_grow 30 = .ok (.iload 4, 2) := dk_21 4 (dk_at dksJ1_grow_1 7 rfl rfl)
theorem dJ1_grow_32 : decode cJ1_grow 32 = .ok (.iadd, 1) := dk_96 (dk_at dksJ1_grow_1 9 rfl rfl)
theorem dJ1_grow_33 : decode cJ1_grow 33 = .ok (.dup, 1) := dk_89 (dk_at dksJ1_grow_1 10 rfl rfl)
theorem dJ1_grow_34 : decode cJ1_grow 34 = .ok (.istore_n 3, 1) := dk_62 (dk_at dksJ1_grow_1 11 rfl rfl)
theorem dJ1_grow_35 : decode cJ1_grow 35 = .ok (.ldc 9, 2) := dk_18 9 (dk_at dksJ1_grow_1 12 rfl rfl)
theorem dJ1_grow_37 : decode cJ1_grow 37 = .ok (.isub, 1) := dk_100 (dk_at dksJ1_grow_1 14 rfl rfl)
theorem dJ1_grow_38 : decode cJ1_grow 38 = .ok (.ifCond .le 11, 3) := dk_158 0 11 (dk_at dksJ1_grow_1 15 rfl rfl)
theorem dJ1_grow_41 : decode cJ1_grow 41 = .ok (.aload_n 0, 1) := dk_42 (dk_at dksJ1_grow_1 18 rfl rfl)
theorem dJ1_grow_42 : decode cJ1_grow 42 = .ok (.iload_n 1, 1) := dk_27 (dk_at dksJ1_grow_1 19 rfl rfl)
theorem dJ1_grow_43 : decode cJ1_grow 43 = .ok (.iload 4, 2) := dk_21 4 (dk_at dksJ1_grow_1 20 rfl rfl)
theorem dJ1_grow_45 : decode cJ1_grow 45 = .ok (.invokevirtual 10, 3) := dk_182 0 10 (dk_at dksJ1_grow_2 0 rfl rfl)
theorem dJ1_grow_48 : decode cJ1_grow 48 = .ok (.istore_n 3, 1) := dk_62 (dk_at dksJ1_grow_2 3 rfl rfl)
theorem dJ1_grow_49 : decode cJ1_grow 49 = .ok (.aload_n 0, 1) := dk_42 (dk_at dksJ1_grow_2 4 rfl rfl)
theorem dJ1_grow_50 : decode cJ1_grow 50 = .ok (.aload_n 0, 1) := dk_42 (dk_at dksJ1_grow_2 5 rfl rfl)
theorem dJ1_grow_51 : decode cJ1_grow 51 = .ok (.getfield 3, 3) := dk_180 0 3 (dk_at dksJ1_grow_2 6 rfl rfl)
theorem dJ1_grow_54 : decode cJ1_grow 54 = .ok (.iload_n 3, 1) := dk_29 (dk_at dksJ1_grow_2 9 rfl rfl)
theorem dJ1_grow_55 : decode cJ1_grow 55 = .ok (.invokestatic 14, 3) := dk_184 0 14 (dk_at dksJ1_grow_2 10 rfl rfl)
theorem dJ1_grow_58 : decode cJ1_grow 58 = .ok (.dup_x1, 1) := dk_90 (dk_at dksJ1_grow_2 13 rfl rfl)
theorem dJ1_grow_59 : decode cJ1_grow 59 = .ok (.putfield 3, 3) := dk_181 0 3 (dk_at dksJ1_grow_2 14 rfl rfl)
theorem dJ1_grow_62 : decode cJ1_grow 62 = .ok (.astore 5, 2) := dk_58 5 (dk_at dksJ1_grow_2 17 rfl rfl)
theorem dJ1_grow_64 : decode cJ1_grow 64 = .ok (.aload_n 0, 1) := dk_42 (dk_at dksJ1_grow_2 19 rfl rfl)
theorem dJ1_grow_65 : decode cJ1_grow 65 = .ok (.getfield 20, 3) := dk_180 0 20 (dk_at dksJ1_grow_2 20 rfl rfl)
theorem dJ1_grow_68 : decode cJ1_grow 68 = .ok (.aload_n 0, 1) := dk_42 (dk_at dksJ1_grow_2 23 rfl rfl)
theorem dJ1_grow_69 : decode cJ1_grow 69 = .ok (.getfield 24, 3) := dk_180 0 24 (dk_at dksJ1_grow_3 0 rfl rfl)
theorem dJ1_grow_72 : decode cJ1_grow 72 = .ok (.if_icmp .lt 24, 3) := dk_161 0 24 (dk_at dksJ1_grow_3 3 rfl rfl)
theorem dJ1_grow_75 : decode cJ1_grow 75 = .ok (.aload_n 0, 1) := dk_42 (dk_at dksJ1_grow_3 6 rfl rfl)
theorem dJ1_grow_76 : decode cJ1_grow 76 = .ok (.getfield 20, 3) := dk_180 0 20 (dk_at dksJ1_grow_3 7 rfl rfl)
theorem dJ1_grow_79 : decode cJ1_grow 79 = .ok (.aload_n 0, 1) := dk_42 (dk_at dksJ1_grow_3 10 rfl rfl)
theorem dJ1_grow_80 : decode cJ1_grow 80 = .ok (.getfield 24, 3) := dk_180 0 24 (dk_at dksJ1_grow_3 11 rfl rfl)
theorem dJ1_grow_83 : decode cJ1_grow 83 = .ok (.if_icmp .ne 81, 3) := dk_160 0 81 (dk_at dksJ1_grow_3 14 rfl rfl)
theorem dJ1_grow_86 : decode cJ1_grow 86 = .ok (.aload 5, 2) := dk_25 5 (dk_at dksJ1_grow_3 17 rfl rfl)
theorem dJ1_grow_88 : decode cJ1_grow 88 = .ok (.aload_n 0, 1) := dk_42 (dk_at dksJ1_grow_3 19 rfl rfl)
theorem dJ1_grow_89 : decode cJ1_grow 89 = .ok (.getfield 24, 3) := dk_180 0 24 (dk_at dksJ1_grow_3 20 rfl rfl)
theorem dJ1_grow_92 : decode cJ1_grow 92 = .ok (.aaload, 1) := dk_50 (dk_at dksJ1_grow_3 23 rfl rfl)
theorem dJ1_grow_93 : decode cJ1_grow 93 = .ok (.ifnull 71, 3) := dk_198 0 71 (dk_at dksJ1_grow_4 0 rfl rfl)
theorem dJ1_grow_96 : decode cJ1_grow 96 = .ok (.iload_n 3, 1) := dk_29 (dk_at dksJ1_grow_4 3 rfl rfl)
theorem dJ1_grow_97 : decode cJ1_grow 97 = .ok (.iload_n 2, 1) := dk_28 (dk_at dksJ1_grow_4 4 rfl rfl)
theorem dJ1_grow_98 : decode cJ1_grow 98 = .ok (.isub, 1) := dk_100 (dk_at dksJ1_grow_4 5 rfl rfl)
theorem dJ1_grow_99 : decode cJ1_grow 99 = .ok (.istore 6, 2) := dk_54 6 (dk_at dksJ1_grow_4 6 rfl rfl)
theorem dJ1_grow_101 : decode cJ1_grow 101 = .ok (.aload 5, 2) := dk_25 5 (dk_at dksJ1_grow_4 8 rfl rfl)
theorem dJ1_grow_103 : decode cJ1_grow 103 = .ok (.aload_n 0, 1) := dk_42 (dk_at dksJ1_grow_4 10 rfl rfl)
theorem dJ1_grow_104 : decode cJ1_grow 104 = .ok (.getfield 24, 3) := dk_180 0 24 (dk_at dksJ1_grow_4 11 rfl rfl)
theorem dJ1_grow_107 : decode cJ1_grow 107 = .ok (.aload 5, 2) := dk_25 5 (dk_at dksJ1_grow_4 14 rfl rfl)
theorem dJ1_grow_109 : decode cJ1_grow 109 = .ok (.aload_n 0, 1) := dk_42 (dk_at dksJ1_grow_4 16 rfl rfl)
theorem dJ1_grow_110 : decode cJ1_grow 110 = .ok (.getfield 24, 3) := dk_180 0 24 (dk_at dksJ1_grow_4 17 rfl rfl)
theorem dJ1_grow_113 : decode cJ1_grow 113 = .ok (.iload 6, 2) := dk_21 6 (dk_at dksJ1_grow_4 20 rfl rfl)
theorem dJ1_grow_115 : decode cJ1_grow 115 = .ok (.iadd, 1) := dk_96 (dk_at dksJ1_grow_4 22 rfl rfl)
theorem dJ1_grow_116 : decode cJ1_grow 116 = .ok (.iload_n 2, 1) := dk_28 (dk_at dksJ1_grow_4 23 rfl rfl)
theorem dJ1_grow_117 : decode cJ1_grow 117 = .ok (.aload_n 0, 1) := dk_42 (dk_at dksJ1_grow_5 0 rfl rfl)
theorem dJ1_grow_118 : decode cJ1_grow 118 = .ok (.getfield 24, 3) := dk_180 0 24 (dk_at dksJ1_grow_5 1 rfl rfl)
theorem dJ1_grow_121 : decode cJ1_grow 121 = .ok (.isub, 1) := dk_100 (dk_at dksJ1_grow_5 4 rfl rfl)
theorem dJ1_grow_122 : decode cJ1_grow 122 = .ok (.invokestatic 27, 3) := dk_184 0 27 (dk_at dksJ1_grow_5 5 rfl rfl)
theorem dJ1_grow_125 : decode cJ1_grow 125 = .ok (.aload_n 0, 1) := dk_42 (dk_at dksJ1_grow_5 8 rfl rfl)
theorem dJ1_grow_126 : decode cJ1_grow 126 = .ok (.getfield 24, 3) := dk_180 0 24 (dk_at dksJ1_grow_5 9 rfl rfl)
theorem dJ1_grow_129 : decode cJ1_grow 129 = .ok (.istore 7, 2) := dk_54 7 (dk_at dksJ1_grow_5 12 rfl rfl)
theorem dJ1_grow_131 : decode cJ1_grow 131 = .ok (.aload_n 0, 1) := dk_42 (dk_at dksJ1_grow_5 14 rfl rfl)
theorem dJ1_grow_132 : decode cJ1_grow 132 = .ok (.dup, 1) := dk_89 (dk_at dksJ1_grow_5 15 rfl rfl)
theorem dJ1_grow_133 : decode cJ1_grow 133 = .ok (.getfield 24, 3) := dk_180 0 24 (dk_at dksJ1_grow_5 16 rfl rfl)
theorem dJ1_grow_136 : decode cJ1_grow 136 = .ok (.iload 6, 2) := dk_21 6 (dk_at dksJ1_grow_5 19 rfl rfl)
theorem dJ1_grow_138 : decode cJ1_grow 138 = .ok (.iadd, 1) := dk_96 (dk_at dksJ1_grow_5 21 rfl rfl)
theorem dJ1_grow_139 : decode cJ1_grow 139 = .ok (.dup_x1, 1) := dk_90 (dk_at dksJ1_grow_5 22 rfl rfl)
theorem dJ1_grow_140 : decode cJ1_grow 140 = .ok (.putfield 24, 3) := dk_181 0 24 (dk_at dksJ1_grow_6 0 rfl rfl)
theorem dJ1_grow_143 : decode cJ1_grow 143 = .ok (.istore 8, 2) := dk_54 8 (dk_at dksJ1_grow_6 3 rfl rfl)
theorem dJ1_grow_145 : decode cJ1_grow 145 = .ok (.iload 7, 2) := dk_21 7 (dk_at dksJ1_grow_6 5 rfl rfl)
theorem dJ1_grow_147 : decode cJ1_grow 147 = .ok (.iload 8, 2) := dk_21 8 (dk_at dksJ1_grow_6 7 rfl rfl)
theorem dJ1_grow_149 : decode cJ1_grow 149 = .ok (.if_icmp .ge 15, 3) := dk_162 0 15 (dk_at dksJ1_grow_6 9 rfl rfl)
theorem dJ1_grow_152 : decode cJ1_grow 152 = .ok (.aload 5, 2) := dk_25 5 (dk_at dksJ1_grow_6 12 rfl rfl)
theorem dJ1_grow_154 : decode cJ1_grow 154 = .ok (.iload 7, 2) := dk_21 7 (dk_at dksJ1_grow_6 14 rfl rfl)
theorem dJ1_grow_156 : decode cJ1_grow 156 = .ok (.aconst_null, 1) := dk_1 (dk_at dksJ1_grow_6 16 rfl rfl)
theorem dJ1_grow_157 : decode cJ1_grow 157 = .ok (.aastore, 1) := dk_83 (dk_at dksJ1_grow_6 17 rfl rfl)
theorem dJ1_grow_158 : decode cJ1_grow 158 = .ok (.iinc 7 1, 3) := dk_132 7 1 (dk_at dksJ1_grow_6 18 rfl rfl)
theorem dJ1_grow_161 : decode cJ1_grow 161 = .ok (.goto (-16), 3) := dk_167 255 240 (dk_at dksJ1_grow_6 21 rfl rfl)
theorem dJ1_grow_164 : decode cJ1_grow 164 = .ok (.return_, 1) := dk_177 (dk_at dksJ1_grow_7 0 rfl rfl)
abbrev cJ1_newCapacity : ByteArray := prog_45_method_2_code
def yJ1_newCapacity : MethodName := ⟨RJ1, "newCapacity", "(II)I"⟩
def dkwJ1_newCapacity_2 : List UInt8 := [18, 9, 100, 156, 0, 9, 29, 28, 96, 167, 0, 5, 18, 9, 172]
abbrev dktJ1_newCapacity_2 : List UInt8 := dkwJ1_newCapacity_2 ++ []
def dkwJ1_newCapacity_1 : List UInt8 := [187, 0, 33, 89, 18, 35, 183, 0, 37, 191, 18, 41, 172, 27, 28, 164, 0, 6, 21, 4, 172, 29, 28, 96]
abbrev dktJ1_newCapacity_1 : List UInt8 := dkwJ1_newCapacity_1 ++ dktJ1_newCapacity_2
def dkwJ1_newCapacity_0 : List UInt8 := [42, 180, 0, 3, 190, 62, 29, 27, 96, 89, 54, 4, 18, 9, 100, 158, 0, 21, 21, 4, 156, 0, 13]
abbrev dktJ1_newCapacity_0 : List UInt8 := dkwJ1_newCapacity_0 ++ dktJ1_newCapacity_1
theorem dksJ1_newCapacity_0 : cJ1_newCapacity.data.toList.drop 0 = dktJ1_newCapacity_0 := by decide +kernel
theorem dksJ1_newCapacity_1 : cJ1_newCapacity.data.toList.drop 23 = dktJ1_newCapacity_1 := dk_seg dksJ1_newCapacity_0 23 rfl rfl
theorem dksJ1_newCapacity_2 : cJ1_newCapacity.data.toList.drop 47 = dktJ1_newCapacity_2 := dk_seg dksJ1_newCapacity_1 24 rfl rfl
theorem dJ1_newCapacity_0 : decode cJ1_newCapacity 0 = .ok (.aload_n 0, 1) := dk_42 (dk_at dksJ1_newCapacity_0 0 rfl rfl)
theorem dJ1_newCapacity_1 : decode cJ1_newCapacity 1 = .ok (.getfield 3, 3) := dk_180 0 3 (dk_at dksJ1_newCapacity_0 1 rfl rfl)
theorem dJ1_newCapacity_4 : decode cJ1_newCapacity 4 = .ok (.arraylength, 1) := dk_190 (dk_at dksJ1_newCapacity_0 4 rfl rfl)
theorem dJ1_newCapacity_5 : decode cJ1_newCapacity 5 = .ok (.istore_n 3, 1) := dk_62 (dk_at dksJ1_newCapacity_0 5 rfl rfl)
theorem dJ1_newCapacity_6 : decode cJ1_newCapacity 6 = .ok (.iload_n 3, 1) := dk_29 (dk_at dksJ1_newCapacity_0 6 rfl rfl)
theorem dJ1_newCapacity_7 : decode cJ1_newCapacity 7 = .ok (.iload_n 1, 1) := dk_27 (dk_at dksJ1_newCapacity_0 7 rfl rfl)
theorem dJ1_newCapacity_8 : decode cJ1_newCapacity 8 = .ok (.iadd, 1) := dk_96 (dk_at dksJ1_newCapacity_0 8 rfl rfl)
theorem dJ1_newCapacity_9 : decode cJ1_newCapacity 9 = .ok (.dup, 1) := dk_89 (dk_at dksJ1_newCapacity_0 9 rfl rfl)
theorem dJ1_newCapacity_10 : decode cJ1_newCapacity 10 = .ok (.istore 4, 2) := dk_54 4 (dk_at dksJ1_newCapacity_0 10 rfl rfl)
theorem dJ1_newCapacity_12 : decode cJ1_newCapacity 12 = .ok (.ldc 9, 2) := dk_18 9 (dk_at dksJ1_newCapacity_0 12 rfl rfl)
theorem dJ1_newCapacity_14 : decode cJ1_newCapacity 14 = .ok (.isub, 1) := dk_100 (dk_at dksJ1_newCapacity_0 14 rfl rfl)
theorem dJ1_newCapacity_15 : decode cJ1_newCapacity 15 = .ok (.ifCond .le 21, 3) := dk_158 0 21 (dk_at dksJ1_newCapacity_0 15 rfl rfl)
theorem dJ1_newCapacity_18 : decode cJ1_newCapacity 18 = .ok (.iload 4, 2) := dk_21 4 (dk_at dksJ1_newCapacity_0 18 rfl rfl)
theorem dJ1_newCapacity_20 : decode cJ1_newCapacity 20 = .ok (.ifCond .ge 13, 3) := dk_156 0 13 (dk_at dksJ1_newCapacity_0 20 rfl rfl)
theorem dJ1_newCapacity_23 : decode cJ1_newCapacity 23 = .ok (.new 33, 3) := dk_187 0 33 (dk_at dksJ1_newCapacity_1 0 rfl rfl)
theorem dJ1_newCapacity_26 : decode cJ1_newCapacity 26 = .ok (.dup, 1) := dk_89 (dk_at dksJ1_newCapacity_1 3 rfl rfl)
theorem dJ1_newCapacity_27 : decode cJ1_newCapacity 27 = .ok (.ldc 35, 2) := dk_18 35 (dk_at dksJ1_newCapacity_1 4 rfl rfl)
theorem dJ1_newCapacity_29 : decode cJ1_newCapacity 29 = .ok (.invokespecial 37, 3) := dk_183 0 37 (dk_at dksJ1_newCapacity_1 6 rfl rfl)
theorem dJ1_newCapacity_32 : decode cJ1_newCapacity 32 = .ok (.athrow, 1) := dk_191 (dk_at dksJ1_newCapacity_1 9 rfl rfl)
theorem dJ1_newCapacity_33 : decode cJ1_newCapacity 33 = .ok (.ldc 41, 2) := dk_18 41 (dk_at dksJ1_newCapacity_1 10 rfl rfl)
theorem dJ1_newCapacity_35 : decode cJ1_newCapacity 35 = .ok (.ireturn, 1) := dk_172 (dk_at dksJ1_newCapacity_1 12 rfl rfl)
theorem dJ1_newCapacity_36 : decode cJ1_newCapacity 36 = .ok (.iload_n 1, 1) := dk_27 (dk_at dksJ1_newCapacity_1 13 rfl rfl)
theorem dJ1_newCapacity_37 : decode cJ1_newCapacity 37 = .ok (.iload_n 2, 1) := dk_28 (dk_at dksJ1_newCapacity_1 14 rfl rfl)
theorem dJ1_newCapacity_38 : decode cJ1_newCapacity 38 = .ok (.if_icmp .le 6, 3) := dk_164 0 6 (dk_at dksJ1_newCapacity_1 15 rfl rfl)
theorem dJ1_newCapacity_41 : decode cJ1_newCapacity 41 = .ok (.iload 4, 2) := dk_21 4 (dk_at dksJ1_newCapacity_1 18 rfl rfl)
theorem dJ1_newCapacity_43 : decode cJ1_newCapacity 43 = .ok (.ireturn, 1) := dk_172 (dk_at dksJ1_newCapacity_1 20 rfl rfl)
theorem dJ1_newCapacity_44 : decode cJ1_newCapacity 44 = .ok (.iload_n 3, 1) := dk_29 (dk_at dksJ1_newCapacity_1 21 rfl rfl)
theorem dJ1_newCapacity_45 : decode cJ1_newCapacity 45 = .ok (.iload_n 2, 1) := dk_28 (dk_at dksJ1_newCapacity_1 22 rfl rfl)
theorem dJ1_newCapacity_46 : decode cJ1_newCapacity 46 = .ok (.iadd, 1) := dk_96 (dk_at dksJ1_newCapacity_1 23 rfl rfl)
theorem dJ1_newCapacity_47 : decode cJ1_newCapacity 47 = .ok (.ldc 9, 2) := dk_18 9 (dk_at dksJ1_newCapacity_2 0 rfl rfl)
theorem dJ1_newCapacity_49 : decode cJ1_newCapacity 49 = .ok (.isub, 1) := dk_100 (dk_at dksJ1_newCapacity_2 2 rfl rfl)
theorem dJ1_newCapacity_50 : decode cJ1_newCapacity 50 = .ok (.ifCond .ge 9, 3) := dk_156 0 9 (dk_at dksJ1_newCapacity_2 3 rfl rfl)
theorem dJ1_newCapacity_53 : decode cJ1_newCapacity 53 = .ok (.iload_n 3, 1) := dk_29 (dk_at dksJ1_newCapacity_2 6 rfl rfl)
theorem dJ1_newCapacity_54 : decode cJ1_newCapacity 54 = .ok (.iload_n 2, 1) := dk_28 (dk_at dksJ1_newCapacity_2 7 rfl rfl)
theorem dJ1_newCapacity_55 : decode cJ1_newCapacity 55 = .ok (.iadd, 1) := dk_96 (dk_at dksJ1_newCapacity_2 8 rfl rfl)
theorem dJ1_newCapacity_56 : decode cJ1_newCapacity 56 = .ok (.goto 5, 3) := dk_167 0 5 (dk_at dksJ1_newCapacity_2 9 rfl rfl)
theorem dJ1_newCapacity_59 : decode cJ1_newCapacity 59 = .ok (.ldc 9, 2) := dk_18 9 (dk_at dksJ1_newCapacity_2 12 rfl rfl)
theorem dJ1_newCapacity_61 : decode cJ1_newCapacity 61 = .ok (.ireturn, 1) := dk_172 (dk_at dksJ1_newCapacity_2 14 rfl rfl)
abbrev cJ1_isEmpty : ByteArray := prog_45_method_38_code
def yJ1_isEmpty : MethodName := ⟨RJ1, "isEmpty", "()Z"⟩
def dkwJ1_isEmpty_0 : List UInt8 := [42, 180, 0, 24, 42, 180, 0, 20, 160, 0, 7, 4, 167, 0, 4, 3, 172]
abbrev dktJ1_isEmpty_0 : List UInt8 := dkwJ1_isEmpty_0 ++ []
theorem dksJ1_isEmpty_0 : cJ1_isEmpty.data.toList.drop 0 = dktJ1_isEmpty_0 := by decide +kernel
theorem dJ1_isEmpty_0 : decode cJ1_isEmpty 0 = .ok (.aload_n 0, 1) := dk_42 (dk_at dksJ1_isEmpty_0 0 rfl rfl)
theorem dJ1_isEmpty_1 : decode cJ1_isEmpty 1 = .ok (.getfield 24, 3) := dk_180 0 24 (dk_at dksJ1_isEmpty_0 1 rfl rfl)
theorem dJ1_isEmpty_4 : decode cJ1_isEmpty 4 = .ok (.aload_n 0, 1) := dk_42 (dk_at dksJ1_isEmpty_0 4 rfl rfl)
theorem dJ1_isEmpty_5 : decode cJ1_isEmpty 5 = .ok (.getfield 20, 3) := dk_180 0 20 (dk_at dksJ1_isEmpty_0 5 rfl rfl)
theorem dJ1_isEmpty_8 : decode cJ1_isEmpty 8 = .ok (.if_icmp .ne 7, 3) := dk_160 0 7 (dk_at dksJ1_isEmpty_0 8 rfl rfl)
theorem dJ1_isEmpty_11 : decode cJ1_isEmpty 11 = .ok (.iconst 1, 1) := dk_4 (dk_at dksJ1_isEmpty_0 11 rfl rfl)
theorem dJ1_isEmpty_12 : decode cJ1_isEmpty 12 = .ok (.goto 4, 3) := dk_167 0 4 (dk_at dksJ1_isEmpty_0 12 rfl rfl)
theorem dJ1_isEmpty_15 : decode cJ1_isEmpty 15 = .ok (.iconst 0, 1) := dk_3 (dk_at dksJ1_isEmpty_0 15 rfl rfl)
theorem dJ1_isEmpty_16 : decode cJ1_isEmpty 16 = .ok (.ireturn, 1) := dk_172 (dk_at dksJ1_isEmpty_0 16 rfl rfl)
abbrev cJ1_removeLast : ByteArray := prog_45_method_19_code
def yJ1_removeLast : MethodName := ⟨RJ1, "removeLast", "()Ljava/lang/Object;"⟩
def dkwJ1_removeLast_0 : List UInt8 := [42, 182, 0, 100, 76, 43, 199, 0, 11, 187, 0, 97, 89, 183, 0, 99, 191, 43, 176]
abbrev dktJ1_removeLast_0 : List UInt8 := dkwJ1_removeLast_0 ++ []
theorem dksJ1_removeLast_0 : cJ1_removeLast.data.toList.drop 0 = dktJ1_removeLast_0 := by decide +kernel
theorem dJ1_removeLast_0 : decode cJ1_removeLast 0 = .ok (.aload_n 0, 1) := dk_42 (dk_at dksJ1_removeLast_0 0 rfl rfl)
theorem dJ1_removeLast_1 : decode cJ1_removeLast 1 = .ok (.invokevirtual 100, 3) := dk_182 0 100 (dk_at dksJ1_removeLast_0 1 rfl rfl)
theorem dJ1_removeLast_4 : decode cJ1_removeLast 4 = .ok (.astore_n 1, 1) := dk_76 (dk_at dksJ1_removeLast_0 4 rfl rfl)
theorem dJ1_removeLast_5 : decode cJ1_removeLast 5 = .ok (.aload_n 1, 1) := dk_43 (dk_at dksJ1_removeLast_0 5 rfl rfl)
theorem dJ1_removeLast_6 : decode cJ1_removeLast 6 = .ok (.ifnonnull 11, 3) := dk_199 0 11 (dk_at dksJ1_removeLast_0 6 rfl rfl)
theorem dJ1_removeLast_9 : decode cJ1_removeLast 9 = .ok (.new 97, 3) := dk_187 0 97 (dk_at dksJ1_removeLast_0 9 rfl rfl)
theorem dJ1_removeLast_12 : decode cJ1_removeLast 12 = .ok (.dup, 1) := dk_89 (dk_at dksJ1_removeLast_0 12 rfl rfl)
theorem dJ1_removeLast_13 : decode cJ1_removeLast 13 = .ok (.invokespecial 99, 3) := dk_183 0 99 (dk_at dksJ1_removeLast_0 13 rfl rfl)
theorem dJ1_removeLast_16 : decode cJ1_removeLast 16 = .ok (.athrow, 1) := dk_191 (dk_at dksJ1_removeLast_0 16 rfl rfl)
theorem dJ1_removeLast_17 : decode cJ1_removeLast 17 = .ok (.aload_n 1, 1) := dk_43 (dk_at dksJ1_removeLast_0 17 rfl rfl)
theorem dJ1_removeLast_18 : decode cJ1_removeLast 18 = .ok (.areturn, 1) := dk_176 (dk_at dksJ1_removeLast_0 18 rfl rfl)
abbrev cJ1_pollLast : ByteArray := prog_45_method_21_code
def yJ1_pollLast : MethodName := ⟨RJ1, "pollLast", "()Ljava/lang/Object;"⟩
def dkwJ1_pollLast_1 : List UInt8 := [198, 0, 12, 43, 42, 28, 90, 181, 0, 20, 1, 83, 45, 176]
abbrev dktJ1_pollLast_1 : List UInt8 := dkwJ1_pollLast_1 ++ []
def dkwJ1_pollLast_0 : List UInt8 := [42, 180, 0, 3, 89, 76, 42, 180, 0, 20, 43, 190, 184, 0, 68, 89, 61, 184, 0, 103, 78, 45]
abbrev dktJ1_pollLast_0 : List UInt8 := dkwJ1_pollLast_0 ++ dktJ1_pollLast_1
theorem dksJ1_pollLast_0 : cJ1_pollLast.data.toList.drop 0 = dktJ1_pollLast_0 := by decide +kernel
theorem dksJ1_pollLast_1 : cJ1_pollLast.data.toList.drop 22 = dktJ1_pollLast_1 := dk_seg dksJ1_pollLast_0 22 rfl rfl
theorem dJ1_pollLast_0 : decode cJ1_pollLast 0 = .ok (.aload_n 0, 1) := dk_42 (dk_at dksJ1_pollLast_0 0 rfl rfl)
theorem dJ1_pollLast_1 : decode cJ1_pollLast 1 = .ok (.getfield 3, 3) := dk_180 0 3 (dk_at dksJ1_pollLast_0 1 rfl rfl)
theorem dJ1_pollLast_4 : decode cJ1_pollLast 4 = .ok (.dup, 1) := dk_89 (dk_at dksJ1_pollLast_0 4 rfl rfl)
theorem dJ1_pollLast_5 : decode cJ1_pollLast 5 = .ok (.astore_n 1, 1) := dk_76 (dk_at dksJ1_pollLast_0 5 rfl rfl)
theorem dJ1_pollLast_6 : decode cJ1_pollLast 6 = .ok (.aload_n 0, 1) := dk_42 (dk_at dksJ1_pollLast_0 6 rfl rfl)
theorem dJ1_pollLast_7 : decode cJ1_pollLast 7 = .ok (.getfield 20, 3) := dk_180 0 20 (dk_at dksJ1_pollLast_0 7 rfl rfl)
theorem dJ1_pollLast_10 : decode cJ1_pollLast 10 = .ok (.aload_n 1, 1) := dk_43 (dk_at dksJ1_pollLast_0 10 rfl rfl)
theorem dJ1_pollLast_11 : decode cJ1_pollLast 11 = .ok (.arraylength, 1) := dk_190 (dk_at dksJ1_pollLast_0 11 rfl rfl)
theorem dJ1_pollLast_12 : decode cJ1_pollLast 12 = .ok (.invokestatic 68, 3) := dk_184 0 68 (dk_at dksJ1_pollLast_0 12 rfl rfl)
theorem dJ1_pollLast_15 : decode cJ1_pollLast 15 = .ok (.dup, 1) := dk_89 (dk_at dksJ1_pollLast_0 15 rfl rfl)
theorem dJ1_pollLast_16 : decode cJ1_pollLast 16 = .ok (.istore_n 2, 1) := dk_61 (dk_at dksJ1_pollLast_0 16 rfl rfl)
theorem dJ1_pollLast_17 : decode cJ1_pollLast 17 = .ok (.invokestatic 103, 3) := dk_184 0 103 (dk_at dksJ1_pollLast_0 17 rfl rfl)
theorem dJ1_pollLast_20 : decode cJ1_pollLast 20 = .ok (.astore_n 3, 1) := dk_78 (dk_at dksJ1_pollLast_0 20 rfl rfl)
theorem dJ1_pollLast_21 : decode cJ1_pollLast 21 = .ok (.aload_n 3, 1) := dk_45 (dk_at dksJ1_pollLast_0 21 rfl rfl)
theorem dJ1_pollLast_22 : decode cJ1_pollLast 22 = .ok (.ifnull 12, 3) := dk_198 0 12 (dk_at dksJ1_pollLast_1 0 rfl rfl)
theorem dJ1_pollLast_25 : decode cJ1_pollLast 25 = .ok (.aload_n 1, 1) := dk_43 (dk_at dksJ1_pollLast_1 3 rfl rfl)
theorem dJ1_pollLast_26 : decode cJ1_pollLast 26 = .ok (.aload_n 0, 1) := dk_42 (dk_at dksJ1_pollLast_1 4 rfl rfl)
theorem dJ1_pollLast_27 : decode cJ1_pollLast 27 = .ok (.iload_n 2, 1) := dk_28 (dk_at dksJ1_pollLast_1 5 rfl rfl)
theorem dJ1_pollLast_28 : decode cJ1_pollLast 28 = .ok (.dup_x1, 1) := dk_90 (dk_at dksJ1_pollLast_1 6 rfl rfl)
theorem dJ1_pollLast_29 : decode cJ1_pollLast 29 = .ok (.putfield 20, 3) := dk_181 0 20 (dk_at dksJ1_pollLast_1 7 rfl rfl)
theorem dJ1_pollLast_32 : decode cJ1_pollLast 32 = .ok (.aconst_null, 1) := dk_1 (dk_at dksJ1_pollLast_1 10 rfl rfl)
theorem dJ1_pollLast_33 : decode cJ1_pollLast 33 = .ok (.aastore, 1) := dk_83 (dk_at dksJ1_pollLast_1 11 rfl rfl)
theorem dJ1_pollLast_34 : decode cJ1_pollLast 34 = .ok (.aload_n 3, 1) := dk_45 (dk_at dksJ1_pollLast_1 12 rfl rfl)
theorem dJ1_pollLast_35 : decode cJ1_pollLast 35 = .ok (.areturn, 1) := dk_176 (dk_at dksJ1_pollLast_1 13 rfl rfl)
abbrev cJ1_dec : ByteArray := prog_45_method_7_code
def yJ1_dec : MethodName := ⟨RJ1, "dec", "(II)I"⟩
def dkwJ1_dec_0 : List UInt8 := [132, 0, 255, 26, 156, 0, 7, 27, 4, 100, 59, 26, 172]
abbrev dktJ1_dec_0 : List UInt8 := dkwJ1_dec_0 ++ []
theorem dksJ1_dec_0 : cJ1_dec.data.toList.drop 0 = dktJ1_dec_0 := by decide +kernel
theorem dJ1_dec_0 : decode cJ1_dec 0 = .ok (.iinc 0 (-1), 3) := dk_132 0 255 (dk_at dksJ1_dec_0 0 rfl rfl)
theorem dJ1_dec_3 : decode cJ1_dec 3 = .ok (.iload_n 0, 1) := dk_26 (dk_at dksJ1_dec_0 3 rfl rfl)
theorem dJ1_dec_4 : decode cJ1_dec 4 = .ok (.ifCond .ge 7, 3) := dk_156 0 7 (dk_at dksJ1_dec_0 4 rfl rfl)
theorem dJ1_dec_7 : decode cJ1_dec 7 = .ok (.iload_n 1, 1) := dk_27 (dk_at dksJ1_dec_0 7 rfl rfl)
theorem dJ1_dec_8 : decode cJ1_dec 8 = .ok (.iconst 1, 1) := dk_4 (dk_at dksJ1_dec_0 8 rfl rfl)
theorem dJ1_dec_9 : decode cJ1_dec 9 = .ok (.isub, 1) := dk_100 (dk_at dksJ1_dec_0 9 rfl rfl)
theorem dJ1_dec_10 : decode cJ1_dec 10 = .ok (.istore_n 0, 1) := dk_59 (dk_at dksJ1_dec_0 10 rfl rfl)
theorem dJ1_dec_11 : decode cJ1_dec 11 = .ok (.iload_n 0, 1) := dk_26 (dk_at dksJ1_dec_0 11 rfl rfl)
theorem dJ1_dec_12 : decode cJ1_dec 12 = .ok (.ireturn, 1) := dk_172 (dk_at dksJ1_dec_0 12 rfl rfl)
theorem q88 : (Jvm.Cond.initialized "java/util/ArrayDeque") ∈ lw_all := lw_g (lw_at lw_m1 3 rfl) rfl
theorem q140 : (Jvm.Cond.instantiable "java/util/ArrayDeque" (3 : Nat)) ∈ lw_all := lw_g (lw_at lw_m1 55 rfl) rfl
theorem q142 : (Jvm.Cond.instanceMethod ({ cls := "java/util/ArrayDeque", name := "<init>", desc := "()V" } : Jvm.MethodName)) ∈ lw_all := lw_g (lw_at lw_m1 57 rfl) rfl
theorem q143 : (Jvm.Cond.code ({ cls := "java/util/ArrayDeque", name := "<init>", desc := "()V" } : Jvm.MethodName) prog_45_method_3_code (1 : Nat) (Option.none : Option Jvm.ClassFile.FieldType)) ∈ lw_all := lw_g (lw_at lw_m1 58 rfl) rfl
theorem q144 : (Jvm.Cond.methodLink "java/util/ArrayDeque" (42 : Nat) ({ cls := "java/util/AbstractCollection", name := "<init>", desc := "()V" } : Jvm.MethodName)) ∈ lw_all := lw_g (lw_at lw_m1 59 rfl) rfl
theorem q148 : (Jvm.Cond.classLink "java/util/ArrayDeque" (47 : Nat) "java/lang/Object") ∈ lw_all := lw_g (lw_at lw_m1 63 rfl) rfl
theorem q150 : (Jvm.Cond.fieldLink "java/util/ArrayDeque" (3 : Nat) "java/util/ArrayDeque" "elements" "[Ljava/lang/Object;") ∈ lw_all := lw_g (lw_at lw_m1 65 rfl) rfl
theorem q151 : (Jvm.Cond.fieldLink "java/util/ArrayDeque" (24 : Nat) "java/util/ArrayDeque" "head" "I") ∈ lw_all := lw_g (lw_at lw_m1 66 rfl) rfl
theorem q152 : (Jvm.Cond.fieldLink "java/util/ArrayDeque" (20 : Nat) "java/util/ArrayDeque" "tail" "I") ∈ lw_all := lw_g (lw_at lw_m1 67 rfl) rfl
theorem q153 : (Jvm.Cond.lays "java/util/ArrayDeque" "java/util/ArrayDeque" "elements" "[Ljava/lang/Object;") ∈ lw_all := lw_g (lw_at lw_m1 68 rfl) rfl
theorem q154 : (Jvm.Cond.soleField "java/util/ArrayDeque" "elements") ∈ lw_all := lw_g (lw_at lw_m1 69 rfl) rfl
theorem q155 : (Jvm.Cond.lays "java/util/ArrayDeque" "java/util/ArrayDeque" "head" "I") ∈ lw_all := lw_g (lw_at lw_m1 70 rfl) rfl
theorem q156 : (Jvm.Cond.soleField "java/util/ArrayDeque" "head") ∈ lw_all := lw_g (lw_at lw_m1 71 rfl) rfl
theorem q157 : (Jvm.Cond.lays "java/util/ArrayDeque" "java/util/ArrayDeque" "tail" "I") ∈ lw_all := lw_g (lw_at lw_m1 72 rfl) rfl
theorem q158 : (Jvm.Cond.soleField "java/util/ArrayDeque" "tail") ∈ lw_all := lw_g (lw_at lw_m1 73 rfl) rfl
theorem q159 : (Jvm.Cond.superclass "java/util/ArrayDeque" "java/util/AbstractCollection") ∈ lw_all := lw_g (lw_at lw_m1 74 rfl) rfl
theorem q383 : (Jvm.Cond.selects "java/util/ArrayDeque" ({ cls := "java/lang/Object", name := "getClass", desc := "()Ljava/lang/Class;" } : Jvm.MethodName) ({ cls := "java/lang/Object", name := "getClass", desc := "()Ljava/lang/Class;" } : Jvm.MethodName)) ∈ lw_all := lw_g (lw_at lw_m2 58 rfl) rfl
theorem q451 : (Jvm.Cond.instanceMethod ({ cls := "java/util/ArrayDeque", name := "size", desc := "()I" } : Jvm.MethodName)) ∈ lw_all := lw_g (lw_at lw_m2 126 rfl) rfl
theorem q452 : (Jvm.Cond.selects "java/util/ArrayDeque" ({ cls := "java/util/ArrayDeque", name := "size", desc := "()I" } : Jvm.MethodName) ({ cls := "java/util/ArrayDeque", name := "size", desc := "()I" } : Jvm.MethodName)) ∈ lw_all := lw_g (lw_at lw_m2 127 rfl) rfl
theorem q453 : (Jvm.Cond.code ({ cls := "java/util/ArrayDeque", name := "size", desc := "()I" } : Jvm.MethodName) prog_45_method_37_code (1 : Nat) (Option.some Jvm.ClassFile.FieldType.int)) ∈ lw_all := lw_g (lw_at lw_m2 128 rfl) rfl
theorem q454 : (Jvm.Cond.methodLink "java/util/ArrayDeque" (127 : Nat) ({ cls := "java/util/ArrayDeque", name := "sub", desc := "(III)I" } : Jvm.MethodName)) ∈ lw_all := lw_g (lw_at lw_m2 129 rfl) rfl
theorem q455 : (Jvm.Cond.static ({ cls := "java/util/ArrayDeque", name := "sub", desc := "(III)I" } : Jvm.MethodName)) ∈ lw_all := lw_g (lw_at lw_m2 130 rfl) rfl
theorem q456 : (Jvm.Cond.code ({ cls := "java/util/ArrayDeque", name := "sub", desc := "(III)I" } : Jvm.MethodName) prog_45_method_9_code (3 : Nat) (Option.some Jvm.ClassFile.FieldType.int)) ∈ lw_all := lw_g (lw_at lw_m2 131 rfl) rfl
theorem q458 : (Jvm.Cond.instanceMethod ({ cls := "java/util/ArrayDeque", name := "removeFirst", desc := "()Ljava/lang/Object;" } : Jvm.MethodName)) ∈ lw_all := lw_g (lw_at lw_m2 133 rfl) rfl
theorem q459 : (Jvm.Cond.selects "java/util/ArrayDeque" ({ cls := "java/util/ArrayDeque", name := "removeFirst", desc := "()Ljava/lang/Object;" } : Jvm.MethodName) ({ cls := "java/util/ArrayDeque", name := "removeFirst", desc := "()Ljava/lang/Object;" } : Jvm.MethodName)) ∈ lw_all := lw_g (lw_at lw_m2 134 rfl) rfl
theorem q460 : (Jvm.Cond.code ({ cls := "java/util/ArrayDeque", name := "removeFirst", desc := "()Ljava/lang/Object;" } : Jvm.MethodName) prog_45_method_18_code (2 : Nat) (Option.some (Jvm.ClassFile.FieldType.object "java/lang/Object"))) ∈ lw_all := lw_g (lw_at lw_m2 135 rfl) rfl
theorem q461 : (Jvm.Cond.methodLink "java/util/ArrayDeque" (93 : Nat) ({ cls := "java/util/ArrayDeque", name := "pollFirst", desc := "()Ljava/lang/Object;" } : Jvm.MethodName)) ∈ lw_all := lw_g (lw_at lw_m2 136 rfl) rfl
theorem q462 : (Jvm.Cond.instanceMethod ({ cls := "java/util/ArrayDeque", name := "pollFirst", desc := "()Ljava/lang/Object;" } : Jvm.MethodName)) ∈ lw_all := lw_g (lw_at lw_m2 137 rfl) rfl
theorem q463 : (Jvm.Cond.selects "java/util/ArrayDeque" ({ cls := "java/util/ArrayDeque", name := "pollFirst", desc := "()Ljava/lang/Object;" } : Jvm.MethodName) ({ cls := "java/util/ArrayDeque", name := "pollFirst", desc := "()Ljava/lang/Object;" } : Jvm.MethodName)) ∈ lw_all := lw_g (lw_at lw_m2 138 rfl) rfl
theorem q464 : (Jvm.Cond.code ({ cls := "java/util/ArrayDeque", name := "pollFirst", desc := "()Ljava/lang/Object;" } : Jvm.MethodName) prog_45_method_20_code (4 : Nat) (Option.some (Jvm.ClassFile.FieldType.object "java/lang/Object"))) ∈ lw_all := lw_g (lw_at lw_m2 139 rfl) rfl
theorem q465 : (Jvm.Cond.methodLink "java/util/ArrayDeque" (103 : Nat) ({ cls := "java/util/ArrayDeque", name := "elementAt", desc := "([Ljava/lang/Object;I)Ljava/lang/Object;" } : Jvm.MethodName)) ∈ lw_all := lw_g (lw_at lw_m2 140 rfl) rfl
theorem q466 : (Jvm.Cond.static ({ cls := "java/util/ArrayDeque", name := "elementAt", desc := "([Ljava/lang/Object;I)Ljava/lang/Object;" } : Jvm.MethodName)) ∈ lw_all := lw_g (lw_at lw_m2 141 rfl) rfl
theorem q467 : (Jvm.Cond.code ({ cls := "java/util/ArrayDeque", name := "elementAt", desc := "([Ljava/lang/Object;I)Ljava/lang/Object;" } : Jvm.MethodName) prog_45_method_10_code (2 : Nat) (Option.some (Jvm.ClassFile.FieldType.object "java/lang/Object"))) ∈ lw_all := lw_g (lw_at lw_m2 142 rfl) rfl
theorem q468 : (Jvm.Cond.methodLink "java/util/ArrayDeque" (74 : Nat) ({ cls := "java/util/ArrayDeque", name := "inc", desc := "(II)I" } : Jvm.MethodName)) ∈ lw_all := lw_g (lw_at lw_m2 143 rfl) rfl
theorem q469 : (Jvm.Cond.static ({ cls := "java/util/ArrayDeque", name := "inc", desc := "(II)I" } : Jvm.MethodName)) ∈ lw_all := lw_g (lw_at lw_m2 144 rfl) rfl
theorem q470 : (Jvm.Cond.code ({ cls := "java/util/ArrayDeque", name := "inc", desc := "(II)I" } : Jvm.MethodName) prog_45_method_6_code (2 : Nat) (Option.some Jvm.ClassFile.FieldType.int)) ∈ lw_all := lw_g (lw_at lw_m2 145 rfl) rfl
theorem q512 : (Jvm.Cond.instanceMethod ({ cls := "java/util/ArrayDeque", name := "addLast", desc := "(Ljava/lang/Object;)V" } : Jvm.MethodName)) ∈ lw_all := lw_g (lw_at lw_m2 187 rfl) rfl
theorem q513 : (Jvm.Cond.selects "java/util/ArrayDeque" ({ cls := "java/util/ArrayDeque", name := "addLast", desc := "(Ljava/lang/Object;)V" } : Jvm.MethodName) ({ cls := "java/util/ArrayDeque", name := "addLast", desc := "(Ljava/lang/Object;)V" } : Jvm.MethodName)) ∈ lw_all := lw_g (lw_at lw_m2 188 rfl) rfl
theorem q514 : (Jvm.Cond.code ({ cls := "java/util/ArrayDeque", name := "addLast", desc := "(Ljava/lang/Object;)V" } : Jvm.MethodName) prog_45_method_13_code (3 : Nat) (Option.none : Option Jvm.ClassFile.FieldType)) ∈ lw_all := lw_g (lw_at lw_m2 189 rfl) rfl
theorem q515 : (Jvm.Cond.methodLink "java/util/ArrayDeque" (71 : Nat) ({ cls := "java/util/ArrayDeque", name := "grow", desc := "(I)V" } : Jvm.MethodName)) ∈ lw_all := lw_g (lw_at lw_m2 190 rfl) rfl
theorem q516 : (Jvm.Cond.privateMethod ({ cls := "java/util/ArrayDeque", name := "grow", desc := "(I)V" } : Jvm.MethodName)) ∈ lw_tbl := lw_at lw_m2 191 rfl
theorem q517 : (Jvm.Cond.instanceMethod ({ cls := "java/util/ArrayDeque", name := "grow", desc := "(I)V" } : Jvm.MethodName)) ∈ lw_all := lw_g (lw_at lw_m2 192 rfl) rfl
theorem q518 : (Jvm.Cond.code ({ cls := "java/util/ArrayDeque", name := "grow", desc := "(I)V" } : Jvm.MethodName) prog_45_method_1_code (9 : Nat) (Option.none : Option Jvm.ClassFile.FieldType)) ∈ lw_all := lw_g (lw_at lw_m2 193 rfl) rfl
theorem q519 : (Jvm.Cond.constant "java/util/ArrayDeque" (9 : Nat) (2147483639 : Int32)) ∈ lw_all := lw_g (lw_at lw_m2 194 rfl) rfl
theorem q520 : (Jvm.Cond.methodLink "java/util/ArrayDeque" (10 : Nat) ({ cls := "java/util/ArrayDeque", name := "newCapacity", desc := "(II)I" } : Jvm.MethodName)) ∈ lw_all := lw_g (lw_at lw_m2 195 rfl) rfl
theorem q521 : (Jvm.Cond.privateMethod ({ cls := "java/util/ArrayDeque", name := "newCapacity", desc := "(II)I" } : Jvm.MethodName)) ∈ lw_tbl := lw_at lw_m2 196 rfl
theorem q522 : (Jvm.Cond.instanceMethod ({ cls := "java/util/ArrayDeque", name := "newCapacity", desc := "(II)I" } : Jvm.MethodName)) ∈ lw_all := lw_g (lw_at lw_m2 197 rfl) rfl
theorem q523 : (Jvm.Cond.code ({ cls := "java/util/ArrayDeque", name := "newCapacity", desc := "(II)I" } : Jvm.MethodName) prog_45_method_2_code (5 : Nat) (Option.some Jvm.ClassFile.FieldType.int)) ∈ lw_all := lw_g (lw_at lw_m2 198 rfl) rfl
theorem q524 : (Jvm.Cond.classLink "java/util/ArrayDeque" (33 : Nat) "java/lang/IllegalStateException") ∈ lw_all := lw_g (lw_at lw_m2 199 rfl) rfl
theorem q569 : (Jvm.Cond.stringRef "java/util/ArrayDeque" (35 : Nat) "Sorry, deque too big") ∈ lw_tbl := lw_at lw_m3 4 rfl
theorem q570 : (Jvm.Cond.methodLink "java/util/ArrayDeque" (37 : Nat) ({ cls := "java/lang/IllegalStateException", name := "<init>", desc := "(Ljava/lang/String;)V" } : Jvm.MethodName)) ∈ lw_all := lw_g (lw_at lw_m3 5 rfl) rfl
theorem q595 : (Jvm.Cond.constant "java/util/ArrayDeque" (41 : Nat) (2147483647 : Int32)) ∈ lw_all := lw_g (lw_at lw_m3 30 rfl) rfl
theorem q596 : (Jvm.Cond.methodLink "java/util/ArrayDeque" (14 : Nat) ({ cls := "java/util/Arrays", name := "copyOf", desc := "([Ljava/lang/Object;I)[Ljava/lang/Object;" } : Jvm.MethodName)) ∈ lw_all := lw_g (lw_at lw_m3 31 rfl) rfl
theorem q597 : (Jvm.Cond.methodLink "java/util/ArrayDeque" (27 : Nat) ({ cls := "java/lang/System", name := "arraycopy", desc := "(Ljava/lang/Object;ILjava/lang/Object;II)V" } : Jvm.MethodName)) ∈ lw_all := lw_g (lw_at lw_m3 32 rfl) rfl
theorem q1917 : (Jvm.Cond.instanceMethod ({ cls := "java/util/ArrayDeque", name := "isEmpty", desc := "()Z" } : Jvm.MethodName)) ∈ lw_all := lw_g (lw_at lw_m8 152 rfl) rfl
theorem q1918 : (Jvm.Cond.selects "java/util/ArrayDeque" ({ cls := "java/util/ArrayDeque", name := "isEmpty", desc := "()Z" } : Jvm.MethodName) ({ cls := "java/util/ArrayDeque", name := "isEmpty", desc := "()Z" } : Jvm.MethodName)) ∈ lw_all := lw_g (lw_at lw_m8 153 rfl) rfl
theorem q1919 : (Jvm.Cond.code ({ cls := "java/util/ArrayDeque", name := "isEmpty", desc := "()Z" } : Jvm.MethodName) prog_45_method_38_code (1 : Nat) (Option.some Jvm.ClassFile.FieldType.boolean)) ∈ lw_all := lw_g (lw_at lw_m8 154 rfl) rfl
theorem q1921 : (Jvm.Cond.instanceMethod ({ cls := "java/util/ArrayDeque", name := "removeLast", desc := "()Ljava/lang/Object;" } : Jvm.MethodName)) ∈ lw_all := lw_g (lw_at lw_m8 156 rfl) rfl
theorem q1922 : (Jvm.Cond.selects "java/util/ArrayDeque" ({ cls := "java/util/ArrayDeque", name := "removeLast", desc := "()Ljava/lang/Object;" } : Jvm.MethodName) ({ cls := "java/util/ArrayDeque", name := "removeLast", desc := "()Ljava/lang/Object;" } : Jvm.MethodName)) ∈ lw_all := lw_g (lw_at lw_m8 157 rfl) rfl
theorem q1923 : (Jvm.Cond.code ({ cls := "java/util/ArrayDeque", name := "removeLast", desc := "()Ljava/lang/Object;" } : Jvm.MethodName) prog_45_method_19_code (2 : Nat) (Option.some (Jvm.ClassFile.FieldType.object "java/lang/Object"))) ∈ lw_all := lw_g (lw_at lw_m8 158 rfl) rfl
theorem q1924 : (Jvm.Cond.methodLink "java/util/ArrayDeque" (100 : Nat) ({ cls := "java/util/ArrayDeque", name := "pollLast", desc := "()Ljava/lang/Object;" } : Jvm.MethodName)) ∈ lw_all := lw_g (lw_at lw_m8 159 rfl) rfl
theorem q1925 : (Jvm.Cond.instanceMethod ({ cls := "java/util/ArrayDeque", name := "pollLast", desc := "()Ljava/lang/Object;" } : Jvm.MethodName)) ∈ lw_all := lw_g (lw_at lw_m8 160 rfl) rfl
theorem q1926 : (Jvm.Cond.selects "java/util/ArrayDeque" ({ cls := "java/util/ArrayDeque", name := "pollLast", desc := "()Ljava/lang/Object;" } : Jvm.MethodName) ({ cls := "java/util/ArrayDeque", name := "pollLast", desc := "()Ljava/lang/Object;" } : Jvm.MethodName)) ∈ lw_all := lw_g (lw_at lw_m8 161 rfl) rfl
theorem q1927 : (Jvm.Cond.code ({ cls := "java/util/ArrayDeque", name := "pollLast", desc := "()Ljava/lang/Object;" } : Jvm.MethodName) prog_45_method_21_code (4 : Nat) (Option.some (Jvm.ClassFile.FieldType.object "java/lang/Object"))) ∈ lw_all := lw_g (lw_at lw_m8 162 rfl) rfl
theorem q1928 : (Jvm.Cond.methodLink "java/util/ArrayDeque" (68 : Nat) ({ cls := "java/util/ArrayDeque", name := "dec", desc := "(II)I" } : Jvm.MethodName)) ∈ lw_all := lw_g (lw_at lw_m8 163 rfl) rfl
theorem q1929 : (Jvm.Cond.static ({ cls := "java/util/ArrayDeque", name := "dec", desc := "(II)I" } : Jvm.MethodName)) ∈ lw_all := lw_g (lw_at lw_m8 164 rfl) rfl
theorem q1930 : (Jvm.Cond.code ({ cls := "java/util/ArrayDeque", name := "dec", desc := "(II)I" } : Jvm.MethodName) prog_45_method_7_code (2 : Nat) (Option.some Jvm.ClassFile.FieldType.int)) ∈ lw_all := lw_g (lw_at lw_m8 165 rfl) rfl
theorem q2400 : (Jvm.Cond.castable "java/util/ArrayDeque" "java/lang/Object") ∈ lw_tbl := lw_at lw_m10 155 rfl
theorem in_J1 : ∀ w ∈ wsJ10, w ∈ lw_all := lw_in wsJ10 [153, 155, 157] (by decide +kernel) (by decide +kernel)
/-! java/lang/Integer -/
set_option maxRecDepth 100000
def RJ9 : String := "java/lang/Integer"
def TJ9 : u_T := fun k => match k with
  | _ => ("java/lang/Integer", "value", "I", true)
def tyJ9 : Nat → FieldType := fun k => match k with
  | _ => .int
abbrev wsJ90 : List Cond := u_ws RJ9 TJ9 1
theorem nmJ9 : ∀ a, a < 1 → ∀ b, b < 1 → a ≠ b → (TJ9 a).2.1 ≠ (TJ9 b).2.1 := by decide +kernel
theorem tyJ9_ok : ∀ k, k < 1 → parseFieldDescriptor (TJ9 k).2.2.1 = some (tyJ9 k) := by decide +kernel
abbrev cJ9_valueOf : ByteArray := prog_27_method_22_code
def yJ9_valueOf : MethodName := ⟨RJ9, "valueOf", "(I)Ljava/lang/Integer;"⟩
def dkwJ9_valueOf_1 : List UInt8 := [187, 0, 1, 89, 26, 183, 0, 199, 176]
abbrev dktJ9_valueOf_1 : List UInt8 := dkwJ9_valueOf_1 ++ []
def dkwJ9_valueOf_0 : List UInt8 := [26, 16, 128, 161, 0, 20, 26, 178, 0, 191, 163, 0, 13, 178, 0, 195, 26, 17, 0, 128, 96, 50, 176]
abbrev dktJ9_valueOf_0 : List UInt8 := dkwJ9_valueOf_0 ++ dktJ9_valueOf_1
theorem dksJ9_valueOf_0 : cJ9_valueOf.data.toList.drop 0 = dktJ9_valueOf_0 := by decide +kernel
theorem dksJ9_valueOf_1 : cJ9_valueOf.data.toList.drop 23 = dktJ9_valueOf_1 := dk_seg dksJ9_valueOf_0 23 rfl rfl
theorem dJ9_valueOf_0 : decode cJ9_valueOf 0 = .ok (.iload_n 0, 1) := dk_26 (dk_at dksJ9_valueOf_0 0 rfl rfl)
theorem dJ9_valueOf_1 : decode cJ9_valueOf 1 = .ok (.bipush (-128), 2) := dk_16 128 (dk_at dksJ9_valueOf_0 1 rfl rfl)
theorem dJ9_valueOf_3 : decode cJ9_valueOf 3 = .ok (.if_icmp .lt 20, 3) := dk_161 0 20 (dk_at dksJ9_valueOf_0 3 rfl rfl)
theorem dJ9_valueOf_6 : decode cJ9_valueOf 6 = .ok (.iload_n 0, 1) := dk_26 (dk_at dksJ9_valueOf_0 6 rfl rfl)
theorem dJ9_valueOf_7 : decode cJ9_valueOf 7 = .ok (.getstatic 191, 3) := dk_178 0 191 (dk_at dksJ9_valueOf_0 7 rfl rfl)
theorem dJ9_valueOf_10 : decode cJ9_valueOf 10 = .ok (.if_icmp .gt 13, 3) := dk_163 0 13 (dk_at dksJ9_valueOf_0 10 rfl rfl)
theorem dJ9_valueOf_13 : decode cJ9_valueOf 13 = .ok (.getstatic 195, 3) := dk_178 0 195 (dk_at dksJ9_valueOf_0 13 rfl rfl)
theorem dJ9_valueOf_16 : decode cJ9_valueOf 16 = .ok (.iload_n 0, 1) := dk_26 (dk_at dksJ9_valueOf_0 16 rfl rfl)
theorem dJ9_valueOf_17 : decode cJ9_valueOf 17 = .ok (.sipush 128, 3) := dk_17 0 128 (dk_at dksJ9_valueOf_0 17 rfl rfl)
theorem dJ9_valueOf_20 : decode cJ9_valueOf 20 = .ok (.iadd, 1) := dk_96 (dk_at dksJ9_valueOf_0 20 rfl rfl)
theorem dJ9_valueOf_21 : decode cJ9_valueOf 21 = .ok (.aaload, 1) := dk_50 (dk_at dksJ9_valueOf_0 21 rfl rfl)
theorem dJ9_valueOf_22 : decode cJ9_valueOf 22 = .ok (.areturn, 1) := dk_176 (dk_at dksJ9_valueOf_0 22 rfl rfl)
theorem dJ9_valueOf_23 : decode cJ9_valueOf 23 = .ok (.new 1, 3) := dk_187 0 1 (dk_at dksJ9_valueOf_1 0 rfl rfl)
theorem dJ9_valueOf_26 : decode cJ9_valueOf 26 = .ok (.dup, 1) := dk_89 (dk_at dksJ9_valueOf_1 3 rfl rfl)
theorem dJ9_valueOf_27 : decode cJ9_valueOf 27 = .ok (.iload_n 0, 1) := dk_26 (dk_at dksJ9_valueOf_1 4 rfl rfl)
theorem dJ9_valueOf_28 : decode cJ9_valueOf 28 = .ok (.invokespecial 199, 3) := dk_183 0 199 (dk_at dksJ9_valueOf_1 5 rfl rfl)
theorem dJ9_valueOf_31 : decode cJ9_valueOf 31 = .ok (.areturn, 1) := dk_176 (dk_at dksJ9_valueOf_1 8 rfl rfl)
abbrev cJ9_init : ByteArray := prog_27_method_23_code
def yJ9_init : MethodName := ⟨RJ9, "<init>", "(I)V"⟩
def dkwJ9_init_0 : List UInt8 := [42, 183, 0, 202, 42, 27, 181, 0, 205, 177]
abbrev dktJ9_init_0 : List UInt8 := dkwJ9_init_0 ++ []
theorem dksJ9_init_0 : cJ9_init.data.toList.drop 0 = dktJ9_init_0 := by decide +kernel
theorem dJ9_init_0 : decode cJ9_init 0 = .ok (.aload_n 0, 1) := dk_42 (dk_at dksJ9_init_0 0 rfl rfl)
theorem dJ9_init_1 : decode cJ9_init 1 = .ok (.invokespecial 202, 3) := dk_183 0 202 (dk_at dksJ9_init_0 1 rfl rfl)
theorem dJ9_init_4 : decode cJ9_init 4 = .ok (.aload_n 0, 1) := dk_42 (dk_at dksJ9_init_0 4 rfl rfl)
theorem dJ9_init_5 : decode cJ9_init 5 = .ok (.iload_n 1, 1) := dk_27 (dk_at dksJ9_init_0 5 rfl rfl)
theorem dJ9_init_6 : decode cJ9_init 6 = .ok (.putfield 205, 3) := dk_181 0 205 (dk_at dksJ9_init_0 6 rfl rfl)
theorem dJ9_init_9 : decode cJ9_init 9 = .ok (.return_, 1) := dk_177 (dk_at dksJ9_init_0 9 rfl rfl)
abbrev cJ9_compare : ByteArray := prog_27_method_40_code
def yJ9_compare : MethodName := ⟨RJ9, "compare", "(II)I"⟩
def dkwJ9_compare_0 : List UInt8 := [26, 27, 162, 0, 7, 2, 167, 0, 13, 26, 27, 160, 0, 7, 3, 167, 0, 4, 4, 172]
abbrev dktJ9_compare_0 : List UInt8 := dkwJ9_compare_0 ++ []
theorem dksJ9_compare_0 : cJ9_compare.data.toList.drop 0 = dktJ9_compare_0 := by decide +kernel
theorem dJ9_compare_0 : decode cJ9_compare 0 = .ok (.iload_n 0, 1) := dk_26 (dk_at dksJ9_compare_0 0 rfl rfl)
theorem dJ9_compare_1 : decode cJ9_compare 1 = .ok (.iload_n 1, 1) := dk_27 (dk_at dksJ9_compare_0 1 rfl rfl)
theorem dJ9_compare_2 : decode cJ9_compare 2 = .ok (.if_icmp .ge 7, 3) := dk_162 0 7 (dk_at dksJ9_compare_0 2 rfl rfl)
theorem dJ9_compare_5 : decode cJ9_compare 5 = .ok (.iconst (-1), 1) := dk_2 (dk_at dksJ9_compare_0 5 rfl rfl)
theorem dJ9_compare_6 : decode cJ9_compare 6 = .ok (.goto 13, 3) := dk_167 0 13 (dk_at dksJ9_compare_0 6 rfl rfl)
theorem dJ9_compare_9 : decode cJ9_compare 9 = .ok (.iload_n 0, 1) := dk_26 (dk_at dksJ9_compare_0 9 rfl rfl)
theorem dJ9_compare_10 : decode cJ9_compare 10 = .ok (.iload_n 1, 1) := dk_27 (dk_at dksJ9_compare_0 10 rfl rfl)
theorem dJ9_compare_11 : decode cJ9_compare 11 = .ok (.if_icmp .ne 7, 3) := dk_160 0 7 (dk_at dksJ9_compare_0 11 rfl rfl)
theorem dJ9_compare_14 : decode cJ9_compare 14 = .ok (.iconst 0, 1) := dk_3 (dk_at dksJ9_compare_0 14 rfl rfl)
theorem dJ9_compare_15 : decode cJ9_compare 15 = .ok (.goto 4, 3) := dk_167 0 4 (dk_at dksJ9_compare_0 15 rfl rfl)
theorem dJ9_compare_18 : decode cJ9_compare 18 = .ok (.iconst 1, 1) := dk_4 (dk_at dksJ9_compare_0 18 rfl rfl)
theorem dJ9_compare_19 : decode cJ9_compare 19 = .ok (.ireturn, 1) := dk_172 (dk_at dksJ9_compare_0 19 rfl rfl)
abbrev cJ9_compareTo : ByteArray := prog_27_method_63_code
def yJ9_compareTo : MethodName := ⟨RJ9, "compareTo", "(Ljava/lang/Object;)I"⟩
def dkwJ9_compareTo_0 : List UInt8 := [42, 43, 192, 0, 1, 182, 1, 28, 172]
abbrev dktJ9_compareTo_0 : List UInt8 := dkwJ9_compareTo_0 ++ []
theorem dksJ9_compareTo_0 : cJ9_compareTo.data.toList.drop 0 = dktJ9_compareTo_0 := by decide +kernel
theorem dJ9_compareTo_0 : decode cJ9_compareTo 0 = .ok (.aload_n 0, 1) := dk_42 (dk_at dksJ9_compareTo_0 0 rfl rfl)
theorem dJ9_compareTo_1 : decode cJ9_compareTo 1 = .ok (.aload_n 1, 1) := dk_43 (dk_at dksJ9_compareTo_0 1 rfl rfl)
theorem dJ9_compareTo_2 : decode cJ9_compareTo 2 = .ok (.checkcast 1, 3) := dk_192 0 1 (dk_at dksJ9_compareTo_0 2 rfl rfl)
theorem dJ9_compareTo_5 : decode cJ9_compareTo 5 = .ok (.invokevirtual 284, 3) := dk_182 1 28 (dk_at dksJ9_compareTo_0 5 rfl rfl)
theorem dJ9_compareTo_8 : decode cJ9_compareTo 8 = .ok (.ireturn, 1) := dk_172 (dk_at dksJ9_compareTo_0 8 rfl rfl)
abbrev cJ9_compareTo_2 : ByteArray := prog_27_method_39_code
def yJ9_compareTo_2 : MethodName := ⟨RJ9, "compareTo", "(Ljava/lang/Integer;)I"⟩
def dkwJ9_compareTo_2_0 : List UInt8 := [42, 180, 0, 205, 43, 180, 0, 205, 184, 1, 3, 172]
abbrev dktJ9_compareTo_2_0 : List UInt8 := dkwJ9_compareTo_2_0 ++ []
theorem dksJ9_compareTo_2_0 : cJ9_compareTo_2.data.toList.drop 0 = dktJ9_compareTo_2_0 := by decide +kernel
theorem dJ9_compareTo_2_0 : decode cJ9_compareTo_2 0 = .ok (.aload_n 0, 1) := dk_42 (dk_at dksJ9_compareTo_2_0 0 rfl rfl)
theorem dJ9_compareTo_2_1 : decode cJ9_compareTo_2 1 = .ok (.getfield 205, 3) := dk_180 0 205 (dk_at dksJ9_compareTo_2_0 1 rfl rfl)
theorem dJ9_compareTo_2_4 : decode cJ9_compareTo_2 4 = .ok (.aload_n 1, 1) := dk_43 (dk_at dksJ9_compareTo_2_0 4 rfl rfl)
theorem dJ9_compareTo_2_5 : decode cJ9_compareTo_2 5 = .ok (.getfield 205, 3) := dk_180 0 205 (dk_at dksJ9_compareTo_2_0 5 rfl rfl)
theorem dJ9_compareTo_2_8 : decode cJ9_compareTo_2 8 = .ok (.invokestatic 259, 3) := dk_184 1 3 (dk_at dksJ9_compareTo_2_0 8 rfl rfl)
theorem dJ9_compareTo_2_11 : decode cJ9_compareTo_2 11 = .ok (.ireturn, 1) := dk_172 (dk_at dksJ9_compareTo_2_0 11 rfl rfl)
abbrev cJ9_numberOfLeadingZeros : ByteArray := prog_27_method_47_code
def yJ9_numberOfLeadingZeros : MethodName := ⟨RJ9, "numberOfLeadingZeros", "(I)I"⟩
def dkwJ9_numberOfLeadingZeros_3 : List UInt8 := [5, 124, 59, 27, 26, 4, 124, 100, 172]
abbrev dktJ9_numberOfLeadingZeros_3 : List UInt8 := dkwJ9_numberOfLeadingZeros_3 ++ []
def dkwJ9_numberOfLeadingZeros_2 : List UInt8 := [124, 59, 26, 16, 16, 161, 0, 10, 132, 1, 252, 26, 7, 124, 59, 26, 7, 161, 0, 10, 132, 1, 254, 26]
abbrev dktJ9_numberOfLeadingZeros_2 : List UInt8 := dkwJ9_numberOfLeadingZeros_2 ++ dktJ9_numberOfLeadingZeros_3
def dkwJ9_numberOfLeadingZeros_1 : List UInt8 := [161, 0, 11, 132, 1, 240, 26, 16, 16, 124, 59, 26, 17, 1, 0, 161, 0, 11, 132, 1, 248, 26, 16, 8]
abbrev dktJ9_numberOfLeadingZeros_1 : List UInt8 := dkwJ9_numberOfLeadingZeros_1 ++ dktJ9_numberOfLeadingZeros_2
def dkwJ9_numberOfLeadingZeros_0 : List UInt8 := [26, 157, 0, 14, 26, 154, 0, 8, 16, 32, 167, 0, 4, 3, 172, 16, 31, 60, 26, 19, 1, 8]
abbrev dktJ9_numberOfLeadingZeros_0 : List UInt8 := dkwJ9_numberOfLeadingZeros_0 ++ dktJ9_numberOfLeadingZeros_1
theorem dksJ9_numberOfLeadingZeros_0 : cJ9_numberOfLeadingZeros.data.toList.drop 0 = dktJ9_numberOfLeadingZeros_0 := by decide +kernel
theorem dksJ9_numberOfLeadingZeros_1 : cJ9_numberOfLeadingZeros.data.toList.drop 22 = dktJ9_numberOfLeadingZeros_1 := dk_seg dksJ9_numberOfLeadingZeros_0 22 rfl rfl
theorem dksJ9_numberOfLeadingZeros_2 : cJ9_numberOfLeadingZeros.data.toList.drop 46 = dktJ9_numberOfLeadingZeros_2 := dk_seg dksJ9_numberOfLeadingZeros_1 24 rfl rfl
theorem dksJ9_numberOfLeadingZeros_3 : cJ9_numberOfLeadingZeros.data.toList.drop 70 = dktJ9_numberOfLeadingZeros_3 := dk_seg dksJ9_numberOfLeadingZeros_2 24 rfl rfl
theorem dJ9_numberOfLeadingZeros_0 : decode cJ9_numberOfLeadingZeros 0 = .ok (.iload_n 0, 1) := dk_26 (dk_at dksJ9_numberOfLeadingZeros_0 0 rfl rfl)
theorem dJ9_numberOfLeadingZeros_1 : decode cJ9_numberOfLeadingZeros 1 = .ok (.ifCond .gt 14, 3) := dk_157 0 14 (dk_at dksJ9_numberOfLeadingZeros_0 1 rfl rfl)
theorem dJ9_numberOfLeadingZeros_4 : decode cJ9_numberOfLeadingZeros 4 = .ok (.iload_n 0, 1) := dk_26 (dk_at dksJ9_numberOfLeadingZeros_0 4 rfl rfl)
theorem dJ9_numberOfLeadingZeros_5 : decode cJ9_numberOfLeadingZeros 5 = .ok (.ifCond .ne 8, 3) := dk_154 0 8 (dk_at dksJ9_numberOfLeadingZeros_0 5 rfl rfl)
theorem dJ9_numberOfLeadingZeros_8 : decode cJ9_numberOfLeadingZeros 8 = .ok (.bipush 32, 2) := dk_16 32 (dk_at dksJ9_numberOfLeadingZeros_0 8 rfl rfl)
theorem dJ9_numberOfLeadingZeros_10 : decode cJ9_numberOfLeadingZeros 10 = .ok (.goto 4, 3) := dk_167 0 4 (dk_at dksJ9_numberOfLeadingZeros_0 10 rfl rfl)
theorem dJ9_numberOfLeadingZeros_13 : decode cJ9_numberOfLeadingZeros 13 = .ok (.iconst 0, 1) := dk_3 (dk_at dksJ9_numberOfLeadingZeros_0 13 rfl rfl)
theorem dJ9_numberOfLeadingZeros_14 : decode cJ9_numberOfLeadingZeros 14 = .ok (.ireturn, 1) := dk_172 (dk_at dksJ9_numberOfLeadingZeros_0 14 rfl rfl)
theorem dJ9_numberOfLeadingZeros_15 : decode cJ9_numberOfLeadingZeros 15 = .ok (.bipush 31, 2) := dk_16 31 (dk_at dksJ9_numberOfLeadingZeros_0 15 rfl rfl)
theorem dJ9_numberOfLeadingZeros_17 : decode cJ9_numberOfLeadingZeros 17 = .ok (.istore_n 1, 1) := dk_60 (dk_at dksJ9_numberOfLeadingZeros_0 17 rfl rfl)
theorem dJ9_numberOfLeadingZeros_18 : decode cJ9_numberOfLeadingZeros 18 = .ok (.iload_n 0, 1) := dk_26 (dk_at dksJ9_numberOfLeadingZeros_0 18 rfl rfl)
theorem dJ9_numberOfLeadingZeros_19 : decode cJ9_numberOfLeadingZeros 19 = .ok (.ldc_w 264, 3) := dk_19 1 8 (dk_at dksJ9_numberOfLeadingZeros_0 19 rfl rfl)
theorem dJ9_numberOfLeadingZeros_22 : decode cJ9_numberOfLeadingZeros 22 = .ok (.if_icmp .lt 11, 3) := dk_161 0 11 (dk_at dksJ9_numberOfLeadingZeros_1 0 rfl rfl)
theorem dJ9_numberOfLeadingZeros_25 : decode cJ9_numberOfLeadingZeros 25 = .ok (.iinc 1 (-16), 3) := dk_132 1 240 (dk_at dksJ9_numberOfLeadingZeros_1 3 rfl rfl)
theorem dJ9_numberOfLeadingZeros_28 : decode cJ9_numberOfLeadingZeros 28 = .ok (.iload_n 0, 1) := dk_26 (dk_at dksJ9_numberOfLeadingZeros_1 6 rfl rfl)
theorem dJ9_numberOfLeadingZeros_29 : decode cJ9_numberOfLeadingZeros 29 = .ok (.bipush 16, 2) := dk_16 16 (dk_at dksJ9_numberOfLeadingZeros_1 7 rfl rfl)
theorem dJ9_numberOfLeadingZeros_31 : decode cJ9_numberOfLeadingZeros 31 = .ok (.iushr, 1) := dk_124 (dk_at dksJ9_numberOfLeadingZeros_1 9 rfl rfl)
theorem dJ9_numberOfLeadingZeros_32 : decode cJ9_numberOfLeadingZeros 32 = .ok (.istore_n 0, 1) := dk_59 (dk_at dksJ9_numberOfLeadingZeros_1 10 rfl rfl)
theorem dJ9_numberOfLeadingZeros_33 : decode cJ9_numberOfLeadingZeros 33 = .ok (.iload_n 0, 1) := dk_26 (dk_at dksJ9_numberOfLeadingZeros_1 11 rfl rfl)
theorem dJ9_numberOfLeadingZeros_34 : decode cJ9_numberOfLeadingZeros 34 = .ok (.sipush 256, 3) := dk_17 1 0 (dk_at dksJ9_numberOfLeadingZeros_1 12 rfl rfl)
theorem dJ9_numberOfLeadingZeros_37 : decode cJ9_numberOfLeadingZeros 37 = .ok (.if_icmp .lt 11, 3) := dk_161 0 11 (dk_at dksJ9_numberOfLeadingZeros_1 15 rfl rfl)
theorem dJ9_numberOfLeadingZeros_40 : decode cJ9_numberOfLeadingZeros 40 = .ok (.iinc 1 (-8), 3) := dk_132 1 248 (dk_at dksJ9_numberOfLeadingZeros_1 18 rfl rfl)
theorem dJ9_numberOfLeadingZeros_43 : decode cJ9_numberOfLeadingZeros 43 = .ok (.iload_n 0, 1) := dk_26 (dk_at dksJ9_numberOfLeadingZeros_1 21 rfl rfl)
theorem dJ9_numberOfLeadingZeros_44 : decode cJ9_numberOfLeadingZeros 44 = .ok (.bipush 8, 2) := dk_16 8 (dk_at dksJ9_numberOfLeadingZeros_1 22 rfl rfl)
theorem dJ9_numberOfLeadingZeros_46 : decode cJ9_numberOfLeadingZeros 46 = .ok (.iushr, 1) := dk_124 (dk_at dksJ9_numberOfLeadingZeros_2 0 rfl rfl)
theorem dJ9_numberOfLeadingZeros_47 : decode cJ9_numberOfLeadingZeros 47 = .ok (.istore_n 0, 1) := dk_59 (dk_at dksJ9_numberOfLeadingZeros_2 1 rfl rfl)
theorem dJ9_numberOfLeadingZeros_48 : decode cJ9_numberOfLeadingZeros 48 = .ok (.iload_n 0, 1) := dk_26 (dk_at dksJ9_numberOfLeadingZeros_2 2 rfl rfl)
theorem dJ9_numberOfLeadingZeros_49 : decode cJ9_numberOfLeadingZeros 49 = .ok (.bipush 16, 2) := dk_16 16 (dk_at dksJ9_numberOfLeadingZeros_2 3 rfl rfl)
theorem dJ9_numberOfLeadingZeros_51 : decode cJ9_numberOfLeadingZeros 51 = .ok (.if_icmp .lt 10, 3) := dk_161 0 10 (dk_at dksJ9_numberOfLeadingZeros_2 5 rfl rfl)
theorem dJ9_numberOfLeadingZeros_54 : decode cJ9_numberOfLeadingZeros 54 = .ok (.iinc 1 (-4), 3) := dk_132 1 252 (dk_at dksJ9_numberOfLeadingZeros_2 8 rfl rfl)
theorem dJ9_numberOfLeadingZeros_57 : decode cJ9_numberOfLeadingZeros 57 = .ok (.iload_n 0, 1) := dk_26 (dk_at dksJ9_numberOfLeadingZeros_2 11 rfl rfl)
theorem dJ9_numberOfLeadingZeros_58 : decode cJ9_numberOfLeadingZeros 58 = .ok (.iconst 4, 1) := dk_7 (dk_at dksJ9_numberOfLeadingZeros_2 12 rfl rfl)
theorem dJ9_numberOfLeadingZeros_59 : decode cJ9_numberOfLeadingZeros 59 = .ok (.iushr, 1) := dk_124 (dk_at dksJ9_numberOfLeadingZeros_2 13 rfl rfl)
theorem dJ9_numberOfLeadingZeros_60 : decode cJ9_numberOfLeadingZeros 60 = .ok (.istore_n 0, 1) := dk_59 (dk_at dksJ9_numberOfLeadingZeros_2 14 rfl rfl)
theorem dJ9_numberOfLeadingZeros_61 : decode cJ9_numberOfLeadingZeros 61 = .ok (.iload_n 0, 1) := dk_26 (dk_at dksJ9_numberOfLeadingZeros_2 15 rfl rfl)
theorem dJ9_numberOfLeadingZeros_62 : decode cJ9_numberOfLeadingZeros 62 = .ok (.iconst 4, 1) := dk_7 (dk_at dksJ9_numberOfLeadingZeros_2 16 rfl rfl)
theorem dJ9_numberOfLeadingZeros_63 : decode cJ9_numberOfLeadingZeros 63 = .ok (.if_icmp .lt 10, 3) := dk_161 0 10 (dk_at dksJ9_numberOfLeadingZeros_2 17 rfl rfl)
theorem dJ9_numberOfLeadingZeros_66 : decode cJ9_numberOfLeadingZeros 66 = .ok (.iinc 1 (-2), 3) := dk_132 1 254 (dk_at dksJ9_numberOfLeadingZeros_2 20 rfl rfl)
theorem dJ9_numberOfLeadingZeros_69 : decode cJ9_numberOfLeadingZeros 69 = .ok (.iload_n 0, 1) := dk_26 (dk_at dksJ9_numberOfLeadingZeros_2 23 rfl rfl)
theorem dJ9_numberOfLeadingZeros_70 : decode cJ9_numberOfLeadingZeros 70 = .ok (.iconst 2, 1) := dk_5 (dk_at dksJ9_numberOfLeadingZeros_3 0 rfl rfl)
theorem dJ9_numberOfLeadingZeros_71 : decode cJ9_numberOfLeadingZeros 71 = .ok (.iushr, 1) := dk_124 (dk_at dksJ9_numberOfLeadingZeros_3 1 rfl rfl)
theorem dJ9_numberOfLeadingZeros_72 : decode cJ9_numberOfLeadingZeros 72 = .ok (.istore_n 0, 1) := dk_59 (dk_at dksJ9_numberOfLeadingZeros_3 2 rfl rfl)
theorem dJ9_numberOfLeadingZeros_73 : decode cJ9_numberOfLeadingZeros 73 = .ok (.iload_n 1, 1) := dk_27 (dk_at dksJ9_numberOfLeadingZeros_3 3 rfl rfl)
theorem dJ9_numberOfLeadingZeros_74 : decode cJ9_numberOfLeadingZeros 74 = .ok (.iload_n 0, 1) := dk_26 (dk_at dksJ9_numberOfLeadingZeros_3 4 rfl rfl)
theorem dJ9_numberOfLeadingZeros_75 : decode cJ9_numberOfLeadingZeros 75 = .ok (.iconst 1, 1) := dk_4 (dk_at dksJ9_numberOfLeadingZeros_3 5 rfl rfl)
theorem dJ9_numberOfLeadingZeros_76 : decode cJ9_numberOfLeadingZeros 76 = .ok (.iushr, 1) := dk_124 (dk_at dksJ9_numberOfLeadingZeros_3 6 rfl rfl)
theorem dJ9_numberOfLeadingZeros_77 : decode cJ9_numberOfLeadingZeros 77 = .ok (.isub, 1) := dk_100 (dk_at dksJ9_numberOfLeadingZeros_3 7 rfl rfl)
theorem dJ9_numberOfLeadingZeros_78 : decode cJ9_numberOfLeadingZeros 78 = .ok (.ireturn, 1) := dk_172 (dk_at dksJ9_numberOfLeadingZeros_3 8 rfl rfl)
abbrev cJ9_numberOfTrailingZeros : ByteArray := prog_27_method_48_code
def yJ9_numberOfTrailingZeros : MethodName := ⟨RJ9, "numberOfTrailingZeros", "(I)I"⟩
def dkwJ9_numberOfTrailingZeros_3 : List UInt8 := [5, 124, 59, 27, 26, 4, 124, 96, 172]
abbrev dktJ9_numberOfTrailingZeros_3 : List UInt8 := dkwJ9_numberOfTrailingZeros_3 ++ []
def dkwJ9_numberOfTrailingZeros_2 : List UInt8 := [124, 59, 26, 16, 16, 164, 0, 10, 132, 1, 4, 26, 7, 124, 59, 26, 7, 164, 0, 10, 132, 1, 2, 26]
abbrev dktJ9_numberOfTrailingZeros_2 : List UInt8 := dkwJ9_numberOfTrailingZeros_2 ++ dktJ9_numberOfTrailingZeros_3
def dkwJ9_numberOfTrailingZeros_1 : List UInt8 := [164, 0, 11, 132, 1, 16, 26, 16, 16, 124, 59, 26, 17, 1, 0, 164, 0, 11, 132, 1, 8, 26, 16, 8]
abbrev dktJ9_numberOfTrailingZeros_1 : List UInt8 := dkwJ9_numberOfTrailingZeros_1 ++ dktJ9_numberOfTrailingZeros_2
def dkwJ9_numberOfTrailingZeros_0 : List UInt8 := [26, 2, 130, 26, 4, 100, 126, 59, 26, 157, 0, 8, 26, 16, 32, 126, 172, 4, 60, 26, 19, 1, 8]
abbrev dktJ9_numberOfTrailingZeros_0 : List UInt8 := dkwJ9_numberOfTrailingZeros_0 ++ dktJ9_numberOfTrailingZeros_1
theorem dksJ9_numberOfTrailingZeros_0 : cJ9_numberOfTrailingZeros.data.toList.drop 0 = dktJ9_numberOfTrailingZeros_0 := by decide +kernel
theorem dksJ9_numberOfTrailingZeros_1 : cJ9_numberOfTrailingZeros.data.toList.drop 23 = dktJ9_numberOfTrailingZeros_1 := dk_seg dksJ9_numberOfTrailingZeros_0 23 rfl rfl
theorem dksJ9_numberOfTrailingZeros_2 : cJ9_numberOfTrailingZeros.data.toList.drop 47 = dktJ9_numberOfTrailingZeros_2 := dk_seg dksJ9_numberOfTrailingZeros_1 24 rfl rfl
theorem dksJ9_numberOfTrailingZeros_3 : cJ9_numberOfTrailingZeros.data.toList.drop 71 = dktJ9_numberOfTrailingZeros_3 := dk_seg dksJ9_numberOfTrailingZeros_2 24 rfl rfl
theorem dJ9_numberOfTrailingZeros_0 : decode cJ9_numberOfTrailingZeros 0 = .ok (.iload_n 0, 1) := dk_26 (dk_at dksJ9_numberOfTrailingZeros_0 0 rfl rfl)
theorem dJ9_numberOfTrailingZeros_1 : decode cJ9_numberOfTrailingZeros 1 = .ok (.iconst (-1), 1) := dk_2 (dk_at dksJ9_numberOfTrailingZeros_0 1 rfl rfl)
theorem dJ9_numberOfTrailingZeros_2 : decode cJ9_numberOfTrailingZeros 2 = .ok (.ixor, 1) := dk_130 (dk_at dksJ9_numberOfTrailingZeros_0 2 rfl rfl)
theorem dJ9_numberOfTrailingZeros_3 : decode cJ9_numberOfTrailingZeros 3 = .ok (.iload_n 0, 1) := dk_26 (dk_at dksJ9_numberOfTrailingZeros_0 3 rfl rfl)
theorem dJ9_numberOfTrailingZeros_4 : decode cJ9_numberOfTrailingZeros 4 = .ok (.iconst 1, 1) := dk_4 (dk_at dksJ9_numberOfTrailingZeros_0 4 rfl rfl)
theorem dJ9_numberOfTrailingZeros_5 : decode cJ9_numberOfTrailingZeros 5 = .ok (.isub, 1) := dk_100 (dk_at dksJ9_numberOfTrailingZeros_0 5 rfl rfl)
theorem dJ9_numberOfTrailingZeros_6 : decode cJ9_numberOfTrailingZeros 6 = .ok (.iand, 1) := dk_126 (dk_at dksJ9_numberOfTrailingZeros_0 6 rfl rfl)
theorem dJ9_numberOfTrailingZeros_7 : decode cJ9_numberOfTrailingZeros 7 = .ok (.istore_n 0, 1) := dk_59 (dk_at dksJ9_numberOfTrailingZeros_0 7 rfl rfl)
theorem dJ9_numberOfTrailingZeros_8 : decode cJ9_numberOfTrailingZeros 8 = .ok (.iload_n 0, 1) := dk_26 (dk_at dksJ9_numberOfTrailingZeros_0 8 rfl rfl)
theorem dJ9_numberOfTrailingZeros_9 : decode cJ9_numberOfTrailingZeros 9 = .ok (.ifCond .gt 8, 3) := dk_157 0 8 (dk_at dksJ9_numberOfTrailingZeros_0 9 rfl rfl)
theorem dJ9_numberOfTrailingZeros_12 : decode cJ9_numberOfTrailingZeros 12 = .ok (.iload_n 0, 1) := dk_26 (dk_at dksJ9_numberOfTrailingZeros_0 12 rfl rfl)
theorem dJ9_numberOfTrailingZeros_13 : decode cJ9_numberOfTrailingZeros 13 = .ok (.bipush 32, 2) := dk_16 32 (dk_at dksJ9_numberOfTrailingZeros_0 13 rfl rfl)
theorem dJ9_numberOfTrailingZeros_15 : decode cJ9_numberOfTrailingZeros 15 = .ok (.iand, 1) := dk_126 (dk_at dksJ9_numberOfTrailingZeros_0 15 rfl rfl)
theorem dJ9_numberOfTrailingZeros_16 : decode cJ9_numberOfTrailingZeros 16 = .ok (.ireturn, 1) := dk_172 (dk_at dksJ9_numberOfTrailingZeros_0 16 rfl rfl)
theorem dJ9_numberOfTrailingZeros_17 : decode cJ9_numberOfTrailingZeros 17 = .ok (.iconst 1, 1) := dk_4 (dk_at dksJ9_numberOfTrailingZeros_0 17 rfl rfl)
theorem dJ9_numberOfTrailingZeros_18 : decode cJ9_numberOfTrailingZeros 18 = .ok (.istore_n 1, 1) := dk_60 (dk_at dksJ9_numberOfTrailingZeros_0 18 rfl rfl)
theorem dJ9_numberOfTrailingZeros_19 : decode cJ9_numberOfTrailingZeros 19 = .ok (.iload_n 0, 1) := dk_26 (dk_at dksJ9_numberOfTrailingZeros_0 19 rfl rfl)
theorem dJ9_numberOfTrailingZeros_20 : decode cJ9_numberOfTrailingZeros 20 = .ok (.ldc_w 264, 3) := dk_19 1 8 (dk_at dksJ9_numberOfTrailingZeros_0 20 rfl rfl)
theorem dJ9_numberOfTrailingZeros_23 : decode cJ9_numberOfTrailingZeros 23 = .ok (.if_icmp .le 11, 3) := dk_164 0 11 (dk_at dksJ9_numberOfTrailingZeros_1 0 rfl rfl)
theorem dJ9_numberOfTrailingZeros_26 : decode cJ9_numberOfTrailingZeros 26 = .ok (.iinc 1 16, 3) := dk_132 1 16 (dk_at dksJ9_numberOfTrailingZeros_1 3 rfl rfl)
theorem dJ9_numberOfTrailingZeros_29 : decode cJ9_numberOfTrailingZeros 29 = .ok (.iload_n 0, 1) := dk_26 (dk_at dksJ9_numberOfTrailingZeros_1 6 rfl rfl)
theorem dJ9_numberOfTrailingZeros_30 : decode cJ9_numberOfTrailingZeros 30 = .ok (.bipush 16, 2) := dk_16 16 (dk_at dksJ9_numberOfTrailingZeros_1 7 rfl rfl)
theorem dJ9_numberOfTrailingZeros_32 : decode cJ9_numberOfTrailingZeros 32 = .ok (.iushr, 1) := dk_124 (dk_at dksJ9_numberOfTrailingZeros_1 9 rfl rfl)
theorem dJ9_numberOfTrailingZeros_33 : decode cJ9_numberOfTrailingZeros 33 = .ok (.istore_n 0, 1) := dk_59 (dk_at dksJ9_numberOfTrailingZeros_1 10 rfl rfl)
theorem dJ9_numberOfTrailingZeros_34 : decode cJ9_numberOfTrailingZeros 34 = .ok (.iload_n 0, 1) := dk_26 (dk_at dksJ9_numberOfTrailingZeros_1 11 rfl rfl)
theorem dJ9_numberOfTrailingZeros_35 : decode cJ9_numberOfTrailingZeros 35 = .ok (.sipush 256, 3) := dk_17 1 0 (dk_at dksJ9_numberOfTrailingZeros_1 12 rfl rfl)
theorem dJ9_numberOfTrailingZeros_38 : decode cJ9_numberOfTrailingZeros 38 = .ok (.if_icmp .le 11, 3) := dk_164 0 11 (dk_at dksJ9_numberOfTrailingZeros_1 15 rfl rfl)
theorem dJ9_numberOfTrailingZeros_41 : decode cJ9_numberOfTrailingZeros 41 = .ok (.iinc 1 8, 3) := dk_132 1 8 (dk_at dksJ9_numberOfTrailingZeros_1 18 rfl rfl)
theorem dJ9_numberOfTrailingZeros_44 : decode cJ9_numberOfTrailingZeros 44 = .ok (.iload_n 0, 1) := dk_26 (dk_at dksJ9_numberOfTrailingZeros_1 21 rfl rfl)
theorem dJ9_numberOfTrailingZeros_45 : decode cJ9_numberOfTrailingZeros 45 = .ok (.bipush 8, 2) := dk_16 8 (dk_at dksJ9_numberOfTrailingZeros_1 22 rfl rfl)
theorem dJ9_numberOfTrailingZeros_47 : decode cJ9_numberOfTrailingZeros 47 = .ok (.iushr, 1) := dk_124 (dk_at dksJ9_numberOfTrailingZeros_2 0 rfl rfl)
theorem dJ9_numberOfTrailingZeros_48 : decode cJ9_numberOfTrailingZeros 48 = .ok (.istore_n 0, 1) := dk_59 (dk_at dksJ9_numberOfTrailingZeros_2 1 rfl rfl)
theorem dJ9_numberOfTrailingZeros_49 : decode cJ9_numberOfTrailingZeros 49 = .ok (.iload_n 0, 1) := dk_26 (dk_at dksJ9_numberOfTrailingZeros_2 2 rfl rfl)
theorem dJ9_numberOfTrailingZeros_50 : decode cJ9_numberOfTrailingZeros 50 = .ok (.bipush 16, 2) := dk_16 16 (dk_at dksJ9_numberOfTrailingZeros_2 3 rfl rfl)
theorem dJ9_numberOfTrailingZeros_52 : decode cJ9_numberOfTrailingZeros 52 = .ok (.if_icmp .le 10, 3) := dk_164 0 10 (dk_at dksJ9_numberOfTrailingZeros_2 5 rfl rfl)
theorem dJ9_numberOfTrailingZeros_55 : decode cJ9_numberOfTrailingZeros 55 = .ok (.iinc 1 4, 3) := dk_132 1 4 (dk_at dksJ9_numberOfTrailingZeros_2 8 rfl rfl)
theorem dJ9_numberOfTrailingZeros_58 : decode cJ9_numberOfTrailingZeros 58 = .ok (.iload_n 0, 1) := dk_26 (dk_at dksJ9_numberOfTrailingZeros_2 11 rfl rfl)
theorem dJ9_numberOfTrailingZeros_59 : decode cJ9_numberOfTrailingZeros 59 = .ok (.iconst 4, 1) := dk_7 (dk_at dksJ9_numberOfTrailingZeros_2 12 rfl rfl)
theorem dJ9_numberOfTrailingZeros_60 : decode cJ9_numberOfTrailingZeros 60 = .ok (.iushr, 1) := dk_124 (dk_at dksJ9_numberOfTrailingZeros_2 13 rfl rfl)
theorem dJ9_numberOfTrailingZeros_61 : decode cJ9_numberOfTrailingZeros 61 = .ok (.istore_n 0, 1) := dk_59 (dk_at dksJ9_numberOfTrailingZeros_2 14 rfl rfl)
theorem dJ9_numberOfTrailingZeros_62 : decode cJ9_numberOfTrailingZeros 62 = .ok (.iload_n 0, 1) := dk_26 (dk_at dksJ9_numberOfTrailingZeros_2 15 rfl rfl)
theorem dJ9_numberOfTrailingZeros_63 : decode cJ9_numberOfTrailingZeros 63 = .ok (.iconst 4, 1) := dk_7 (dk_at dksJ9_numberOfTrailingZeros_2 16 rfl rfl)
theorem dJ9_numberOfTrailingZeros_64 : decode cJ9_numberOfTrailingZeros 64 = .ok (.if_icmp .le 10, 3) := dk_164 0 10 (dk_at dksJ9_numberOfTrailingZeros_2 17 rfl rfl)
theorem dJ9_numberOfTrailingZeros_67 : decode cJ9_numberOfTrailingZeros 67 = .ok (.iinc 1 2, 3) := dk_132 1 2 (dk_at dksJ9_numberOfTrailingZeros_2 20 rfl rfl)
theorem dJ9_numberOfTrailingZeros_70 : decode cJ9_numberOfTrailingZeros 70 = .ok (.iload_n 0, 1) := dk_26 (dk_at dksJ9_numberOfTrailingZeros_2 23 rfl rfl)
theorem dJ9_numberOfTrailingZeros_71 : decode cJ9_numberOfTrailingZeros 71 = .ok (.iconst 2, 1) := dk_5 (dk_at dksJ9_numberOfTrailingZeros_3 0 rfl rfl)
theorem dJ9_numberOfTrailingZeros_72 : decode cJ9_numberOfTrailingZeros 72 = .ok (.iushr, 1) := dk_124 (dk_at dksJ9_numberOfTrailingZeros_3 1 rfl rfl)
theorem dJ9_numberOfTrailingZeros_73 : decode cJ9_numberOfTrailingZeros 73 = .ok (.istore_n 0, 1) := dk_59 (dk_at dksJ9_numberOfTrailingZeros_3 2 rfl rfl)
theorem dJ9_numberOfTrailingZeros_74 : decode cJ9_numberOfTrailingZeros 74 = .ok (.iload_n 1, 1) := dk_27 (dk_at dksJ9_numberOfTrailingZeros_3 3 rfl rfl)
theorem dJ9_numberOfTrailingZeros_75 : decode cJ9_numberOfTrailingZeros 75 = .ok (.iload_n 0, 1) := dk_26 (dk_at dksJ9_numberOfTrailingZeros_3 4 rfl rfl)
theorem dJ9_numberOfTrailingZeros_76 : decode cJ9_numberOfTrailingZeros 76 = .ok (.iconst 1, 1) := dk_4 (dk_at dksJ9_numberOfTrailingZeros_3 5 rfl rfl)
theorem dJ9_numberOfTrailingZeros_77 : decode cJ9_numberOfTrailingZeros 77 = .ok (.iushr, 1) := dk_124 (dk_at dksJ9_numberOfTrailingZeros_3 6 rfl rfl)
theorem dJ9_numberOfTrailingZeros_78 : decode cJ9_numberOfTrailingZeros 78 = .ok (.iadd, 1) := dk_96 (dk_at dksJ9_numberOfTrailingZeros_3 7 rfl rfl)
theorem dJ9_numberOfTrailingZeros_79 : decode cJ9_numberOfTrailingZeros 79 = .ok (.ireturn, 1) := dk_172 (dk_at dksJ9_numberOfTrailingZeros_3 8 rfl rfl)
abbrev cJ9_stringSize : ByteArray := prog_27_method_13_code
def yJ9_stringSize : MethodName := ⟨RJ9, "stringSize", "(I)I"⟩
def dkwJ9_stringSize_1 : List UInt8 := [164, 0, 7, 29, 27, 96, 172, 16, 10, 28, 104, 61, 132, 3, 1, 167, 255, 233, 16, 10, 27, 96, 172]
abbrev dktJ9_stringSize_1 : List UInt8 := dkwJ9_stringSize_1 ++ []
def dkwJ9_stringSize_0 : List UInt8 := [4, 60, 26, 155, 0, 8, 3, 60, 26, 116, 59, 16, 246, 61, 4, 62, 29, 16, 10, 162, 0, 23, 26, 28]
abbrev dktJ9_stringSize_0 : List UInt8 := dkwJ9_stringSize_0 ++ dktJ9_stringSize_1
theorem dksJ9_stringSize_0 : cJ9_stringSize.data.toList.drop 0 = dktJ9_stringSize_0 := by decide +kernel
theorem dksJ9_stringSize_1 : cJ9_stringSize.data.toList.drop 24 = dktJ9_stringSize_1 := dk_seg dksJ9_stringSize_0 24 rfl rfl
theorem dJ9_stringSize_0 : decode cJ9_stringSize 0 = .ok (.iconst 1, 1) := dk_4 (dk_at dksJ9_stringSize_0 0 rfl rfl)
theorem dJ9_stringSize_1 : decode cJ9_stringSize 1 = .ok (.istore_n 1, 1) := dk_60 (dk_at dksJ9_stringSize_0 1 rfl rfl)
theorem dJ9_stringSize_2 : decode cJ9_stringSize 2 = .ok (.iload_n 0, 1) := dk_26 (dk_at dksJ9_stringSize_0 2 rfl rfl)
theorem dJ9_stringSize_3 : decode cJ9_stringSize 3 = .ok (.ifCond .lt 8, 3) := dk_155 0 8 (dk_at dksJ9_stringSize_0 3 rfl rfl)
theorem dJ9_stringSize_6 : decode cJ9_stringSize 6 = .ok (.iconst 0, 1) := dk_3 (dk_at dksJ9_stringSize_0 6 rfl rfl)
theorem dJ9_stringSize_7 : decode cJ9_stringSize 7 = .ok (.istore_n 1, 1) := dk_60 (dk_at dksJ9_stringSize_0 7 rfl rfl)
theorem dJ9_stringSize_8 : decode cJ9_stringSize 8 = .ok (.iload_n 0, 1) := dk_26 (dk_at dksJ9_stringSize_0 8 rfl rfl)
theorem dJ9_stringSize_9 : decode cJ9_stringSize 9 = .ok (.ineg, 1) := dk_116 (dk_at dksJ9_stringSize_0 9 rfl rfl)
theorem dJ9_stringSize_10 : decode cJ9_stringSize 10 = .ok (.istore_n 0, 1) := dk_59 (dk_at dksJ9_stringSize_0 10 rfl rfl)
theorem dJ9_stringSize_11 : decode cJ9_stringSize 11 = .ok (.bipush (-10), 2) := dk_16 246 (dk_at dksJ9_stringSize_0 11 rfl rfl)
theorem dJ9_stringSize_13 : decode cJ9_stringSize 13 = .ok (.istore_n 2, 1) := dk_61 (dk_at dksJ9_stringSize_0 13 rfl rfl)
theorem dJ9_stringSize_14 : decode cJ9_stringSize 14 = .ok (.iconst 1, 1) := dk_4 (dk_at dksJ9_stringSize_0 14 rfl rfl)
theorem dJ9_stringSize_15 : decode cJ9_stringSize 15 = .ok (.istore_n 3, 1) := dk_62 (dk_at dksJ9_stringSize_0 15 rfl rfl)
theorem dJ9_stringSize_16 : decode cJ9_stringSize 16 = .ok (.iload_n 3, 1) := dk_29 (dk_at dksJ9_stringSize_0 16 rfl rfl)
theorem dJ9_stringSize_17 : decode cJ9_stringSize 17 = .ok (.bipush 10, 2) := dk_16 10 (dk_at dksJ9_stringSize_0 17 rfl rfl)
theorem dJ9_stringSize_19 : decode cJ9_stringSize 19 = .ok (.if_icmp .ge 23, 3) := dk_162 0 23 (dk_at dksJ9_stringSize_0 19 rfl rfl)
theorem dJ9_stringSize_22 : decode cJ9_stringSize 22 = .ok (.iload_n 0, 1) := dk_26 (dk_at dksJ9_stringSize_0 22 rfl rfl)
theorem dJ9_stringSize_23 : decode cJ9_stringSize 23 = .ok (.iload_n 2, 1) := dk_28 (dk_at dksJ9_stringSize_0 23 rfl rfl)
theorem dJ9_stringSize_24 : decode cJ9_stringSize 24 = .ok (.if_icmp .le 7, 3) := dk_164 0 7 (dk_at dksJ9_stringSize_1 0 rfl rfl)
theorem dJ9_stringSize_27 : decode cJ9_stringSize 27 = .ok (.iload_n 3, 1) := dk_29 (dk_at dksJ9_stringSize_1 3 rfl rfl)
theorem dJ9_stringSize_28 : decode cJ9_stringSize 28 = .ok (.iload_n 1, 1) := dk_27 (dk_at dksJ9_stringSize_1 4 rfl rfl)
theorem dJ9_stringSize_29 : decode cJ9_stringSize 29 = .ok (.iadd, 1) := dk_96 (dk_at dksJ9_stringSize_1 5 rfl rfl)
theorem dJ9_stringSize_30 : decode cJ9_stringSize 30 = .ok (.ireturn, 1) := dk_172 (dk_at dksJ9_stringSize_1 6 rfl rfl)
theorem dJ9_stringSize_31 : decode cJ9_stringSize 31 = .ok (.bipush 10, 2) := dk_16 10 (dk_at dksJ9_stringSize_1 7 rfl rfl)
theorem dJ9_stringSize_33 : decode cJ9_stringSize 33 = .ok (.iload_n 2, 1) := dk_28 (dk_at dksJ9_stringSize_1 9 rfl rfl)
theorem dJ9_stringSize_34 : decode cJ9_stringSize 34 = .ok (.imul, 1) := dk_104 (dk_at dksJ9_stringSize_1 10 rfl rfl)
theorem dJ9_stringSize_35 : decode cJ9_stringSize 35 = .ok (.istore_n 2, 1) := dk_61 (dk_at dksJ9_stringSize_1 11 rfl rfl)
theorem dJ9_stringSize_36 : decode cJ9_stringSize 36 = .ok (.iinc 3 1, 3) := dk_132 3 1 (dk_at dksJ9_stringSize_1 12 rfl rfl)
theorem dJ9_stringSize_39 : decode cJ9_stringSize 39 = .ok (.goto (-23), 3) := dk_167 255 233 (dk_at dksJ9_stringSize_1 15 rfl rfl)
theorem dJ9_stringSize_42 : decode cJ9_stringSize 42 = .ok (.bipush 10, 2) := dk_16 10 (dk_at dksJ9_stringSize_1 18 rfl rfl)
theorem dJ9_stringSize_44 : decode cJ9_stringSize 44 = .ok (.iload_n 1, 1) := dk_27 (dk_at dksJ9_stringSize_1 20 rfl rfl)
theorem dJ9_stringSize_45 : decode cJ9_stringSize 45 = .ok (.iadd, 1) := dk_96 (dk_at dksJ9_stringSize_1 21 rfl rfl)
theorem dJ9_stringSize_46 : decode cJ9_stringSize 46 = .ok (.ireturn, 1) := dk_172 (dk_at dksJ9_stringSize_1 22 rfl rfl)
abbrev cJ9_getChars : ByteArray := prog_27_method_12_code
def yJ9_getChars : MethodName := ⟨RJ9, "getChars", "(II[B)I"⟩
def dkwJ9_getChars_5 : List UInt8 := [16, 45, 84, 21, 5, 172]
abbrev dktJ9_getChars_5 : List UInt8 := dkwJ9_getChars_5 ++ []
def dkwJ9_getChars_4 : List UInt8 := [132, 5, 255, 21, 5, 178, 0, 87, 26, 116, 51, 84, 21, 6, 153, 0, 12, 44, 132, 5, 255, 21, 5]
abbrev dktJ9_getChars_4 : List UInt8 := dkwJ9_getChars_4 ++ dktJ9_getChars_5
def dkwJ9_getChars_3 : List UInt8 := [167, 255, 209, 44, 132, 5, 255, 21, 5, 178, 0, 83, 26, 116, 51, 84, 26, 16, 247, 162, 0, 16, 44]
abbrev dktJ9_getChars_3 : List UInt8 := dkwJ9_getChars_3 ++ dktJ9_getChars_4
def dkwJ9_getChars_2 : List UInt8 := [21, 5, 178, 0, 83, 21, 4, 51, 84, 44, 132, 5, 255, 21, 5, 178, 0, 87, 21, 4, 51, 84]
abbrev dktJ9_getChars_2 : List UInt8 := dkwJ9_getChars_2 ++ dktJ9_getChars_3
def dkwJ9_getChars_1 : List UInt8 := [16, 156, 163, 0, 47, 26, 16, 100, 108, 62, 29, 16, 100, 104, 26, 100, 54, 4, 29, 59, 44, 132, 5, 255]
abbrev dktJ9_getChars_1 : List UInt8 := dkwJ9_getChars_1 ++ dktJ9_getChars_2
def dkwJ9_getChars_0 : List UInt8 := [27, 54, 5, 26, 156, 0, 7, 4, 167, 0, 4, 3, 54, 6, 21, 6, 154, 0, 6, 26, 116, 59, 26]
abbrev dktJ9_getChars_0 : List UInt8 := dkwJ9_getChars_0 ++ dktJ9_getChars_1
theorem dksJ9_getChars_0 : cJ9_getChars.data.toList.drop 0 = dktJ9_getChars_0 := by decide +kernel
theorem dksJ9_getChars_1 : cJ9_getChars.data.toList.drop 23 = dktJ9_getChars_1 := dk_seg dksJ9_getChars_0 23 rfl rfl
theorem dksJ9_getChars_2 : cJ9_getChars.data.toList.drop 47 = dktJ9_getChars_2 := dk_seg dksJ9_getChars_1 24 rfl rfl
theorem dksJ9_getChars_3 : cJ9_getChars.data.toList.drop 69 = dktJ9_getChars_3 := dk_seg dksJ9_getChars_2 22 rfl rfl
theorem dksJ9_getChars_4 : cJ9_getChars.data.toList.drop 92 = dktJ9_getChars_4 := dk_seg dksJ9_getChars_3 23 rfl rfl
theorem dksJ9_getChars_5 : cJ9_getChars.data.toList.drop 115 = dktJ9_getChars_5 := dk_seg dksJ9_getChars_4 23 rfl rfl
theorem dJ9_getChars_0 : decode cJ9_getChars 0 = .ok (.iload_n 1, 1) := dk_27 (dk_at dksJ9_getChars_0 0 rfl rfl)
theorem dJ9_getChars_1 : decode cJ9_getChars 1 = .ok (.istore 5, 2) := dk_54 5 (dk_at dksJ9_getChars_0 1 rfl rfl)
theorem dJ9_getChars_3 : decode cJ9_getChars 3 = .ok (.iload_n 0, 1) := dk_26 (dk_at dksJ9_getChars_0 3 rfl rfl)
theorem dJ9_getChars_4 : decode cJ9_getChars 4 = .ok (.ifCond .ge 7, 3) := dk_156 0 7 (dk_at dksJ9_getChars_0 4 rfl rfl)
theorem dJ9_getChars_7 : decode cJ9_getChars 7 = .ok (.iconst 1, 1) := dk_4 (dk_at dksJ9_getChars_0 7 rfl rfl)
theorem dJ9_getChars_8 : decode cJ9_getChars 8 = .ok (.goto 4, 3) := dk_167 0 4 (dk_at dksJ9_getChars_0 8 rfl rfl)
theorem dJ9_getChars_11 : decode cJ9_getChars 11 = .ok (.iconst 0, 1) := dk_3 (dk_at dksJ9_getChars_0 11 rfl rfl)
theorem dJ9_getChars_12 : decode cJ9_getChars 12 = .ok (.istore 6, 2) := dk_54 6 (dk_at dksJ9_getChars_0 12 rfl rfl)
theorem dJ9_getChars_14 : decode cJ9_getChars 14 = .ok (.iload 6, 2) := dk_21 6 (dk_at dksJ9_getChars_0 14 rfl rfl)
theorem dJ9_getChars_16 : decode cJ9_getChars 16 = .ok (.ifCond .ne 6, 3) := dk_154 0 6 (dk_at dksJ9_getChars_0 16 rfl rfl)
theorem dJ9_getChars_19 : decode cJ9_getChars 19 = .ok (.iload_n 0, 1) := dk_26 (dk_at dksJ9_getChars_0 19 rfl rfl)
theorem dJ9_getChars_20 : decode cJ9_getChars 20 = .ok (.ineg, 1) := dk_116 (dk_at dksJ9_getChars_0 20 rfl rfl)
theorem dJ9_getChars_21 : decode cJ9_getChars 21 = .ok (.istore_n 0, 1) := dk_59 (dk_at dksJ9_getChars_0 21 rfl rfl)
theorem dJ9_getChars_22 : decode cJ9_getChars 22 = .ok (.iload_n 0, 1) := dk_26 (dk_at dksJ9_getChars_0 22 rfl rfl)
theorem dJ9_getChars_23 : decode cJ9_getChars 23 = .ok (.bipush (-100), 2) := dk_16 156 (dk_at dksJ9_getChars_1 0 rfl rfl)
theorem dJ9_getChars_25 : decode cJ9_getChars 25 = .ok (.if_icmp .gt 47, 3) := dk_163 0 47 (dk_at dksJ9_getChars_1 2 rfl rfl)
theorem dJ9_getChars_28 : decode cJ9_getChars 28 = .ok (.iload_n 0, 1) := dk_26 (dk_at dksJ9_getChars_1 5 rfl rfl)
theorem dJ9_getChars_29 : decode cJ9_getChars 29 = .ok (.bipush 100, 2) := dk_16 100 (dk_at dksJ9_getChars_1 6 rfl rfl)
theorem dJ9_getChars_31 : decode cJ9_getChars 31 = .ok (.idiv, 1) := dk_108 (dk_at dksJ9_getChars_1 8 rfl rfl)
theorem dJ9_getChars_32 : decode cJ9_getChars 32 = .ok (.istore_n 3, 1) := dk_62 (dk_at dksJ9_getChars_1 9 rfl rfl)
theorem dJ9_getChars_33 : decode cJ9_getChars 33 = .ok (.iload_n 3, 1) := dk_29 (dk_at dksJ9_getChars_1 10 rfl rfl)
theorem dJ9_getChars_34 : decode cJ9_getChars 34 = .ok (.bipush 100, 2) := dk_16 100 (dk_at dksJ9_getChars_1 11 rfl rfl)
theorem dJ9_getChars_36 : decode cJ9_getChars 36 = .ok (.imul, 1) := dk_104 (dk_at dksJ9_getChars_1 13 rfl rfl)
theorem dJ9_getChars_37 : decode cJ9_getChars 37 = .ok (.iload_n 0, 1) := dk_26 (dk_at dksJ9_getChars_1 14 rfl rfl)
theorem dJ9_getChars_38 : decode cJ9_getChars 38 = .ok (.isub, 1) := dk_100 (dk_at dksJ9_getChars_1 15 rfl rfl)
theorem dJ9_getChars_39 : decode cJ9_getChars 39 = .ok (.istore 4, 2) := dk_54 4 (dk_at dksJ9_getChars_1 16 rfl rfl)
theorem dJ9_getChars_41 : decode cJ9_getChars 41 = .ok (.iload_n 3, 1) := dk_29 (dk_at dksJ9_getChars_1 18 rfl rfl)
theorem dJ9_getChars_42 : decode cJ9_getChars 42 = .ok (.istore_n 0, 1) := dk_59 (dk_at dksJ9_getChars_1 19 rfl rfl)
theorem dJ9_getChars_43 : decode cJ9_getChars 43 = .ok (.aload_n 2, 1) := dk_44 (dk_at dksJ9_getChars_1 20 rfl rfl)
theorem dJ9_getChars_44 : decode cJ9_getChars 44 = .ok (.iinc 5 (-1), 3) := dk_132 5 255 (dk_at dksJ9_getChars_1 21 rfl rfl)
theorem dJ9_getChars_47 : decode cJ9_getChars 47 = .ok (.iload 5, 2) := dk_21 5 (dk_at dksJ9_getChars_2 0 rfl rfl)
theorem dJ9_getChars_49 : decode cJ9_getChars 49 = .ok (.getstatic 83, 3) := dk_178 0 83 (dk_at dksJ9_getChars_2 2 rfl rfl)
theorem dJ9_getChars_52 : decode cJ9_getChars 52 = .ok (.iload 4, 2) := dk_21 4 (dk_at dksJ9_getChars_2 5 rfl rfl)
theorem dJ9_getChars_54 : decode cJ9_getChars 54 = .ok (.baload, 1) := dk_51 (dk_at dksJ9_getChars_2 7 rfl rfl)
theorem dJ9_getChars_55 : decode cJ9_getChars 55 = .ok (.bastore, 1) := dk_84 (dk_at dksJ9_getChars_2 8 rfl rfl)
theorem dJ9_getChars_56 : decode cJ9_getChars 56 = .ok (.aload_n 2, 1) := dk_44 (dk_at dksJ9_getChars_2 9 rfl rfl)
theorem dJ9_getChars_57 : decode cJ9_getChars 57 = .ok (.iinc 5 (-1), 3) := dk_132 5 255 (dk_at dksJ9_getChars_2 10 rfl rfl)
theorem dJ9_getChars_60 : decode cJ9_getChars 60 = .ok (.iload 5, 2) := dk_21 5 (dk_at dksJ9_getChars_2 13 rfl rfl)
theorem dJ9_getChars_62 : decode cJ9_getChars 62 = .ok (.getstatic 87, 3) := dk_178 0 87 (dk_at dksJ9_getChars_2 15 rfl rfl)
theorem dJ9_getChars_65 : decode cJ9_getChars 65 = .ok (.iload 4, 2) := dk_21 4 (dk_at dksJ9_getChars_2 18 rfl rfl)
theorem dJ9_getChars_67 : decode cJ9_getChars 67 = .ok (.baload, 1) := dk_51 (dk_at dksJ9_getChars_2 20 rfl rfl)
theorem dJ9_getChars_68 : decode cJ9_getChars 68 = .ok (.bastore, 1) := dk_84 (dk_at dksJ9_getChars_2 21 rfl rfl)
theorem dJ9_getChars_69 : decode cJ9_getChars 69 = .ok (.goto (-47), 3) := dk_167 255 209 (dk_at dksJ9_getChars_3 0 rfl rfl)
theorem dJ9_getChars_72 : decode cJ9_getChars 72 = .ok (.aload_n 2, 1) := dk_44 (dk_at dksJ9_getChars_3 3 rfl rfl)
theorem dJ9_getChars_73 : decode cJ9_getChars 73 = .ok (.iinc 5 (-1), 3) := dk_132 5 255 (dk_at dksJ9_getChars_3 4 rfl rfl)
theorem dJ9_getChars_76 : decode cJ9_getChars 76 = .ok (.iload 5, 2) := dk_21 5 (dk_at dksJ9_getChars_3 7 rfl rfl)
theorem dJ9_getChars_78 : decode cJ9_getChars 78 = .ok (.getstatic 83, 3) := dk_178 0 83 (dk_at dksJ9_getChars_3 9 rfl rfl)
theorem dJ9_getChars_81 : decode cJ9_getChars 81 = .ok (.iload_n 0, 1) := dk_26 (dk_at dksJ9_getChars_3 12 rfl rfl)
theorem dJ9_getChars_82 : decode cJ9_getChars 82 = .ok (.ineg, 1) := dk_116 (dk_at dksJ9_getChars_3 13 rfl rfl)
theorem dJ9_getChars_83 : decode cJ9_getChars 83 = .ok (.baload, 1) := dk_51 (dk_at dksJ9_getChars_3 14 rfl rfl)
theorem dJ9_getChars_84 : decode cJ9_getChars 84 = .ok (.bastore, 1) := dk_84 (dk_at dksJ9_getChars_3 15 rfl rfl)
theorem dJ9_getChars_85 : decode cJ9_getChars 85 = .ok (.iload_n 0, 1) := dk_26 (dk_at dksJ9_getChars_3 16 rfl rfl)
theorem dJ9_getChars_86 : decode cJ9_getChars 86 = .ok (.bipush (-9), 2) := dk_16 247 (dk_at dksJ9_getChars_3 17 rfl rfl)
theorem dJ9_getChars_88 : decode cJ9_getChars 88 = .ok (.if_icmp .ge 16, 3) := dk_162 0 16 (dk_at dksJ9_getChars_3 19 rfl rfl)
theorem dJ9_getChars_91 : decode cJ9_getChars 91 = .ok (.aload_n 2, 1) := dk_44 (dk_at dksJ9_getChars_3 22 rfl rfl)
theorem dJ9_getChars_92 : decode cJ9_getChars 92 = .ok (.iinc 5 (-1), 3) := dk_132 5 255 (dk_at dksJ9_getChars_4 0 rfl rfl)
theorem dJ9_getChars_95 : decode cJ9_getChars 95 = .ok (.iload 5, 2) := dk_21 5 (dk_at dksJ9_getChars_4 3 rfl rfl)
theorem dJ9_getChars_97 : decode cJ9_getChars 97 = .ok (.getstatic 87, 3) := dk_178 0 87 (dk_at dksJ9_getChars_4 5 rfl rfl)
theorem dJ9_getChars_100 : decode cJ9_getChars 100 = .ok (.iload_n 0, 1) := dk_26 (dk_at dksJ9_getChars_4 8 rfl rfl)
theorem dJ9_getChars_101 : decode cJ9_getChars 101 = .ok (.ineg, 1) := dk_116 (dk_at dksJ9_getChars_4 9 rfl rfl)
theorem dJ9_getChars_102 : decode cJ9_getChars 102 = .ok (.baload, 1) := dk_51 (dk_at dksJ9_getChars_4 10 rfl rfl)
theorem dJ9_getChars_103 : decode cJ9_getChars 103 = .ok (.bastore, 1) := dk_84 (dk_at dksJ9_getChars_4 11 rfl rfl)
theorem dJ9_getChars_104 : decode cJ9_getChars 104 = .ok (.iload 6, 2) := dk_21 6 (dk_at dksJ9_getChars_4 12 rfl rfl)
theorem dJ9_getChars_106 : decode cJ9_getChars 106 = .ok (.ifCond .eq 12, 3) := dk_153 0 12 (dk_at dksJ9_getChars_4 14 rfl rfl)
theorem dJ9_getChars_109 : decode cJ9_getChars 109 = .ok (.aload_n 2, 1) := dk_44 (dk_at dksJ9_getChars_4 17 rfl rfl)
theorem dJ9_getChars_110 : decode cJ9_getChars 110 = .ok (.iinc 5 (-1), 3) := dk_132 5 255 (dk_at dksJ9_getChars_4 18 rfl rfl)
theorem dJ9_getChars_113 : decode cJ9_getChars 113 = .ok (.iload 5, 2) := dk_21 5 (dk_at dksJ9_getChars_4 21 rfl rfl)
theorem dJ9_getChars_115 : decode cJ9_getChars 115 = .ok (.bipush 45, 2) := dk_16 45 (dk_at dksJ9_getChars_5 0 rfl rfl)
theorem dJ9_getChars_117 : decode cJ9_getChars 117 = .ok (.bastore, 1) := dk_84 (dk_at dksJ9_getChars_5 2 rfl rfl)
theorem dJ9_getChars_118 : decode cJ9_getChars 118 = .ok (.iload 5, 2) := dk_21 5 (dk_at dksJ9_getChars_5 3 rfl rfl)
theorem dJ9_getChars_120 : decode cJ9_getChars 120 = .ok (.ireturn, 1) := dk_172 (dk_at dksJ9_getChars_5 5 rfl rfl)
abbrev cJ9_intValue : ByteArray := prog_27_method_27_code
def yJ9_intValue : MethodName := ⟨RJ9, "intValue", "()I"⟩
theorem dJ9_intValue_0 : decode cJ9_intValue 0 = .ok (.aload_n 0, 1) := by decide +kernel
theorem dJ9_intValue_1 : decode cJ9_intValue 1 = .ok (.getfield 205, 3) := by decide +kernel
theorem dJ9_intValue_4 : decode cJ9_intValue 4 = .ok (.ireturn, 1) := by decide +kernel
theorem q99 : (Jvm.Cond.initialized "java/lang/Integer") ∈ lw_all := lw_g (lw_at lw_m1 14 rfl) rfl
theorem q234 : (Jvm.Cond.static ({ cls := "java/lang/Integer", name := "valueOf", desc := "(I)Ljava/lang/Integer;" } : Jvm.MethodName)) ∈ lw_all := lw_g (lw_at lw_m1 149 rfl) rfl
theorem q235 : (Jvm.Cond.code ({ cls := "java/lang/Integer", name := "valueOf", desc := "(I)Ljava/lang/Integer;" } : Jvm.MethodName) prog_27_method_22_code (1 : Nat) (Option.some (Jvm.ClassFile.FieldType.object "java/lang/Integer"))) ∈ lw_all := lw_g (lw_at lw_m1 150 rfl) rfl
theorem q236 : (Jvm.Cond.fieldLink "java/lang/Integer" (191 : Nat) "java/lang/Integer$IntegerCache" "high" "I") ∈ lw_all := lw_g (lw_at lw_m1 151 rfl) rfl
theorem q238 : (Jvm.Cond.fieldLink "java/lang/Integer" (195 : Nat) "java/lang/Integer$IntegerCache" "cache" "[Ljava/lang/Integer;") ∈ lw_all := lw_g (lw_at lw_m1 153 rfl) rfl
theorem q240 : (Jvm.Cond.classLink "java/lang/Integer" (1 : Nat) "java/lang/Integer") ∈ lw_all := lw_g (lw_at lw_m1 155 rfl) rfl
theorem q241 : (Jvm.Cond.instantiable "java/lang/Integer" (1 : Nat)) ∈ lw_all := lw_g (lw_at lw_m1 156 rfl) rfl
theorem q242 : (Jvm.Cond.methodLink "java/lang/Integer" (199 : Nat) ({ cls := "java/lang/Integer", name := "<init>", desc := "(I)V" } : Jvm.MethodName)) ∈ lw_all := lw_g (lw_at lw_m1 157 rfl) rfl
theorem q243 : (Jvm.Cond.instanceMethod ({ cls := "java/lang/Integer", name := "<init>", desc := "(I)V" } : Jvm.MethodName)) ∈ lw_all := lw_g (lw_at lw_m1 158 rfl) rfl
theorem q244 : (Jvm.Cond.code ({ cls := "java/lang/Integer", name := "<init>", desc := "(I)V" } : Jvm.MethodName) prog_27_method_23_code (2 : Nat) (Option.none : Option Jvm.ClassFile.FieldType)) ∈ lw_all := lw_g (lw_at lw_m1 159 rfl) rfl
theorem q245 : (Jvm.Cond.methodLink "java/lang/Integer" (202 : Nat) ({ cls := "java/lang/Number", name := "<init>", desc := "()V" } : Jvm.MethodName)) ∈ lw_all := lw_g (lw_at lw_m1 160 rfl) rfl
theorem q249 : (Jvm.Cond.fieldLink "java/lang/Integer" (205 : Nat) "java/lang/Integer" "value" "I") ∈ lw_all := lw_g (lw_at lw_m1 164 rfl) rfl
theorem q250 : (Jvm.Cond.laysFinal "java/lang/Integer" "java/lang/Integer" "value" "I") ∈ lw_all := lw_g (lw_at lw_m1 165 rfl) rfl
theorem q251 : (Jvm.Cond.soleField "java/lang/Integer" "value") ∈ lw_all := lw_g (lw_at lw_m1 166 rfl) rfl
theorem q252 : (Jvm.Cond.superclass "java/lang/Integer" "java/lang/Number") ∈ lw_all := lw_g (lw_at lw_m1 167 rfl) rfl
theorem q379 : (Jvm.Cond.selects "java/lang/Integer" ({ cls := "java/lang/Object", name := "getClass", desc := "()Ljava/lang/Class;" } : Jvm.MethodName) ({ cls := "java/lang/Object", name := "getClass", desc := "()Ljava/lang/Class;" } : Jvm.MethodName)) ∈ lw_all := lw_g (lw_at lw_m2 54 rfl) rfl
theorem q633 : (Jvm.Cond.static ({ cls := "java/lang/Integer", name := "compare", desc := "(II)I" } : Jvm.MethodName)) ∈ lw_all := lw_g (lw_at lw_m3 68 rfl) rfl
theorem q634 : (Jvm.Cond.code ({ cls := "java/lang/Integer", name := "compare", desc := "(II)I" } : Jvm.MethodName) prog_27_method_40_code (2 : Nat) (Option.some Jvm.ClassFile.FieldType.int)) ∈ lw_all := lw_g (lw_at lw_m3 69 rfl) rfl
theorem q635 : (Jvm.Cond.castable "java/lang/Integer" "java/lang/Comparable") ∈ lw_tbl := lw_at lw_m3 70 rfl
theorem q636 : (Jvm.Cond.selects "java/lang/Integer" ({ cls := "java/lang/Comparable", name := "compareTo", desc := "(Ljava/lang/Object;)I" } : Jvm.MethodName) ({ cls := "java/lang/Integer", name := "compareTo", desc := "(Ljava/lang/Object;)I" } : Jvm.MethodName)) ∈ lw_all := lw_g (lw_at lw_m3 71 rfl) rfl
theorem q637 : (Jvm.Cond.unhidden "java/lang/Integer" "compareTo" "(Ljava/lang/Object;)I") ∈ lw_tbl := lw_at lw_m3 72 rfl
theorem q638 : (Jvm.Cond.instanceMethod ({ cls := "java/lang/Integer", name := "compareTo", desc := "(Ljava/lang/Object;)I" } : Jvm.MethodName)) ∈ lw_all := lw_g (lw_at lw_m3 73 rfl) rfl
theorem q639 : (Jvm.Cond.publicMethod ({ cls := "java/lang/Integer", name := "compareTo", desc := "(Ljava/lang/Object;)I" } : Jvm.MethodName)) ∈ lw_tbl := lw_at lw_m3 74 rfl
theorem q640 : (Jvm.Cond.code ({ cls := "java/lang/Integer", name := "compareTo", desc := "(Ljava/lang/Object;)I" } : Jvm.MethodName) prog_27_method_63_code (2 : Nat) (Option.some Jvm.ClassFile.FieldType.int)) ∈ lw_all := lw_g (lw_at lw_m3 75 rfl) rfl
theorem q641 : (Jvm.Cond.methodLink "java/lang/Integer" (284 : Nat) ({ cls := "java/lang/Integer", name := "compareTo", desc := "(Ljava/lang/Integer;)I" } : Jvm.MethodName)) ∈ lw_all := lw_g (lw_at lw_m3 76 rfl) rfl
theorem q642 : (Jvm.Cond.instanceMethod ({ cls := "java/lang/Integer", name := "compareTo", desc := "(Ljava/lang/Integer;)I" } : Jvm.MethodName)) ∈ lw_all := lw_g (lw_at lw_m3 77 rfl) rfl
theorem q643 : (Jvm.Cond.selects "java/lang/Integer" ({ cls := "java/lang/Integer", name := "compareTo", desc := "(Ljava/lang/Integer;)I" } : Jvm.MethodName) ({ cls := "java/lang/Integer", name := "compareTo", desc := "(Ljava/lang/Integer;)I" } : Jvm.MethodName)) ∈ lw_all := lw_g (lw_at lw_m3 78 rfl) rfl
theorem q644 : (Jvm.Cond.code ({ cls := "java/lang/Integer", name := "compareTo", desc := "(Ljava/lang/Integer;)I" } : Jvm.MethodName) prog_27_method_39_code (2 : Nat) (Option.some Jvm.ClassFile.FieldType.int)) ∈ lw_all := lw_g (lw_at lw_m3 79 rfl) rfl
theorem q645 : (Jvm.Cond.methodLink "java/lang/Integer" (259 : Nat) ({ cls := "java/lang/Integer", name := "compare", desc := "(II)I" } : Jvm.MethodName)) ∈ lw_all := lw_g (lw_at lw_m3 80 rfl) rfl
theorem q741 : (Jvm.Cond.static ({ cls := "java/lang/Integer", name := "numberOfLeadingZeros", desc := "(I)I" } : Jvm.MethodName)) ∈ lw_all := lw_g (lw_at lw_m3 176 rfl) rfl
theorem q742 : (Jvm.Cond.code ({ cls := "java/lang/Integer", name := "numberOfLeadingZeros", desc := "(I)I" } : Jvm.MethodName) prog_27_method_47_code (2 : Nat) (Option.some Jvm.ClassFile.FieldType.int)) ∈ lw_all := lw_g (lw_at lw_m3 177 rfl) rfl
theorem q743 : (Jvm.Cond.constant "java/lang/Integer" (264 : Nat) (65536 : Int32)) ∈ lw_all := lw_g (lw_at lw_m3 178 rfl) rfl
theorem q750 : (Jvm.Cond.static ({ cls := "java/lang/Integer", name := "numberOfTrailingZeros", desc := "(I)I" } : Jvm.MethodName)) ∈ lw_all := lw_g (lw_at lw_m3 185 rfl) rfl
theorem q751 : (Jvm.Cond.code ({ cls := "java/lang/Integer", name := "numberOfTrailingZeros", desc := "(I)I" } : Jvm.MethodName) prog_27_method_48_code (2 : Nat) (Option.some Jvm.ClassFile.FieldType.int)) ∈ lw_all := lw_g (lw_at lw_m3 186 rfl) rfl
theorem q971 : (Jvm.Cond.static ({ cls := "java/lang/Integer", name := "stringSize", desc := "(I)I" } : Jvm.MethodName)) ∈ lw_all := lw_g (lw_at lw_m4 166 rfl) rfl
theorem q972 : (Jvm.Cond.code ({ cls := "java/lang/Integer", name := "stringSize", desc := "(I)I" } : Jvm.MethodName) prog_27_method_13_code (4 : Nat) (Option.some Jvm.ClassFile.FieldType.int)) ∈ lw_all := lw_g (lw_at lw_m4 167 rfl) rfl
theorem q974 : (Jvm.Cond.static ({ cls := "java/lang/Integer", name := "getChars", desc := "(II[B)I" } : Jvm.MethodName)) ∈ lw_all := lw_g (lw_at lw_m4 169 rfl) rfl
theorem q975 : (Jvm.Cond.code ({ cls := "java/lang/Integer", name := "getChars", desc := "(II[B)I" } : Jvm.MethodName) prog_27_method_12_code (7 : Nat) (Option.some Jvm.ClassFile.FieldType.int)) ∈ lw_all := lw_g (lw_at lw_m4 170 rfl) rfl
theorem q976 : (Jvm.Cond.fieldLink "java/lang/Integer" (83 : Nat) "java/lang/Integer" "DigitOnes" "[B") ∈ lw_all := lw_g (lw_at lw_m4 171 rfl) rfl
theorem q977 : (Jvm.Cond.laysStatic "java/lang/Integer" "DigitOnes" "[B") ∈ lw_tbl := lw_at lw_m4 172 rfl
theorem q978 : (Jvm.Cond.fieldLink "java/lang/Integer" (87 : Nat) "java/lang/Integer" "DigitTens" "[B") ∈ lw_all := lw_g (lw_at lw_m4 173 rfl) rfl
theorem q979 : (Jvm.Cond.laysStatic "java/lang/Integer" "DigitTens" "[B") ∈ lw_tbl := lw_at lw_m4 174 rfl
theorem q1295 : (Jvm.Cond.instanceMethod ({ cls := "java/lang/Integer", name := "intValue", desc := "()I" } : Jvm.MethodName)) ∈ lw_all := lw_g (lw_at lw_m6 10 rfl) rfl
theorem q1296 : (Jvm.Cond.selects "java/lang/Integer" ({ cls := "java/lang/Integer", name := "intValue", desc := "()I" } : Jvm.MethodName) ({ cls := "java/lang/Integer", name := "intValue", desc := "()I" } : Jvm.MethodName)) ∈ lw_all := lw_g (lw_at lw_m6 11 rfl) rfl
theorem q1297 : (Jvm.Cond.code ({ cls := "java/lang/Integer", name := "intValue", desc := "()I" } : Jvm.MethodName) prog_27_method_27_code (1 : Nat) (Option.some Jvm.ClassFile.FieldType.int)) ∈ lw_all := lw_g (lw_at lw_m6 12 rfl) rfl
theorem q2404 : (Jvm.Cond.castable "java/lang/Integer" "java/lang/Object") ∈ lw_tbl := lw_at lw_m10 159 rfl
theorem in_J9 : ∀ w ∈ wsJ90, w ∈ lw_all := lw_in wsJ90 [250] (by decide +kernel) (by decide +kernel)
/-! java/util/AbstractCollection -/
set_option maxRecDepth 100000
def RJ0 : String := "java/util/AbstractCollection"
abbrev cJ0_init : ByteArray := prog_43_method_1_code
def yJ0_init : MethodName := ⟨RJ0, "<init>", "()V"⟩
theorem dJ0_init_0 : decode cJ0_init 0 = .ok (.aload_n 0, 1) := by decide +kernel
theorem dJ0_init_1 : decode cJ0_init 1 = .ok (.invokespecial 1, 3) := by decide +kernel
theorem dJ0_init_4 : decode cJ0_init 4 = .ok (.return_, 1) := by decide +kernel
theorem q87 : (Jvm.Cond.initialized "java/util/AbstractCollection") ∈ lw_all := lw_g (lw_at lw_m1 2 rfl) rfl
theorem q145 : (Jvm.Cond.instanceMethod ({ cls := "java/util/AbstractCollection", name := "<init>", desc := "()V" } : Jvm.MethodName)) ∈ lw_all := lw_g (lw_at lw_m1 60 rfl) rfl
theorem q146 : (Jvm.Cond.code ({ cls := "java/util/AbstractCollection", name := "<init>", desc := "()V" } : Jvm.MethodName) prog_43_method_1_code (1 : Nat) (Option.none : Option Jvm.ClassFile.FieldType)) ∈ lw_all := lw_g (lw_at lw_m1 61 rfl) rfl
theorem q147 : (Jvm.Cond.methodLink "java/util/AbstractCollection" (1 : Nat) ({ cls := "java/lang/Object", name := "<init>", desc := "()V" } : Jvm.MethodName)) ∈ lw_all := lw_g (lw_at lw_m1 62 rfl) rfl
/-! java/util/AbstractList -/
set_option maxRecDepth 100000
def RJ6 : String := "java/util/AbstractList"
abbrev cJ6_init : ByteArray := prog_44_method_1_code
def yJ6_init : MethodName := ⟨RJ6, "<init>", "()V"⟩
def dkwJ6_init_0 : List UInt8 := [42, 183, 0, 1, 42, 3, 181, 0, 7, 177]
abbrev dktJ6_init_0 : List UInt8 := dkwJ6_init_0 ++ []
theorem dksJ6_init_0 : cJ6_init.data.toList.drop 0 = dktJ6_init_0 := by decide +kernel
theorem dJ6_init_0 : decode cJ6_init 0 = .ok (.aload_n 0, 1) := dk_42 (dk_at dksJ6_init_0 0 rfl rfl)
theorem dJ6_init_1 : decode cJ6_init 1 = .ok (.invokespecial 1, 3) := dk_183 0 1 (dk_at dksJ6_init_0 1 rfl rfl)
theorem dJ6_init_4 : decode cJ6_init 4 = .ok (.aload_n 0, 1) := dk_42 (dk_at dksJ6_init_0 4 rfl rfl)
theorem dJ6_init_5 : decode cJ6_init 5 = .ok (.iconst 0, 1) := dk_3 (dk_at dksJ6_init_0 5 rfl rfl)
theorem dJ6_init_6 : decode cJ6_init 6 = .ok (.putfield 7, 3) := dk_181 0 7 (dk_at dksJ6_init_0 6 rfl rfl)
theorem dJ6_init_9 : decode cJ6_init 9 = .ok (.return_, 1) := dk_177 (dk_at dksJ6_init_0 9 rfl rfl)
theorem q94 : (Jvm.Cond.initialized "java/util/AbstractList") ∈ lw_all := lw_g (lw_at lw_m1 9 rfl) rfl
theorem q208 : (Jvm.Cond.instanceMethod ({ cls := "java/util/AbstractList", name := "<init>", desc := "()V" } : Jvm.MethodName)) ∈ lw_all := lw_g (lw_at lw_m1 123 rfl) rfl
theorem q209 : (Jvm.Cond.code ({ cls := "java/util/AbstractList", name := "<init>", desc := "()V" } : Jvm.MethodName) prog_44_method_1_code (1 : Nat) (Option.none : Option Jvm.ClassFile.FieldType)) ∈ lw_all := lw_g (lw_at lw_m1 124 rfl) rfl
theorem q210 : (Jvm.Cond.methodLink "java/util/AbstractList" (1 : Nat) ({ cls := "java/util/AbstractCollection", name := "<init>", desc := "()V" } : Jvm.MethodName)) ∈ lw_all := lw_g (lw_at lw_m1 125 rfl) rfl
theorem q215 : (Jvm.Cond.fieldLink "java/util/AbstractList" (7 : Nat) "java/util/AbstractList" "modCount" "I") ∈ lw_all := lw_g (lw_at lw_m1 130 rfl) rfl
theorem q223 : (Jvm.Cond.soleField "java/util/AbstractList" "modCount") ∈ lw_all := lw_g (lw_at lw_m1 138 rfl) rfl
/-! java/lang/Number -/
set_option maxRecDepth 100000
def RJ8 : String := "java/lang/Number"
abbrev cJ8_init : ByteArray := prog_32_method_1_code
def yJ8_init : MethodName := ⟨RJ8, "<init>", "()V"⟩
theorem dJ8_init_0 : decode cJ8_init 0 = .ok (.aload_n 0, 1) := by decide +kernel
theorem dJ8_init_1 : decode cJ8_init 1 = .ok (.invokespecial 1, 3) := by decide +kernel
theorem dJ8_init_4 : decode cJ8_init 4 = .ok (.return_, 1) := by decide +kernel
theorem q98 : (Jvm.Cond.initialized "java/lang/Number") ∈ lw_all := lw_g (lw_at lw_m1 13 rfl) rfl
theorem q246 : (Jvm.Cond.instanceMethod ({ cls := "java/lang/Number", name := "<init>", desc := "()V" } : Jvm.MethodName)) ∈ lw_all := lw_g (lw_at lw_m1 161 rfl) rfl
theorem q247 : (Jvm.Cond.code ({ cls := "java/lang/Number", name := "<init>", desc := "()V" } : Jvm.MethodName) prog_32_method_1_code (1 : Nat) (Option.none : Option Jvm.ClassFile.FieldType)) ∈ lw_all := lw_g (lw_at lw_m1 162 rfl) rfl
theorem q248 : (Jvm.Cond.methodLink "java/lang/Number" (1 : Nat) ({ cls := "java/lang/Object", name := "<init>", desc := "()V" } : Jvm.MethodName)) ∈ lw_all := lw_g (lw_at lw_m1 163 rfl) rfl
/-! java/lang/Math -/
set_option maxRecDepth 100000
def RJ11 : String := "java/lang/Math"
abbrev cJ11_max : ByteArray := prog_31_method_65_code
def yJ11_max : MethodName := ⟨RJ11, "max", "(II)I"⟩
def dkwJ11_max_0 : List UInt8 := [26, 27, 161, 0, 7, 26, 167, 0, 4, 27, 172]
abbrev dktJ11_max_0 : List UInt8 := dkwJ11_max_0 ++ []
theorem dksJ11_max_0 : cJ11_max.data.toList.drop 0 = dktJ11_max_0 := by decide +kernel
theorem dJ11_max_0 : decode cJ11_max 0 = .ok (.iload_n 0, 1) := dk_26 (dk_at dksJ11_max_0 0 rfl rfl)
theorem dJ11_max_1 : decode cJ11_max 1 = .ok (.iload_n 1, 1) := dk_27 (dk_at dksJ11_max_0 1 rfl rfl)
theorem dJ11_max_2 : decode cJ11_max 2 = .ok (.if_icmp .lt 7, 3) := dk_161 0 7 (dk_at dksJ11_max_0 2 rfl rfl)
theorem dJ11_max_5 : decode cJ11_max 5 = .ok (.iload_n 0, 1) := dk_26 (dk_at dksJ11_max_0 5 rfl rfl)
theorem dJ11_max_6 : decode cJ11_max 6 = .ok (.goto 4, 3) := dk_167 0 4 (dk_at dksJ11_max_0 6 rfl rfl)
theorem dJ11_max_9 : decode cJ11_max 9 = .ok (.iload_n 1, 1) := dk_27 (dk_at dksJ11_max_0 9 rfl rfl)
theorem dJ11_max_10 : decode cJ11_max 10 = .ok (.ireturn, 1) := dk_172 (dk_at dksJ11_max_0 10 rfl rfl)
abbrev cJ11_min : ByteArray := prog_31_method_69_code
def yJ11_min : MethodName := ⟨RJ11, "min", "(II)I"⟩
def dkwJ11_min_0 : List UInt8 := [26, 27, 163, 0, 7, 26, 167, 0, 4, 27, 172]
abbrev dktJ11_min_0 : List UInt8 := dkwJ11_min_0 ++ []
theorem dksJ11_min_0 : cJ11_min.data.toList.drop 0 = dktJ11_min_0 := by decide +kernel
theorem dJ11_min_0 : decode cJ11_min 0 = .ok (.iload_n 0, 1) := dk_26 (dk_at dksJ11_min_0 0 rfl rfl)
theorem dJ11_min_1 : decode cJ11_min 1 = .ok (.iload_n 1, 1) := dk_27 (dk_at dksJ11_min_0 1 rfl rfl)
theorem dJ11_min_2 : decode cJ11_min 2 = .ok (.if_icmp .gt 7, 3) := dk_163 0 7 (dk_at dksJ11_min_0 2 rfl rfl)
theorem dJ11_min_5 : decode cJ11_min 5 = .ok (.iload_n 0, 1) := dk_26 (dk_at dksJ11_min_0 5 rfl rfl)
theorem dJ11_min_6 : decode cJ11_min 6 = .ok (.goto 4, 3) := dk_167 0 4 (dk_at dksJ11_min_0 6 rfl rfl)
theorem dJ11_min_9 : decode cJ11_min 9 = .ok (.iload_n 1, 1) := dk_27 (dk_at dksJ11_min_0 9 rfl rfl)
theorem dJ11_min_10 : decode cJ11_min 10 = .ok (.ireturn, 1) := dk_172 (dk_at dksJ11_min_0 10 rfl rfl)
theorem q103 : (Jvm.Cond.initialized "java/lang/Math") ∈ lw_all := lw_g (lw_at lw_m1 18 rfl) rfl
theorem q349 : (Jvm.Cond.static ({ cls := "java/lang/Math", name := "max", desc := "(II)I" } : Jvm.MethodName)) ∈ lw_all := lw_g (lw_at lw_m2 24 rfl) rfl
theorem q350 : (Jvm.Cond.code ({ cls := "java/lang/Math", name := "max", desc := "(II)I" } : Jvm.MethodName) prog_31_method_65_code (2 : Nat) (Option.some Jvm.ClassFile.FieldType.int)) ∈ lw_all := lw_g (lw_at lw_m2 25 rfl) rfl
theorem q393 : (Jvm.Cond.static ({ cls := "java/lang/Math", name := "min", desc := "(II)I" } : Jvm.MethodName)) ∈ lw_all := lw_g (lw_at lw_m2 68 rfl) rfl
theorem q394 : (Jvm.Cond.code ({ cls := "java/lang/Math", name := "min", desc := "(II)I" } : Jvm.MethodName) prog_31_method_69_code (2 : Nat) (Option.some Jvm.ClassFile.FieldType.int)) ∈ lw_all := lw_g (lw_at lw_m2 69 rfl) rfl
/-! java/util/Objects -/
set_option maxRecDepth 100000
def RJ18 : String := "java/util/Objects"
abbrev cJ18_checkIndex : ByteArray := prog_51_method_17_code
def yJ18_checkIndex : MethodName := ⟨RJ18, "checkIndex", "(II)I"⟩
def dkwJ18_checkIndex_0 : List UInt8 := [26, 27, 1, 184, 0, 105, 172]
abbrev dktJ18_checkIndex_0 : List UInt8 := dkwJ18_checkIndex_0 ++ []
theorem dksJ18_checkIndex_0 : cJ18_checkIndex.data.toList.drop 0 = dktJ18_checkIndex_0 := by decide +kernel
theorem dJ18_checkIndex_0 : decode cJ18_checkIndex 0 = .ok (.iload_n 0, 1) := dk_26 (dk_at dksJ18_checkIndex_0 0 rfl rfl)
theorem dJ18_checkIndex_1 : decode cJ18_checkIndex 1 = .ok (.iload_n 1, 1) := dk_27 (dk_at dksJ18_checkIndex_0 1 rfl rfl)
theorem dJ18_checkIndex_2 : decode cJ18_checkIndex 2 = .ok (.aconst_null, 1) := dk_1 (dk_at dksJ18_checkIndex_0 2 rfl rfl)
theorem dJ18_checkIndex_3 : decode cJ18_checkIndex 3 = .ok (.invokestatic 105, 3) := dk_184 0 105 (dk_at dksJ18_checkIndex_0 3 rfl rfl)
theorem dJ18_checkIndex_6 : decode cJ18_checkIndex 6 = .ok (.ireturn, 1) := dk_172 (dk_at dksJ18_checkIndex_0 6 rfl rfl)
theorem q112 : (Jvm.Cond.initialized "java/util/Objects") ∈ lw_all := lw_g (lw_at lw_m1 27 rfl) rfl
theorem q491 : (Jvm.Cond.static ({ cls := "java/util/Objects", name := "checkIndex", desc := "(II)I" } : Jvm.MethodName)) ∈ lw_all := lw_g (lw_at lw_m2 166 rfl) rfl
theorem q492 : (Jvm.Cond.code ({ cls := "java/util/Objects", name := "checkIndex", desc := "(II)I" } : Jvm.MethodName) prog_51_method_17_code (2 : Nat) (Option.some Jvm.ClassFile.FieldType.int)) ∈ lw_all := lw_g (lw_at lw_m2 167 rfl) rfl
theorem q493 : (Jvm.Cond.methodLink "java/util/Objects" (105 : Nat) ({ cls := "jdk/internal/util/Preconditions", name := "checkIndex", desc := "(IILjava/util/function/BiFunction;)I" } : Jvm.MethodName)) ∈ lw_all := lw_g (lw_at lw_m2 168 rfl) rfl
/-! jdk/internal/util/Preconditions -/
set_option maxRecDepth 100000
def RJ19 : String := "jdk/internal/util/Preconditions"
abbrev cJ19_checkIndex : ByteArray := prog_58_method_11_code
def yJ19_checkIndex : MethodName := ⟨RJ19, "checkIndex", "(IILjava/util/function/BiFunction;)I"⟩
def dkwJ19_checkIndex_0 : List UInt8 := [26, 155, 0, 8, 26, 27, 161, 0, 10, 44, 26, 27, 184, 0, 95, 191, 26, 172]
abbrev dktJ19_checkIndex_0 : List UInt8 := dkwJ19_checkIndex_0 ++ []
theorem dksJ19_checkIndex_0 : cJ19_checkIndex.data.toList.drop 0 = dktJ19_checkIndex_0 := by decide +kernel
theorem dJ19_checkIndex_0 : decode cJ19_checkIndex 0 = .ok (.iload_n 0, 1) := dk_26 (dk_at dksJ19_checkIndex_0 0 rfl rfl)
theorem dJ19_checkIndex_1 : decode cJ19_checkIndex 1 = .ok (.ifCond .lt 8, 3) := dk_155 0 8 (dk_at dksJ19_checkIndex_0 1 rfl rfl)
theorem dJ19_checkIndex_4 : decode cJ19_checkIndex 4 = .ok (.iload_n 0, 1) := dk_26 (dk_at dksJ19_checkIndex_0 4 rfl rfl)
theorem dJ19_checkIndex_5 : decode cJ19_checkIndex 5 = .ok (.iload_n 1, 1) := dk_27 (dk_at dksJ19_checkIndex_0 5 rfl rfl)
theorem dJ19_checkIndex_6 : decode cJ19_checkIndex 6 = .ok (.if_icmp .lt 10, 3) := dk_161 0 10 (dk_at dksJ19_checkIndex_0 6 rfl rfl)
theorem dJ19_checkIndex_9 : decode cJ19_checkIndex 9 = .ok (.aload_n 2, 1) := dk_44 (dk_at dksJ19_checkIndex_0 9 rfl rfl)
theorem dJ19_checkIndex_10 : decode cJ19_checkIndex 10 = .ok (.iload_n 0, 1) := dk_26 (dk_at dksJ19_checkIndex_0 10 rfl rfl)
theorem dJ19_checkIndex_11 : decode cJ19_checkIndex 11 = .ok (.iload_n 1, 1) := dk_27 (dk_at dksJ19_checkIndex_0 11 rfl rfl)
theorem dJ19_checkIndex_12 : decode cJ19_checkIndex 12 = .ok (.invokestatic 95, 3) := dk_184 0 95 (dk_at dksJ19_checkIndex_0 12 rfl rfl)
theorem dJ19_checkIndex_15 : decode cJ19_checkIndex 15 = .ok (.athrow, 1) := dk_191 (dk_at dksJ19_checkIndex_0 15 rfl rfl)
theorem dJ19_checkIndex_16 : decode cJ19_checkIndex 16 = .ok (.iload_n 0, 1) := dk_26 (dk_at dksJ19_checkIndex_0 16 rfl rfl)
theorem dJ19_checkIndex_17 : decode cJ19_checkIndex 17 = .ok (.ireturn, 1) := dk_172 (dk_at dksJ19_checkIndex_0 17 rfl rfl)
abbrev cJ19_checkFromToIndex : ByteArray := prog_58_method_12_code
def yJ19_checkFromToIndex : MethodName := ⟨RJ19, "checkFromToIndex", "(IIILjava/util/function/BiFunction;)I"⟩
def dkwJ19_checkFromToIndex_0 : List UInt8 := [26, 155, 0, 13, 26, 27, 163, 0, 8, 27, 28, 164, 0, 11, 45, 26, 27, 28, 184, 0, 99, 191, 26, 172]
abbrev dktJ19_checkFromToIndex_0 : List UInt8 := dkwJ19_checkFromToIndex_0 ++ []
theorem dksJ19_checkFromToIndex_0 : cJ19_checkFromToIndex.data.toList.drop 0 = dktJ19_checkFromToIndex_0 := by decide +kernel
theorem dJ19_checkFromToIndex_0 : decode cJ19_checkFromToIndex 0 = .ok (.iload_n 0, 1) := dk_26 (dk_at dksJ19_checkFromToIndex_0 0 rfl rfl)
theorem dJ19_checkFromToIndex_1 : decode cJ19_checkFromToIndex 1 = .ok (.ifCond .lt 13, 3) := dk_155 0 13 (dk_at dksJ19_checkFromToIndex_0 1 rfl rfl)
theorem dJ19_checkFromToIndex_4 : decode cJ19_checkFromToIndex 4 = .ok (.iload_n 0, 1) := dk_26 (dk_at dksJ19_checkFromToIndex_0 4 rfl rfl)
theorem dJ19_checkFromToIndex_5 : decode cJ19_checkFromToIndex 5 = .ok (.iload_n 1, 1) := dk_27 (dk_at dksJ19_checkFromToIndex_0 5 rfl rfl)
theorem dJ19_checkFromToIndex_6 : decode cJ19_checkFromToIndex 6 = .ok (.if_icmp .gt 8, 3) := dk_163 0 8 (dk_at dksJ19_checkFromToIndex_0 6 rfl rfl)
theorem dJ19_checkFromToIndex_9 : decode cJ19_checkFromToIndex 9 = .ok (.iload_n 1, 1) := dk_27 (dk_at dksJ19_checkFromToIndex_0 9 rfl rfl)
theorem dJ19_checkFromToIndex_10 : decode cJ19_checkFromToIndex 10 = .ok (.iload_n 2, 1) := dk_28 (dk_at dksJ19_checkFromToIndex_0 10 rfl rfl)
theorem dJ19_checkFromToIndex_11 : decode cJ19_checkFromToIndex 11 = .ok (.if_icmp .le 11, 3) := dk_164 0 11 (dk_at dksJ19_checkFromToIndex_0 11 rfl rfl)
theorem dJ19_checkFromToIndex_14 : decode cJ19_checkFromToIndex 14 = .ok (.aload_n 3, 1) := dk_45 (dk_at dksJ19_checkFromToIndex_0 14 rfl rfl)
theorem dJ19_checkFromToIndex_15 : decode cJ19_checkFromToIndex 15 = .ok (.iload_n 0, 1) := dk_26 (dk_at dksJ19_checkFromToIndex_0 15 rfl rfl)
theorem dJ19_checkFromToIndex_16 : decode cJ19_checkFromToIndex 16 = .ok (.iload_n 1, 1) := dk_27 (dk_at dksJ19_checkFromToIndex_0 16 rfl rfl)
theorem dJ19_checkFromToIndex_17 : decode cJ19_checkFromToIndex 17 = .ok (.iload_n 2, 1) := dk_28 (dk_at dksJ19_checkFromToIndex_0 17 rfl rfl)
theorem dJ19_checkFromToIndex_18 : decode cJ19_checkFromToIndex 18 = .ok (.invokestatic 99, 3) := dk_184 0 99 (dk_at dksJ19_checkFromToIndex_0 18 rfl rfl)
theorem dJ19_checkFromToIndex_21 : decode cJ19_checkFromToIndex 21 = .ok (.athrow, 1) := dk_191 (dk_at dksJ19_checkFromToIndex_0 21 rfl rfl)
theorem dJ19_checkFromToIndex_22 : decode cJ19_checkFromToIndex 22 = .ok (.iload_n 0, 1) := dk_26 (dk_at dksJ19_checkFromToIndex_0 22 rfl rfl)
theorem dJ19_checkFromToIndex_23 : decode cJ19_checkFromToIndex 23 = .ok (.ireturn, 1) := dk_172 (dk_at dksJ19_checkFromToIndex_0 23 rfl rfl)
abbrev cJ19_checkFromIndexSize : ByteArray := prog_58_method_13_code
def yJ19_checkFromIndexSize : MethodName := ⟨RJ19, "checkFromIndexSize", "(IIILjava/util/function/BiFunction;)I"⟩
def dkwJ19_checkFromIndexSize_1 : List UInt8 := [172]
abbrev dktJ19_checkFromIndexSize_1 : List UInt8 := dkwJ19_checkFromIndexSize_1 ++ []
def dkwJ19_checkFromIndexSize_0 : List UInt8 := [28, 26, 128, 27, 128, 155, 0, 10, 27, 28, 26, 100, 164, 0, 11, 45, 26, 27, 28, 184, 0, 103, 191, 26]
abbrev dktJ19_checkFromIndexSize_0 : List UInt8 := dkwJ19_checkFromIndexSize_0 ++ dktJ19_checkFromIndexSize_1
theorem dksJ19_checkFromIndexSize_0 : cJ19_checkFromIndexSize.data.toList.drop 0 = dktJ19_checkFromIndexSize_0 := by decide +kernel
theorem dksJ19_checkFromIndexSize_1 : cJ19_checkFromIndexSize.data.toList.drop 24 = dktJ19_checkFromIndexSize_1 := dk_seg dksJ19_checkFromIndexSize_0 24 rfl rfl
theorem dJ19_checkFromIndexSize_0 : decode cJ19_checkFromIndexSize 0 = .ok (.iload_n 2, 1) := dk_28 (dk_at dksJ19_checkFromIndexSize_0 0 rfl rfl)
theorem dJ19_checkFromIndexSize_1 : decode cJ19_checkFromIndexSize 1 = .ok (.iload_n 0, 1) := dk_26 (dk_at dksJ19_checkFromIndexSize_0 1 rfl rfl)
theorem dJ19_checkFromIndexSize_2 : decode cJ19_checkFromIndexSize 2 = .ok (.ior, 1) := dk_128 (dk_at dksJ19_checkFromIndexSize_0 2 rfl rfl)
theorem dJ19_checkFromIndexSize_3 : decode cJ19_checkFromIndexSize 3 = .ok (.iload_n 1, 1) := dk_27 (dk_at dksJ19_checkFromIndexSize_0 3 rfl rfl)
theorem dJ19_checkFromIndexSize_4 : decode cJ19_checkFromIndexSize 4 = .ok (.ior, 1) := dk_128 (dk_at dksJ19_checkFromIndexSize_0 4 rfl rfl)
theorem dJ19_checkFromIndexSize_5 : decode cJ19_checkFromIndexSize 5 = .ok (.ifCond .lt 10, 3) := dk_155 0 10 (dk_at dksJ19_checkFromIndexSize_0 5 rfl rfl)
theorem dJ19_checkFromIndexSize_8 : decode cJ19_checkFromIndexSize 8 = .ok (.iload_n 1, 1) := dk_27 (dk_at dksJ19_checkFromIndexSize_0 8 rfl rfl)
theorem dJ19_checkFromIndexSize_9 : decode cJ19_checkFromIndexSize 9 = .ok (.iload_n 2, 1) := dk_28 (dk_at dksJ19_checkFromIndexSize_0 9 rfl rfl)
theorem dJ19_checkFromIndexSize_10 : decode cJ19_checkFromIndexSize 10 = .ok (.iload_n 0, 1) := dk_26 (dk_at dksJ19_checkFromIndexSize_0 10 rfl rfl)
theorem dJ19_checkFromIndexSize_11 : decode cJ19_checkFromIndexSize 11 = .ok (.isub, 1) := dk_100 (dk_at dksJ19_checkFromIndexSize_0 11 rfl rfl)
theorem dJ19_checkFromIndexSize_12 : decode cJ19_checkFromIndexSize 12 = .ok (.if_icmp .le 11, 3) := dk_164 0 11 (dk_at dksJ19_checkFromIndexSize_0 12 rfl rfl)
theorem dJ19_checkFromIndexSize_15 : decode cJ19_checkFromIndexSize 15 = .ok (.aload_n 3, 1) := dk_45 (dk_at dksJ19_checkFromIndexSize_0 15 rfl rfl)
theorem dJ19_checkFromIndexSize_16 : decode cJ19_checkFromIndexSize 16 = .ok (.iload_n 0, 1) := dk_26 (dk_at dksJ19_checkFromIndexSize_0 16 rfl rfl)
theorem dJ19_checkFromIndexSize_17 : decode cJ19_checkFromIndexSize 17 = .ok (.iload_n 1, 1) := dk_27 (dk_at dksJ19_checkFromIndexSize_0 17 rfl rfl)
theorem dJ19_checkFromIndexSize_18 : decode cJ19_checkFromIndexSize 18 = .ok (.iload_n 2, 1) := dk_28 (dk_at dksJ19_checkFromIndexSize_0 18 rfl rfl)
theorem dJ19_checkFromIndexSize_19 : decode cJ19_checkFromIndexSize 19 = .ok (.invokestatic 103, 3) := dk_184 0 103 (dk_at dksJ19_checkFromIndexSize_0 19 rfl rfl)
theorem dJ19_checkFromIndexSize_22 : decode cJ19_checkFromIndexSize 22 = .ok (.athrow, 1) := dk_191 (dk_at dksJ19_checkFromIndexSize_0 22 rfl rfl)
theorem dJ19_checkFromIndexSize_23 : decode cJ19_checkFromIndexSize 23 = .ok (.iload_n 0, 1) := dk_26 (dk_at dksJ19_checkFromIndexSize_0 23 rfl rfl)
theorem dJ19_checkFromIndexSize_24 : decode cJ19_checkFromIndexSize 24 = .ok (.ireturn, 1) := dk_172 (dk_at dksJ19_checkFromIndexSize_1 0 rfl rfl)
theorem q113 : (Jvm.Cond.initialized "jdk/internal/util/Preconditions") ∈ lw_all := lw_g (lw_at lw_m1 28 rfl) rfl
theorem q494 : (Jvm.Cond.static ({ cls := "jdk/internal/util/Preconditions", name := "checkIndex", desc := "(IILjava/util/function/BiFunction;)I" } : Jvm.MethodName)) ∈ lw_all := lw_g (lw_at lw_m2 169 rfl) rfl
theorem q495 : (Jvm.Cond.code ({ cls := "jdk/internal/util/Preconditions", name := "checkIndex", desc := "(IILjava/util/function/BiFunction;)I" } : Jvm.MethodName) prog_58_method_11_code (3 : Nat) (Option.some Jvm.ClassFile.FieldType.int)) ∈ lw_all := lw_g (lw_at lw_m2 170 rfl) rfl
theorem q840 : (Jvm.Cond.laysStatic "jdk/internal/util/Preconditions" "SIOOBE_FORMATTER" "Ljava/util/function/BiFunction;") ∈ lw_tbl := lw_at lw_m4 35 rfl
theorem q842 : (Jvm.Cond.static ({ cls := "jdk/internal/util/Preconditions", name := "checkFromToIndex", desc := "(IIILjava/util/function/BiFunction;)I" } : Jvm.MethodName)) ∈ lw_all := lw_g (lw_at lw_m4 37 rfl) rfl
theorem q843 : (Jvm.Cond.code ({ cls := "jdk/internal/util/Preconditions", name := "checkFromToIndex", desc := "(IIILjava/util/function/BiFunction;)I" } : Jvm.MethodName) prog_58_method_12_code (4 : Nat) (Option.some Jvm.ClassFile.FieldType.int)) ∈ lw_all := lw_g (lw_at lw_m4 38 rfl) rfl
theorem q955 : (Jvm.Cond.static ({ cls := "jdk/internal/util/Preconditions", name := "checkFromIndexSize", desc := "(IIILjava/util/function/BiFunction;)I" } : Jvm.MethodName)) ∈ lw_all := lw_g (lw_at lw_m4 150 rfl) rfl
theorem q956 : (Jvm.Cond.code ({ cls := "jdk/internal/util/Preconditions", name := "checkFromIndexSize", desc := "(IIILjava/util/function/BiFunction;)I" } : Jvm.MethodName) prog_58_method_13_code (4 : Nat) (Option.some Jvm.ClassFile.FieldType.int)) ∈ lw_all := lw_g (lw_at lw_m4 151 rfl) rfl
