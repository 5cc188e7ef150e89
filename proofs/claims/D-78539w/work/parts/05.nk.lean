/-! java/lang/AbstractStringBuilder -/
set_option maxRecDepth 100000
def RJ2 : String := "java/lang/AbstractStringBuilder"
abbrev cJ2_init : ByteArray := prog_17_method_2_code
def yJ2_init : MethodName := ⟨RJ2, "<init>", "(I)V"⟩
def dkwJ2_init_1 : List UInt8 := [167, 0, 16, 42, 27, 184, 0, 26, 181, 0, 15, 42, 4, 181, 0, 22, 177]
abbrev dktJ2_init_1 : List UInt8 := dkwJ2_init_1 ++ []
def dkwJ2_init_0 : List UInt8 := [42, 183, 0, 3, 178, 0, 18, 153, 0, 18, 42, 27, 188, 8, 181, 0, 15, 42, 3, 181, 0, 22]
abbrev dktJ2_init_0 : List UInt8 := dkwJ2_init_0 ++ dktJ2_init_1
theorem dksJ2_init_0 : cJ2_init.data.toList.drop 0 = dktJ2_init_0 := by decide +kernel
theorem dksJ2_init_1 : cJ2_init.data.toList.drop 22 = dktJ2_init_1 := dk_seg dksJ2_init_0 22 rfl rfl
theorem dJ2_init_0 : decode cJ2_init 0 = .ok (.aload_n 0, 1) := dk_42 (dk_at dksJ2_init_0 0 rfl rfl)
theorem dJ2_init_1 : decode cJ2_init 1 = .ok (.invokespecial 3, 3) := dk_183 0 3 (dk_at dksJ2_init_0 1 rfl rfl)
theorem dJ2_init_4 : decode cJ2_init 4 = .ok (.getstatic 18, 3) := dk_178 0 18 (dk_at dksJ2_init_0 4 rfl rfl)
theorem dJ2_init_7 : decode cJ2_init 7 = .ok (.ifCond .eq 18, 3) := dk_153 0 18 (dk_at dksJ2_init_0 7 rfl rfl)
theorem dJ2_init_10 : decode cJ2_init 10 = .ok (.aload_n 0, 1) := dk_42 (dk_at dksJ2_init_0 10 rfl rfl)
theorem dJ2_init_11 : decode cJ2_init 11 = .ok (.iload_n 1, 1) := dk_27 (dk_at dksJ2_init_0 11 rfl rfl)
theorem dJ2_init_12 : decode cJ2_init 12 = .ok (.newarray .byte, 2) := dk_188_8 (dk_at dksJ2_init_0 12 rfl rfl)
theorem dJ2_init_14 : decode cJ2_init 14 = .ok (.putfield 15, 3) := dk_181 0 15 (dk_at dksJ2_init_0 14 rfl rfl)
theorem dJ2_init_17 : decode cJ2_init 17 = .ok (.aload_n 0, 1) := dk_42 (dk_at dksJ2_init_0 17 rfl rfl)
theorem dJ2_init_18 : decode cJ2_init 18 = .ok (.iconst 0, 1) := dk_3 (dk_at dksJ2_init_0 18 rfl rfl)
theorem dJ2_init_19 : decode cJ2_init 19 = .ok (.putfield 22, 3) := dk_181 0 22 (dk_at dksJ2_init_0 19 rfl rfl)
theorem dJ2_init_22 : decode cJ2_init 22 = .ok (.goto 16, 3) := dk_167 0 16 (dk_at dksJ2_init_1 0 rfl rfl)
theorem dJ2_init_25 : decode cJ2_init 25 = .ok (.aload_n 0, 1) := dk_42 (dk_at dksJ2_init_1 3 rfl rfl)
theorem dJ2_init_26 : decode cJ2_init 26 = .ok (.iload_n 1, 1) := dk_27 (dk_at dksJ2_init_1 4 rfl rfl)
theorem dJ2_init_27 : decode cJ2_init 27 = .ok (.invokestatic 26, 3) := dk_184 0 26 (dk_at dksJ2_init_1 5 rfl rfl)
theorem dJ2_init_30 : decode cJ2_init 30 = .ok (.putfield 15, 3) := dk_181 0 15 (dk_at dksJ2_init_1 8 rfl rfl)
theorem dJ2_init_33 : decode cJ2_init 33 = .ok (.aload_n 0, 1) := dk_42 (dk_at dksJ2_init_1 11 rfl rfl)
theorem dJ2_init_34 : decode cJ2_init 34 = .ok (.iconst 1, 1) := dk_4 (dk_at dksJ2_init_1 12 rfl rfl)
theorem dJ2_init_35 : decode cJ2_init 35 = .ok (.putfield 22, 3) := dk_181 0 22 (dk_at dksJ2_init_1 13 rfl rfl)
theorem dJ2_init_38 : decode cJ2_init 38 = .ok (.return_, 1) := dk_177 (dk_at dksJ2_init_1 16 rfl rfl)
abbrev cJ2_compareTo : ByteArray := prog_17_method_5_code
def yJ2_compareTo : MethodName := ⟨RJ2, "compareTo", "(Ljava/lang/AbstractStringBuilder;)I"⟩
def dkwJ2_compareTo_4 : List UInt8 := [184, 0, 97, 172]
abbrev dktJ2_compareTo_4 : List UInt8 := dkwJ2_compareTo_4 ++ []
def dkwJ2_compareTo_3 : List UInt8 := [182, 0, 83, 153, 0, 15, 44, 45, 21, 4, 21, 5, 184, 0, 94, 167, 0, 12, 44, 45, 21, 4, 21, 5]
abbrev dktJ2_compareTo_3 : List UInt8 := dkwJ2_compareTo_3 ++ dktJ2_compareTo_4
def dkwJ2_compareTo_2 : List UInt8 := [45, 21, 4, 21, 5, 184, 0, 87, 167, 0, 12, 44, 45, 21, 4, 21, 5, 184, 0, 93, 172, 42]
abbrev dktJ2_compareTo_2 : List UInt8 := dkwJ2_compareTo_2 ++ dktJ2_compareTo_3
def dkwJ2_compareTo_1 : List UInt8 := [180, 0, 79, 54, 5, 42, 180, 0, 22, 43, 180, 0, 22, 160, 0, 32, 42, 182, 0, 83, 153, 0, 15, 44]
abbrev dktJ2_compareTo_1 : List UInt8 := dkwJ2_compareTo_1 ++ dktJ2_compareTo_2
def dkwJ2_compareTo_0 : List UInt8 := [42, 43, 166, 0, 5, 3, 172, 42, 180, 0, 15, 77, 43, 180, 0, 15, 78, 42, 180, 0, 79, 54, 4, 43]
abbrev dktJ2_compareTo_0 : List UInt8 := dkwJ2_compareTo_0 ++ dktJ2_compareTo_1
theorem dksJ2_compareTo_0 : cJ2_compareTo.data.toList.drop 0 = dktJ2_compareTo_0 := by decide +kernel
theorem dksJ2_compareTo_1 : cJ2_compareTo.data.toList.drop 24 = dktJ2_compareTo_1 := dk_seg dksJ2_compareTo_0 24 rfl rfl
theorem dksJ2_compareTo_2 : cJ2_compareTo.data.toList.drop 48 = dktJ2_compareTo_2 := dk_seg dksJ2_compareTo_1 24 rfl rfl
theorem dksJ2_compareTo_3 : cJ2_compareTo.data.toList.drop 70 = dktJ2_compareTo_3 := dk_seg dksJ2_compareTo_2 22 rfl rfl
theorem dksJ2_compareTo_4 : cJ2_compareTo.data.toList.drop 94 = dktJ2_compareTo_4 := dk_seg dksJ2_compareTo_3 24 rfl rfl
theorem dJ2_compareTo_0 : decode cJ2_compareTo 0 = .ok (.aload_n 0, 1) := dk_42 (dk_at dksJ2_compareTo_0 0 rfl rfl)
theorem dJ2_compareTo_1 : decode cJ2_compareTo 1 = .ok (.aload_n 1, 1) := dk_43 (dk_at dksJ2_compareTo_0 1 rfl rfl)
theorem dJ2_compareTo_2 : decode cJ2_compareTo 2 = .ok (.if_acmp .ne 5, 3) := dk_166 0 5 (dk_at dksJ2_compareTo_0 2 rfl rfl)
theorem dJ2_compareTo_5 : decode cJ2_compareTo 5 = .ok (.iconst 0, 1) := dk_3 (dk_at dksJ2_compareTo_0 5 rfl rfl)
theorem dJ2_compareTo_6 : decode cJ2_compareTo 6 = .ok (.ireturn, 1) := dk_172 (dk_at dksJ2_compareTo_0 6 rfl rfl)
theorem dJ2_compareTo_7 : decode cJ2_compareTo 7 = .ok (.aload_n 0, 1) := dk_42 (dk_at dksJ2_compareTo_0 7 rfl rfl)
theorem dJ2_compareTo_8 : decode cJ2_compareTo 8 = .ok (.getfield 15, 3) := dk_180 0 15 (dk_at dksJ2_compareTo_0 8 rfl rfl)
theorem dJ2_compareTo_11 : decode cJ2_compareTo 11 = .ok (.astore_n 2, 1) := dk_77 (dk_at dksJ2_compareTo_0 11 rfl rfl)
theorem dJ2_compareTo_12 : decode cJ2_compareTo 12 = .ok (.aload_n 1, 1) := dk_43 (dk_at dksJ2_compareTo_0 12 rfl rfl)
theorem dJ2_compareTo_13 : decode cJ2_compareTo 13 = .ok (.getfield 15, 3) := dk_180 0 15 (dk_at dksJ2_compareTo_0 13 rfl rfl)
theorem dJ2_compareTo_16 : decode cJ2_compareTo 16 = .ok (.astore_n 3, 1) := dk_78 (dk_at dksJ2_compareTo_0 16 rfl rfl)
theorem dJ2_compareTo_17 : decode cJ2_compareTo 17 = .ok (.aload_n 0, 1) := dk_42 (dk_at dksJ2_compareTo_0 17 rfl rfl)
theorem dJ2_compareTo_18 : decode cJ2_compareTo 18 = .ok (.getfield 79, 3) := dk_180 0 79 (dk_at dksJ2_compareTo_0 18 rfl rfl)
theorem dJ2_compareTo_21 : decode cJ2_compareTo 21 = .ok (.istore 4, 2) := dk_54 4 (dk_at dksJ2_compareTo_0 21 rfl rfl)
theorem dJ2_compareTo_23 : decode cJ2_compareTo 23 = .ok (.aload_n 1, 1) := dk_43 (dk_at dksJ2_compareTo_0 23 rfl rfl)
theorem dJ2_compareTo_24 : decode cJ2_compareTo 24 = .ok (.getfield 79, 3) := dk_180 0 79 (dk_at dksJ2_compareTo_1 0 rfl rfl)
theorem dJ2_compareTo_27 : decode cJ2_compareTo 27 = .ok (.istore 5, 2) := dk_54 5 (dk_at dksJ2_compareTo_1 3 rfl rfl)
theorem dJ2_compareTo_29 : decode cJ2_compareTo 29 = .ok (.aload_n 0, 1) := dk_42 (dk_at dksJ2_compareTo_1 5 rfl rfl)
theorem dJ2_compareTo_30 : decode cJ2_compareTo 30 = .ok (.getfield 22, 3) := dk_180 0 22 (dk_at dksJ2_compareTo_1 6 rfl rfl)
theorem dJ2_compareTo_33 : decode cJ2_compareTo 33 = .ok (.aload_n 1, 1) := dk_43 (dk_at dksJ2_compareTo_1 9 rfl rfl)
theorem dJ2_compareTo_34 : decode cJ2_compareTo 34 = .ok (.getfield 22, 3) := dk_180 0 22 (dk_at dksJ2_compareTo_1 10 rfl rfl)
theorem dJ2_compareTo_37 : decode cJ2_compareTo 37 = .ok (.if_icmp .ne 32, 3) := dk_160 0 32 (dk_at dksJ2_compareTo_1 13 rfl rfl)
theorem dJ2_compareTo_40 : decode cJ2_compareTo 40 = .ok (.aload_n 0, 1) := dk_42 (dk_at dksJ2_compareTo_1 16 rfl rfl)
theorem dJ2_compareTo_41 : decode cJ2_compareTo 41 = .ok (.invokevirtual 83, 3) := dk_182 0 83 (dk_at dksJ2_compareTo_1 17 rfl rfl)
theorem dJ2_compareTo_44 : decode cJ2_compareTo 44 = .ok (.ifCond .eq 15, 3) := dk_153 0 15 (dk_at dksJ2_compareTo_1 20 rfl rfl)
theorem dJ2_compareTo_47 : decode cJ2_compareTo 47 = .ok (.aload_n 2, 1) := dk_44 (dk_at dksJ2_compareTo_1 23 rfl rfl)
theorem dJ2_compareTo_48 : decode cJ2_compareTo 48 = .ok (.aload_n 3, 1) := dk_45 (dk_at dksJ2_compareTo_2 0 rfl rfl)
theorem dJ2_compareTo_49 : decode cJ2_compareTo 49 = .ok (.iload 4, 2) := dk_21 4 (dk_at dksJ2_compareTo_2 1 rfl rfl)
theorem dJ2_compareTo_51 : decode cJ2_compareTo 51 = .ok (.iload 5, 2) := dk_21 5 (dk_at dksJ2_compareTo_2 3 rfl rfl)
theorem dJ2_compareTo_53 : decode cJ2_compareTo 53 = .ok (.invokestatic 87, 3) := dk_184 0 87 (dk_at dksJ2_compareTo_2 5 rfl rfl)
theorem dJ2_compareTo_56 : decode cJ2_compareTo 56 = .ok (.goto 12, 3) := dk_167 0 12 (dk_at dksJ2_compareTo_2 8 rfl rfl)
theorem dJ2_compareTo_59 : decode cJ2_compareTo 59 = .ok (.aload_n 2, 1) := dk_44 (dk_at dksJ2_compareTo_2 11 rfl rfl)
theorem dJ2_compareTo_60 : decode cJ2_compareTo 60 = .ok (.aload_n 3, 1) := dk_45 (dk_at dksJ2_compareTo_2 12 rfl rfl)
theorem dJ2_compareTo_61 : decode cJ2_compareTo 61 = .ok (.iload 4, 2) := dk_21 4 (dk_at dksJ2_compareTo_2 13 rfl rfl)
theorem dJ2_compareTo_63 : decode cJ2_compareTo 63 = .ok (.iload 5, 2) := dk_21 5 (dk_at dksJ2_compareTo_2 15 rfl rfl)
theorem dJ2_compareTo_65 : decode cJ2_compareTo 65 = .ok (.invokestatic 93, 3) := dk_184 0 93 (dk_at dksJ2_compareTo_2 17 rfl rfl)
theorem dJ2_compareTo_68 : decode cJ2_compareTo 68 = .ok (.ireturn, 1) := dk_172 (dk_at dksJ2_compareTo_2 20 rfl rfl)
theorem dJ2_compareTo_69 : decode cJ2_compareTo 69 = .ok (.aload_n 0, 1) := dk_42 (dk_at dksJ2_compareTo_2 21 rfl rfl)
theorem dJ2_compareTo_70 : decode cJ2_compareTo 70 = .ok (.invokevirtual 83, 3) := dk_182 0 83 (dk_at dksJ2_compareTo_3 0 rfl rfl)
theorem dJ2_compareTo_73 : decode cJ2_compareTo 73 = .ok (.ifCond .eq 15, 3) := dk_153 0 15 (dk_at dksJ2_compareTo_3 3 rfl rfl)
theorem dJ2_compareTo_76 : decode cJ2_compareTo 76 = .ok (.aload_n 2, 1) := dk_44 (dk_at dksJ2_compareTo_3 6 rfl rfl)
theorem dJ2_compareTo_77 : decode cJ2_compareTo 77 = .ok (.aload_n 3, 1) := dk_45 (dk_at dksJ2_compareTo_3 7 rfl rfl)
theorem dJ2_compareTo_78 : decode cJ2_compareTo 78 = .ok (.iload 4, 2) := dk_21 4 (dk_at dksJ2_compareTo_3 8 rfl rfl)
theorem dJ2_compareTo_80 : decode cJ2_compareTo 80 = .ok (.iload 5, 2) := dk_21 5 (dk_at dksJ2_compareTo_3 10 rfl rfl)
theorem dJ2_compareTo_82 : decode cJ2_compareTo 82 = .ok (.invokestatic 94, 3) := dk_184 0 94 (dk_at dksJ2_compareTo_3 12 rfl rfl)
theorem dJ2_compareTo_85 : decode cJ2_compareTo 85 = .ok (.goto 12, 3) := dk_167 0 12 (dk_at dksJ2_compareTo_3 15 rfl rfl)
theorem dJ2_compareTo_88 : decode cJ2_compareTo 88 = .ok (.aload_n 2, 1) := dk_44 (dk_at dksJ2_compareTo_3 18 rfl rfl)
theorem dJ2_compareTo_89 : decode cJ2_compareTo 89 = .ok (.aload_n 3, 1) := dk_45 (dk_at dksJ2_compareTo_3 19 rfl rfl)
theorem dJ2_compareTo_90 : decode cJ2_compareTo 90 = .ok (.iload 4, 2) := dk_21 4 (dk_at dksJ2_compareTo_3 20 rfl rfl)
theorem dJ2_compareTo_92 : decode cJ2_compareTo 92 = .ok (.iload 5, 2) := dk_21 5 (dk_at dksJ2_compareTo_3 22 rfl rfl)
theorem dJ2_compareTo_94 : decode cJ2_compareTo 94 = .ok (.invokestatic 97, 3) := dk_184 0 97 (dk_at dksJ2_compareTo_4 0 rfl rfl)
theorem dJ2_compareTo_97 : decode cJ2_compareTo 97 = .ok (.ireturn, 1) := dk_172 (dk_at dksJ2_compareTo_4 3 rfl rfl)
abbrev cJ2_isLatin1 : ByteArray := prog_17_method_68_code
def yJ2_isLatin1 : MethodName := ⟨RJ2, "isLatin1", "()Z"⟩
def dkwJ2_isLatin1_0 : List UInt8 := [178, 0, 18, 153, 0, 14, 42, 180, 0, 22, 154, 0, 7, 4, 167, 0, 4, 3, 172]
abbrev dktJ2_isLatin1_0 : List UInt8 := dkwJ2_isLatin1_0 ++ []
theorem dksJ2_isLatin1_0 : cJ2_isLatin1.data.toList.drop 0 = dktJ2_isLatin1_0 := by decide +kernel
theorem dJ2_isLatin1_0 : decode cJ2_isLatin1 0 = .ok (.getstatic 18, 3) := dk_178 0 18 (dk_at dksJ2_isLatin1_0 0 rfl rfl)
theorem dJ2_isLatin1_3 : decode cJ2_isLatin1 3 = .ok (.ifCond .eq 14, 3) := dk_153 0 14 (dk_at dksJ2_isLatin1_0 3 rfl rfl)
theorem dJ2_isLatin1_6 : decode cJ2_isLatin1 6 = .ok (.aload_n 0, 1) := dk_42 (dk_at dksJ2_isLatin1_0 6 rfl rfl)
theorem dJ2_isLatin1_7 : decode cJ2_isLatin1 7 = .ok (.getfield 22, 3) := dk_180 0 22 (dk_at dksJ2_isLatin1_0 7 rfl rfl)
theorem dJ2_isLatin1_10 : decode cJ2_isLatin1 10 = .ok (.ifCond .ne 7, 3) := dk_154 0 7 (dk_at dksJ2_isLatin1_0 10 rfl rfl)
theorem dJ2_isLatin1_13 : decode cJ2_isLatin1 13 = .ok (.iconst 1, 1) := dk_4 (dk_at dksJ2_isLatin1_0 13 rfl rfl)
theorem dJ2_isLatin1_14 : decode cJ2_isLatin1 14 = .ok (.goto 4, 3) := dk_167 0 4 (dk_at dksJ2_isLatin1_0 14 rfl rfl)
theorem dJ2_isLatin1_17 : decode cJ2_isLatin1 17 = .ok (.iconst 0, 1) := dk_3 (dk_at dksJ2_isLatin1_0 17 rfl rfl)
theorem dJ2_isLatin1_18 : decode cJ2_isLatin1 18 = .ok (.ireturn, 1) := dk_172 (dk_at dksJ2_isLatin1_0 18 rfl rfl)
abbrev cJ2_length : ByteArray := prog_17_method_6_code
def yJ2_length : MethodName := ⟨RJ2, "length", "()I"⟩
theorem dJ2_length_0 : decode cJ2_length 0 = .ok (.aload_n 0, 1) := by decide +kernel
theorem dJ2_length_1 : decode cJ2_length 1 = .ok (.getfield 79, 3) := by decide +kernel
theorem dJ2_length_4 : decode cJ2_length 4 = .ok (.ireturn, 1) := by decide +kernel
abbrev cJ2_setLength : ByteArray := prog_17_method_13_code
def yJ2_setLength : MethodName := ⟨RJ2, "setLength", "(I)V"⟩
def dkwJ2_setLength_3 : List UInt8 := [164, 0, 8, 42, 4, 181, 0, 73, 42, 27, 181, 0, 79, 177]
abbrev dktJ2_setLength_3 : List UInt8 := dkwJ2_setLength_3 ++ []
def dkwJ2_setLength_2 : List UInt8 := [167, 0, 31, 42, 180, 0, 15, 42, 180, 0, 79, 27, 184, 0, 137, 167, 0, 16, 42, 180, 0, 79, 27]
abbrev dktJ2_setLength_2 : List UInt8 := dkwJ2_setLength_2 ++ dktJ2_setLength_3
def dkwJ2_setLength_1 : List UInt8 := [162, 0, 40, 42, 182, 0, 83, 153, 0, 18, 42, 180, 0, 15, 42, 180, 0, 79, 27, 184, 0, 133]
abbrev dktJ2_setLength_1 : List UInt8 := dkwJ2_setLength_1 ++ dktJ2_setLength_2
def dkwJ2_setLength_0 : List UInt8 := [27, 156, 0, 12, 187, 0, 129, 89, 27, 183, 0, 131, 191, 42, 27, 182, 0, 100, 42, 180, 0, 79, 27]
abbrev dktJ2_setLength_0 : List UInt8 := dkwJ2_setLength_0 ++ dktJ2_setLength_1
theorem dksJ2_setLength_0 : cJ2_setLength.data.toList.drop 0 = dktJ2_setLength_0 := by decide +kernel
theorem dksJ2_setLength_1 : cJ2_setLength.data.toList.drop 23 = dktJ2_setLength_1 := dk_seg dksJ2_setLength_0 23 rfl rfl
theorem dksJ2_setLength_2 : cJ2_setLength.data.toList.drop 45 = dktJ2_setLength_2 := dk_seg dksJ2_setLength_1 22 rfl rfl
theorem dksJ2_setLength_3 : cJ2_setLength.data.toList.drop 68 = dktJ2_setLength_3 := dk_seg dksJ2_setLength_2 23 rfl rfl
theorem dJ2_setLength_0 : decode cJ2_setLength 0 = .ok (.iload_n 1, 1) := dk_27 (dk_at dksJ2_setLength_0 0 rfl rfl)
theorem dJ2_setLength_1 : decode cJ2_setLength 1 = .ok (.ifCond .ge 12, 3) := dk_156 0 12 (dk_at dksJ2_setLength_0 1 rfl rfl)
theorem dJ2_setLength_4 : decode cJ2_setLength 4 = .ok (.new 129, 3) := dk_187 0 129 (dk_at dksJ2_setLength_0 4 rfl rfl)
theorem dJ2_setLength_7 : decode cJ2_setLength 7 = .ok (.dup, 1) := dk_89 (dk_at dksJ2_setLength_0 7 rfl rfl)
theorem dJ2_setLength_8 : decode cJ2_setLength 8 = .ok (.iload_n 1, 1) := dk_27 (dk_at dksJ2_setLength_0 8 rfl rfl)
theorem dJ2_setLength_9 : decode cJ2_setLength 9 = .ok (.invokespecial 131, 3) := dk_183 0 131 (dk_at dksJ2_setLength_0 9 rfl rfl)
theorem dJ2_setLength_12 : decode cJ2_setLength 12 = .ok (.athrow, 1) := dk_191 (dk_at dksJ2_setLength_0 12 rfl rfl)
theorem dJ2_setLength_13 : decode cJ2_setLength 13 = .ok (.aload_n 0, 1) := dk_42 (dk_at dksJ2_setLength_0 13 rfl rfl)
theorem dJ2_setLength_14 : decode cJ2_setLength 14 = .ok (.iload_n 1, 1) := dk_27 (dk_at dksJ2_setLength_0 14 rfl rfl)
theorem dJ2_setLength_15 : decode cJ2_setLength 15 = .ok (.invokevirtual 100, 3) := dk_182 0 100 (dk_at dksJ2_setLength_0 15 rfl rfl)
theorem dJ2_setLength_18 : decode cJ2_setLength 18 = .ok (.aload_n 0, 1) := dk_42 (dk_at dksJ2_setLength_0 18 rfl rfl)
theorem dJ2_setLength_19 : decode cJ2_setLength 19 = .ok (.getfield 79, 3) := dk_180 0 79 (dk_at dksJ2_setLength_0 19 rfl rfl)
theorem dJ2_setLength_22 : decode cJ2_setLength 22 = .ok (.iload_n 1, 1) := dk_27 (dk_at dksJ2_setLength_0 22 rfl rfl)
theorem dJ2_setLength_23 : decode cJ2_setLength 23 = .ok (.if_icmp .ge 40, 3) := dk_162 0 40 (dk_at dksJ2_setLength_1 0 rfl rfl)
theorem dJ2_setLength_26 : decode cJ2_setLength 26 = .ok (.aload_n 0, 1) := dk_42 (dk_at dksJ2_setLength_1 3 rfl rfl)
theorem dJ2_setLength_27 : decode cJ2_setLength 27 = .ok (.invokevirtual 83, 3) := dk_182 0 83 (dk_at dksJ2_setLength_1 4 rfl rfl)
theorem dJ2_setLength_30 : decode cJ2_setLength 30 = .ok (.ifCond .eq 18, 3) := dk_153 0 18 (dk_at dksJ2_setLength_1 7 rfl rfl)
theorem dJ2_setLength_33 : decode cJ2_setLength 33 = .ok (.aload_n 0, 1) := dk_42 (dk_at dksJ2_setLength_1 10 rfl rfl)
theorem dJ2_setLength_34 : decode cJ2_setLength 34 = .ok (.getfield 15, 3) := dk_180 0 15 (dk_at dksJ2_setLength_1 11 rfl rfl)
theorem dJ2_setLength_37 : decode cJ2_setLength 37 = .ok (.aload_n 0, 1) := dk_42 (dk_at dksJ2_setLength_1 14 rfl rfl)
theorem dJ2_setLength_38 : decode cJ2_setLength 38 = .ok (.getfield 79, 3) := dk_180 0 79 (dk_at dksJ2_setLength_1 15 rfl rfl)
theorem dJ2_setLength_41 : decode cJ2_setLength 41 = .ok (.iload_n 1, 1) := dk_27 (dk_at dksJ2_setLength_1 18 rfl rfl)
theorem dJ2_setLength_42 : decode cJ2_setLength 42 = .ok (.invokestatic 133, 3) := dk_184 0 133 (dk_at dksJ2_setLength_1 19 rfl rfl)
theorem dJ2_setLength_45 : decode cJ2_setLength 45 = .ok (.goto 31, 3) := dk_167 0 31 (dk_at dksJ2_setLength_2 0 rfl rfl)
theorem dJ2_setLength_48 : decode cJ2_setLength 48 = .ok (.aload_n 0, 1) := dk_42 (dk_at dksJ2_setLength_2 3 rfl rfl)
theorem dJ2_setLength_49 : decode cJ2_setLength 49 = .ok (.getfield 15, 3) := dk_180 0 15 (dk_at dksJ2_setLength_2 4 rfl rfl)
theorem dJ2_setLength_52 : decode cJ2_setLength 52 = .ok (.aload_n 0, 1) := dk_42 (dk_at dksJ2_setLength_2 7 rfl rfl)
theorem dJ2_setLength_53 : decode cJ2_setLength 53 = .ok (.getfield 79, 3) := dk_180 0 79 (dk_at dksJ2_setLength_2 8 rfl rfl)
theorem dJ2_setLength_56 : decode cJ2_setLength 56 = .ok (.iload_n 1, 1) := dk_27 (dk_at dksJ2_setLength_2 11 rfl rfl)
theorem dJ2_setLength_57 : decode cJ2_setLength 57 = .ok (.invokestatic 137, 3) := dk_184 0 137 (dk_at dksJ2_setLength_2 12 rfl rfl)
theorem dJ2_setLength_60 : decode cJ2_setLength 60 = .ok (.goto 16, 3) := dk_167 0 16 (dk_at dksJ2_setLength_2 15 rfl rfl)
theorem dJ2_setLength_63 : decode cJ2_setLength 63 = .ok (.aload_n 0, 1) := dk_42 (dk_at dksJ2_setLength_2 18 rfl rfl)
theorem dJ2_setLength_64 : decode cJ2_setLength 64 = .ok (.getfield 79, 3) := dk_180 0 79 (dk_at dksJ2_setLength_2 19 rfl rfl)
theorem dJ2_setLength_67 : decode cJ2_setLength 67 = .ok (.iload_n 1, 1) := dk_27 (dk_at dksJ2_setLength_2 22 rfl rfl)
theorem dJ2_setLength_68 : decode cJ2_setLength 68 = .ok (.if_icmp .le 8, 3) := dk_164 0 8 (dk_at dksJ2_setLength_3 0 rfl rfl)
theorem dJ2_setLength_71 : decode cJ2_setLength 71 = .ok (.aload_n 0, 1) := dk_42 (dk_at dksJ2_setLength_3 3 rfl rfl)
theorem dJ2_setLength_72 : decode cJ2_setLength 72 = .ok (.iconst 1, 1) := dk_4 (dk_at dksJ2_setLength_3 4 rfl rfl)
theorem dJ2_setLength_73 : decode cJ2_setLength 73 = .ok (.putfield 73, 3) := dk_181 0 73 (dk_at dksJ2_setLength_3 5 rfl rfl)
theorem dJ2_setLength_76 : decode cJ2_setLength 76 = .ok (.aload_n 0, 1) := dk_42 (dk_at dksJ2_setLength_3 8 rfl rfl)
theorem dJ2_setLength_77 : decode cJ2_setLength 77 = .ok (.iload_n 1, 1) := dk_27 (dk_at dksJ2_setLength_3 9 rfl rfl)
theorem dJ2_setLength_78 : decode cJ2_setLength 78 = .ok (.putfield 79, 3) := dk_181 0 79 (dk_at dksJ2_setLength_3 10 rfl rfl)
theorem dJ2_setLength_81 : decode cJ2_setLength 81 = .ok (.return_, 1) := dk_177 (dk_at dksJ2_setLength_3 13 rfl rfl)
abbrev cJ2_append : ByteArray := prog_17_method_22_code
def yJ2_append : MethodName := ⟨RJ2, "append", "(Ljava/lang/String;)Ljava/lang/AbstractStringBuilder;"⟩
def dkwJ2_append_1 : List UInt8 := [42, 42, 180, 0, 79, 43, 182, 0, 208, 42, 89, 180, 0, 79, 28, 96, 181, 0, 79, 42, 176]
abbrev dktJ2_append_1 : List UInt8 := dkwJ2_append_1 ++ []
def dkwJ2_append_0 : List UInt8 := [43, 199, 0, 8, 42, 182, 0, 204, 176, 43, 182, 0, 32, 61, 42, 42, 180, 0, 79, 28, 96, 182, 0, 100]
abbrev dktJ2_append_0 : List UInt8 := dkwJ2_append_0 ++ dktJ2_append_1
theorem dksJ2_append_0 : cJ2_append.data.toList.drop 0 = dktJ2_append_0 := by decide +kernel
theorem dksJ2_append_1 : cJ2_append.data.toList.drop 24 = dktJ2_append_1 := dk_seg dksJ2_append_0 24 rfl rfl
theorem dJ2_append_0 : decode cJ2_append 0 = .ok (.aload_n 1, 1) := dk_43 (dk_at dksJ2_append_0 0 rfl rfl)
theorem dJ2_append_1 : decode cJ2_append 1 = .ok (.ifnonnull 8, 3) := dk_199 0 8 (dk_at dksJ2_append_0 1 rfl rfl)
theorem dJ2_append_4 : decode cJ2_append 4 = .ok (.aload_n 0, 1) := dk_42 (dk_at dksJ2_append_0 4 rfl rfl)
theorem dJ2_append_5 : decode cJ2_append 5 = .ok (.invokevirtual 204, 3) := dk_182 0 204 (dk_at dksJ2_append_0 5 rfl rfl)
theorem dJ2_append_8 : decode cJ2_append 8 = .ok (.areturn, 1) := dk_176 (dk_at dksJ2_append_0 8 rfl rfl)
theorem dJ2_append_9 : decode cJ2_append 9 = .ok (.aload_n 1, 1) := dk_43 (dk_at dksJ2_append_0 9 rfl rfl)
theorem dJ2_append_10 : decode cJ2_append 10 = .ok (.invokevirtual 32, 3) := dk_182 0 32 (dk_at dksJ2_append_0 10 rfl rfl)
theorem dJ2_append_13 : decode cJ2_append 13 = .ok (.istore_n 2, 1) := dk_61 (dk_at dksJ2_append_0 13 rfl rfl)
theorem dJ2_append_14 : decode cJ2_append 14 = .ok (.aload_n 0, 1) := dk_42 (dk_at dksJ2_append_0 14 rfl rfl)
theorem dJ2_append_15 : decode cJ2_append 15 = .ok (.aload_n 0, 1) := dk_42 (dk_at dksJ2_append_0 15 rfl rfl)
theorem dJ2_append_16 : decode cJ2_append 16 = .ok (.getfield 79, 3) := dk_180 0 79 (dk_at dksJ2_append_0 16 rfl rfl)
theorem dJ2_append_19 : decode cJ2_append 19 = .ok (.iload_n 2, 1) := dk_28 (dk_at dksJ2_append_0 19 rfl rfl)
theorem dJ2_append_20 : decode cJ2_append 20 = .ok (.iadd, 1) := dk_96 (dk_at dksJ2_append_0 20 rfl rfl)
theorem dJ2_append_21 : decode cJ2_append 21 = .ok (.invokevirtual 100, 3) := dk_182 0 100 (dk_at dksJ2_append_0 21 rfl rfl)
theorem dJ2_append_24 : decode cJ2_append 24 = .ok (.aload_n 0, 1) := dk_42 (dk_at dksJ2_append_1 0 rfl rfl)
theorem dJ2_append_25 : decode cJ2_append 25 = .ok (.aload_n 0, 1) := dk_42 (dk_at dksJ2_append_1 1 rfl rfl)
theorem dJ2_append_26 : decode cJ2_append 26 = .ok (.getfield 79, 3) := dk_180 0 79 (dk_at dksJ2_append_1 2 rfl rfl)
theorem dJ2_append_29 : decode cJ2_append 29 = .ok (.aload_n 1, 1) := dk_43 (dk_at dksJ2_append_1 5 rfl rfl)
theorem dJ2_append_30 : decode cJ2_append 30 = .ok (.invokevirtual 208, 3) := dk_182 0 208 (dk_at dksJ2_append_1 6 rfl rfl)
theorem dJ2_append_33 : decode cJ2_append 33 = .ok (.aload_n 0, 1) := dk_42 (dk_at dksJ2_append_1 9 rfl rfl)
theorem dJ2_append_34 : decode cJ2_append 34 = .ok (.dup, 1) := dk_89 (dk_at dksJ2_append_1 10 rfl rfl)
theorem dJ2_append_35 : decode cJ2_append 35 = .ok (.getfield 79, 3) := dk_180 0 79 (dk_at dksJ2_append_1 11 rfl rfl)
theorem dJ2_append_38 : decode cJ2_append 38 = .ok (.iload_n 2, 1) := dk_28 (dk_at dksJ2_append_1 14 rfl rfl)
theorem dJ2_append_39 : decode cJ2_append 39 = .ok (.iadd, 1) := dk_96 (dk_at dksJ2_append_1 15 rfl rfl)
theorem dJ2_append_40 : decode cJ2_append 40 = .ok (.putfield 79, 3) := dk_181 0 79 (dk_at dksJ2_append_1 16 rfl rfl)
theorem dJ2_append_43 : decode cJ2_append 43 = .ok (.aload_n 0, 1) := dk_42 (dk_at dksJ2_append_1 19 rfl rfl)
theorem dJ2_append_44 : decode cJ2_append 44 = .ok (.areturn, 1) := dk_176 (dk_at dksJ2_append_1 20 rfl rfl)
abbrev cJ2_appendNull : ByteArray := prog_17_method_26_code
def yJ2_appendNull : MethodName := ⟨RJ2, "appendNull", "()Ljava/lang/AbstractStringBuilder;"⟩
def dkwJ2_appendNull_3 : List UInt8 := [184, 0, 226, 60, 42, 27, 181, 0, 79, 42, 176]
abbrev dktJ2_appendNull_3 : List UInt8 := dkwJ2_appendNull_3 ++ []
def dkwJ2_appendNull_2 : List UInt8 := [16, 108, 84, 44, 27, 132, 1, 1, 16, 108, 84, 167, 0, 17, 44, 27, 16, 110, 16, 117, 16, 108, 16, 108]
abbrev dktJ2_appendNull_2 : List UInt8 := dkwJ2_appendNull_2 ++ dktJ2_appendNull_3
def dkwJ2_appendNull_1 : List UInt8 := [153, 0, 38, 44, 27, 132, 1, 1, 16, 110, 84, 44, 27, 132, 1, 1, 16, 117, 84, 44, 27, 132, 1, 1]
abbrev dktJ2_appendNull_1 : List UInt8 := dkwJ2_appendNull_1 ++ dktJ2_appendNull_2
def dkwJ2_appendNull_0 : List UInt8 := [42, 42, 180, 0, 79, 7, 96, 182, 0, 100, 42, 180, 0, 79, 60, 42, 180, 0, 15, 77, 42, 182, 0, 83]
abbrev dktJ2_appendNull_0 : List UInt8 := dkwJ2_appendNull_0 ++ dktJ2_appendNull_1
theorem dksJ2_appendNull_0 : cJ2_appendNull.data.toList.drop 0 = dktJ2_appendNull_0 := by decide +kernel
theorem dksJ2_appendNull_1 : cJ2_appendNull.data.toList.drop 24 = dktJ2_appendNull_1 := dk_seg dksJ2_appendNull_0 24 rfl rfl
theorem dksJ2_appendNull_2 : cJ2_appendNull.data.toList.drop 48 = dktJ2_appendNull_2 := dk_seg dksJ2_appendNull_1 24 rfl rfl
theorem dksJ2_appendNull_3 : cJ2_appendNull.data.toList.drop 72 = dktJ2_appendNull_3 := dk_seg dksJ2_appendNull_2 24 rfl rfl
theorem dJ2_appendNull_0 : decode cJ2_appendNull 0 = .ok (.aload_n 0, 1) := dk_42 (dk_at dksJ2_appendNull_0 0 rfl rfl)
theorem dJ2_appendNull_1 : decode cJ2_appendNull 1 = .ok (.aload_n 0, 1) := dk_42 (dk_at dksJ2_appendNull_0 1 rfl rfl)
theorem dJ2_appendNull_2 : decode cJ2_appendNull 2 = .ok (.getfield 79, 3) := dk_180 0 79 (dk_at dksJ2_appendNull_0 2 rfl rfl)
theorem dJ2_appendNull_5 : decode cJ2_appendNull 5 = .ok (.iconst 4, 1) := dk_7 (dk_at dksJ2_appendNull_0 5 rfl rfl)
theorem dJ2_appendNull_6 : decode cJ2_appendNull 6 = .ok (.iadd, 1) := dk_96 (dk_at dksJ2_appendNull_0 6 rfl rfl)
theorem dJ2_appendNull_7 : decode cJ2_appendNull 7 = .ok (.invokevirtual 100, 3) := dk_182 0 100 (dk_at dksJ2_appendNull_0 7 rfl rfl)
theorem dJ2_appendNull_10 : decode cJ2_appendNull 10 = .ok (.aload_n 0, 1) := dk_42 (dk_at dksJ2_appendNull_0 10 rfl rfl)
theorem dJ2_appendNull_11 : decode cJ2_appendNull 11 = .ok (.getfield 79, 3) := dk_180 0 79 (dk_at dksJ2_appendNull_0 11 rfl rfl)
theorem dJ2_appendNull_14 : decode cJ2_appendNull 14 = .ok (.istore_n 1, 1) := dk_60 (dk_at dksJ2_appendNull_0 14 rfl rfl)
theorem dJ2_appendNull_15 : decode cJ2_appendNull 15 = .ok (.aload_n 0, 1) := dk_42 (dk_at dksJ2_appendNull_0 15 rfl rfl)
theorem dJ2_appendNull_16 : decode cJ2_appendNull 16 = .ok (.getfield 15, 3) := dk_180 0 15 (dk_at dksJ2_appendNull_0 16 rfl rfl)
theorem dJ2_appendNull_19 : decode cJ2_appendNull 19 = .ok (.astore_n 2, 1) := dk_77 (dk_at dksJ2_appendNull_0 19 rfl rfl)
theorem dJ2_appendNull_20 : decode cJ2_appendNull 20 = .ok (.aload_n 0, 1) := dk_42 (dk_at dksJ2_appendNull_0 20 rfl rfl)
theorem dJ2_appendNull_21 : decode cJ2_appendNull 21 = .ok (.invokevirtual 83, 3) := dk_182 0 83 (dk_at dksJ2_appendNull_0 21 rfl rfl)
theorem dJ2_appendNull_24 : decode cJ2_appendNull 24 = .ok (.ifCond .eq 38, 3) := dk_153 0 38 (dk_at dksJ2_appendNull_1 0 rfl rfl)
theorem dJ2_appendNull_27 : decode cJ2_appendNull 27 = .ok (.aload_n 2, 1) := dk_44 (dk_at dksJ2_appendNull_1 3 rfl rfl)
theorem dJ2_appendNull_28 : decode cJ2_appendNull 28 = .ok (.iload_n 1, 1) := dk_27 (dk_at dksJ2_appendNull_1 4 rfl rfl)
theorem dJ2_appendNull_29 : decode cJ2_appendNull 29 = .ok (.iinc 1 1, 3) := dk_132 1 1 (dk_at dksJ2_appendNull_1 5 rfl rfl)
theorem dJ2_appendNull_32 : decode cJ2_appendNull 32 = .ok (.bipush 110, 2) := dk_16 110 (dk_at dksJ2_appendNull_1 8 rfl rfl)
theorem dJ2_appendNull_34 : decode cJ2_appendNull 34 = .ok (.bastore, 1) := dk_84 (dk_at dksJ2_appendNull_1 10 rfl rfl)
theorem dJ2_appendNull_35 : decode cJ2_appendNull 35 = .ok (.aload_n 2, 1) := dk_44 (dk_at dksJ2_appendNull_1 11 rfl rfl)
theorem dJ2_appendNull_36 : decode cJ2_appendNull 36 = .ok (.iload_n 1, 1) := dk_27 (dk_at dksJ2_appendNull_1 12 rfl rfl)
theorem dJ2_appendNull_37 : decode cJ2_appendNull 37 = .ok (.iinc 1 1, 3) := dk_132 1 1 (dk_at dksJ2_appendNull_1 13 rfl rfl)
theorem dJ2_appendNull_40 : decode cJ2_appendNull 40 = .ok (.bipush 117, 2) := dk_16 117 (dk_at dksJ2_appendNull_1 16 rfl rfl)
theorem dJ2_appendNull_42 : decode cJ2_appendNull 42 = .ok (.bastore, 1) := dk_84 (dk_at dksJ2_appendNull_1 18 rfl rfl)
theorem dJ2_appendNull_43 : decode cJ2_appendNull 43 = .ok (.aload_n 2, 1) := dk_44 (dk_at dksJ2_appendNull_1 19 rfl rfl)
theorem dJ2_appendNull_44 : decode cJ2_appendNull 44 = .ok (.iload_n 1, 1) := dk_27 (dk_at dksJ2_appendNull_1 20 rfl rfl)
theorem dJ2_appendNull_45 : decode cJ2_appendNull 45 = .ok (.iinc 1 1, 3) := dk_132 1 1 (dk_at dksJ2_appendNull_1 21 rfl rfl)
theorem dJ2_appendNull_48 : decode cJ2_appendNull 48 = .ok (.bipush 108, 2) := dk_16 108 (dk_at dksJ2_appendNull_2 0 rfl rfl)
theorem dJ2_appendNull_50 : decode cJ2_appendNull 50 = .ok (.bastore, 1) := dk_84 (dk_at dksJ2_appendNull_2 2 rfl rfl)
theorem dJ2_appendNull_51 : decode cJ2_appendNull 51 = .ok (.aload_n 2, 1) := dk_44 (dk_at dksJ2_appendNull_2 3 rfl rfl)
theorem dJ2_appendNull_52 : decode cJ2_appendNull 52 = .ok (.iload_n 1, 1) := dk_27 (dk_at dksJ2_appendNull_2 4 rfl rfl)
theorem dJ2_appendNull_53 : decode cJ2_appendNull 53 = .ok (.iinc 1 1, 3) := dk_132 1 1 (dk_at dksJ2_appendNull_2 5 rfl rfl)
theorem dJ2_appendNull_56 : decode cJ2_appendNull 56 = .ok (.bipush 108, 2) := dk_16 108 (dk_at dksJ2_appendNull_2 8 rfl rfl)
theorem dJ2_appendNull_58 : decode cJ2_appendNull 58 = .ok (.bastore, 1) := dk_84 (dk_at dksJ2_appendNull_2 10 rfl rfl)
theorem dJ2_appendNull_59 : decode cJ2_appendNull 59 = .ok (.goto 17, 3) := dk_167 0 17 (dk_at dksJ2_appendNull_2 11 rfl rfl)
theorem dJ2_appendNull_62 : decode cJ2_appendNull 62 = .ok (.aload_n 2, 1) := dk_44 (dk_at dksJ2_appendNull_2 14 rfl rfl)
theorem dJ2_appendNull_63 : decode cJ2_appendNull 63 = .ok (.iload_n 1, 1) := dk_27 (dk_at dksJ2_appendNull_2 15 rfl rfl)
theorem dJ2_appendNull_64 : decode cJ2_appendNull 64 = .ok (.bipush 110, 2) := dk_16 110 (dk_at dksJ2_appendNull_2 16 rfl rfl)
theorem dJ2_appendNull_66 : decode cJ2_appendNull 66 = .ok (.bipush 117, 2) := dk_16 117 (dk_at dksJ2_appendNull_2 18 rfl rfl)
theorem dJ2_appendNull_68 : decode cJ2_appendNull 68 = .ok (.bipush 108, 2) := dk_16 108 (dk_at dksJ2_appendNull_2 20 rfl rfl)
theorem dJ2_appendNull_70 : decode cJ2_appendNull 70 = .ok (.bipush 108, 2) := dk_16 108 (dk_at dksJ2_appendNull_2 22 rfl rfl)
theorem dJ2_appendNull_72 : decode cJ2_appendNull 72 = .ok (.invokestatic 226, 3) := dk_184 0 226 (dk_at dksJ2_appendNull_3 0 rfl rfl)
theorem dJ2_appendNull_75 : decode cJ2_appendNull 75 = .ok (.istore_n 1, 1) := dk_60 (dk_at dksJ2_appendNull_3 3 rfl rfl)
theorem dJ2_appendNull_76 : decode cJ2_appendNull 76 = .ok (.aload_n 0, 1) := dk_42 (dk_at dksJ2_appendNull_3 4 rfl rfl)
theorem dJ2_appendNull_77 : decode cJ2_appendNull 77 = .ok (.iload_n 1, 1) := dk_27 (dk_at dksJ2_appendNull_3 5 rfl rfl)
theorem dJ2_appendNull_78 : decode cJ2_appendNull 78 = .ok (.putfield 79, 3) := dk_181 0 79 (dk_at dksJ2_appendNull_3 6 rfl rfl)
theorem dJ2_appendNull_81 : decode cJ2_appendNull 81 = .ok (.aload_n 0, 1) := dk_42 (dk_at dksJ2_appendNull_3 9 rfl rfl)
theorem dJ2_appendNull_82 : decode cJ2_appendNull 82 = .ok (.areturn, 1) := dk_176 (dk_at dksJ2_appendNull_3 10 rfl rfl)
abbrev cJ2_ensureCapacityInternal : ByteArray := prog_17_method_9_code
def yJ2_ensureCapacityInternal : MethodName := ⟨RJ2, "ensureCapacityInternal", "(I)V"⟩
def dkwJ2_ensureCapacityInternal_1 : List UInt8 := [182, 0, 104, 42, 180, 0, 22, 120, 184, 0, 108, 181, 0, 15, 177]
abbrev dktJ2_ensureCapacityInternal_1 : List UInt8 := dkwJ2_ensureCapacityInternal_1 ++ []
def dkwJ2_ensureCapacityInternal_0 : List UInt8 := [42, 180, 0, 15, 190, 42, 180, 0, 22, 122, 61, 27, 28, 100, 158, 0, 24, 42, 42, 180, 0, 15, 42, 27]
abbrev dktJ2_ensureCapacityInternal_0 : List UInt8 := dkwJ2_ensureCapacityInternal_0 ++ dktJ2_ensureCapacityInternal_1
theorem dksJ2_ensureCapacityInternal_0 : cJ2_ensureCapacityInternal.data.toList.drop 0 = dktJ2_ensureCapacityInternal_0 := by decide +kernel
theorem dksJ2_ensureCapacityInternal_1 : cJ2_ensureCapacityInternal.data.toList.drop 24 = dktJ2_ensureCapacityInternal_1 := dk_seg dksJ2_ensureCapacityInternal_0 24 rfl rfl
theorem dJ2_ensureCapacityInternal_0 : decode cJ2_ensureCapacityInternal 0 = .ok (.aload_n 0, 1) := dk_42 (dk_at dksJ2_ensureCapacityInternal_0 0 rfl rfl)
theorem dJ2_ensureCapacityInternal_1 : decode cJ2_ensureCapacityInternal 1 = .ok (.getfield 15, 3) := dk_180 0 15 (dk_at dksJ2_ensureCapacityInternal_0 1 rfl rfl)
theorem dJ2_ensureCapacityInternal_4 : decode cJ2_ensureCapacityInternal 4 = .ok (.arraylength, 1) := dk_190 (dk_at dksJ2_ensureCapacityInternal_0 4 rfl rfl)
theorem dJ2_ensureCapacityInternal_5 : decode cJ2_ensureCapacityInternal 5 = .ok (.aload_n 0, 1) := dk_42 (dk_at dksJ2_ensureCapacityInternal_0 5 rfl rfl)
theorem dJ2_ensureCapacityInternal_6 : decode cJ2_ensureCapacityInternal 6 = .ok (.getfield 22, 3) := dk_180 0 22 (dk_at dksJ2_ensureCapacityInternal_0 6 rfl rfl)
theorem dJ2_ensureCapacityInternal_9 : decode cJ2_ensureCapacityInternal 9 = .ok (.ishr, 1) := dk_122 (dk_at dksJ2_ensureCapacityInternal_0 9 rfl rfl)
theorem dJ2_ensureCapacityInternal_10 : decode cJ2_ensureCapacityInternal 10 = .ok (.istore_n 2, 1) := dk_61 (dk_at dksJ2_ensureCapacityInternal_0 10 rfl rfl)
theorem dJ2_ensureCapacityInternal_11 : decode cJ2_ensureCapacityInternal 11 = .ok (.iload_n 1, 1) := dk_27 (dk_at dksJ2_ensureCapacityInternal_0 11 rfl rfl)
theorem dJ2_ensureCapacityInternal_12 : decode cJ2_ensureCapacityInternal 12 = .ok (.iload_n 2, 1) := dk_28 (dk_at dksJ2_ensureCapacityInternal_0 12 rfl rfl)
theorem dJ2_ensureCapacityInternal_13 : decode cJ2_ensureCapacityInternal 13 = .ok (.isub, 1) := dk_100 (dk_at dksJ2_ensureCapacityInternal_0 13 rfl rfl)
theorem dJ2_ensureCapacityInternal_14 : decode cJ2_ensureCapacityInternal 14 = .ok (.ifCond .le 24, 3) := dk_158 0 24 (dk_at dksJ2_ensureCapacityInternal_0 14 rfl rfl)
theorem dJ2_ensureCapacityInternal_17 : decode cJ2_ensureCapacityInternal 17 = .ok (.aload_n 0, 1) := dk_42 (dk_at dksJ2_ensureCapacityInternal_0 17 rfl rfl)
theorem dJ2_ensureCapacityInternal_18 : decode cJ2_ensureCapacityInternal 18 = .ok (.aload_n 0, 1) := dk_42 (dk_at dksJ2_ensureCapacityInternal_0 18 rfl rfl)
theorem dJ2_ensureCapacityInternal_19 : decode cJ2_ensureCapacityInternal 19 = .ok (.getfield 15, 3) := dk_180 0 15 (dk_at dksJ2_ensureCapacityInternal_0 19 rfl rfl)
theorem dJ2_ensureCapacityInternal_22 : decode cJ2_ensureCapacityInternal 22 = .ok (.aload_n 0, 1) := dk_42 (dk_at dksJ2_ensureCapacityInternal_0 22 rfl rfl)
theorem dJ2_ensureCapacityInternal_23 : decode cJ2_ensureCapacityInternal 23 = .ok (.iload_n 1, 1) := dk_27 (dk_at dksJ2_ensureCapacityInternal_0 23 rfl rfl)
theorem dJ2_ensureCapacityInternal_24 : decode cJ2_ensureCapacityInternal 24 = .ok (.invokevirtual 104, 3) := dk_182 0 104 (dk_at dksJ2_ensureCapacityInternal_1 0 rfl rfl)
theorem dJ2_ensureCapacityInternal_27 : decode cJ2_ensureCapacityInternal 27 = .ok (.aload_n 0, 1) := dk_42 (dk_at dksJ2_ensureCapacityInternal_1 3 rfl rfl)
theorem dJ2_ensureCapacityInternal_28 : decode cJ2_ensureCapacityInternal 28 = .ok (.getfield 22, 3) := dk_180 0 22 (dk_at dksJ2_ensureCapacityInternal_1 4 rfl rfl)
theorem dJ2_ensureCapacityInternal_31 : decode cJ2_ensureCapacityInternal 31 = .ok (.ishl, 1) := dk_120 (dk_at dksJ2_ensureCapacityInternal_1 7 rfl rfl)
theorem dJ2_ensureCapacityInternal_32 : decode cJ2_ensureCapacityInternal 32 = .ok (.invokestatic 108, 3) := dk_184 0 108 (dk_at dksJ2_ensureCapacityInternal_1 8 rfl rfl)
theorem dJ2_ensureCapacityInternal_35 : decode cJ2_ensureCapacityInternal 35 = .ok (.putfield 15, 3) := dk_181 0 15 (dk_at dksJ2_ensureCapacityInternal_1 11 rfl rfl)
theorem dJ2_ensureCapacityInternal_38 : decode cJ2_ensureCapacityInternal 38 = .ok (.return_, 1) := dk_177 (dk_at dksJ2_ensureCapacityInternal_1 14 rfl rfl)
abbrev cJ2_newCapacity : ByteArray := prog_17_method_10_code
def yJ2_newCapacity : MethodName := ⟨RJ2, "newCapacity", "(I)I"⟩
def dkwJ2_newCapacity_2 : List UInt8 := [183, 0, 124, 191, 21, 5, 42, 180, 0, 22, 122, 172]
abbrev dktJ2_newCapacity_2 : List UInt8 := dkwJ2_newCapacity_2 ++ []
def dkwJ2_newCapacity_1 : List UInt8 := [180, 0, 22, 120, 96, 184, 0, 114, 54, 5, 21, 5, 18, 39, 160, 0, 13, 187, 0, 120, 89, 18, 122]
abbrev dktJ2_newCapacity_1 : List UInt8 := dkwJ2_newCapacity_1 ++ dktJ2_newCapacity_2
def dkwJ2_newCapacity_0 : List UInt8 := [42, 180, 0, 15, 190, 61, 27, 42, 180, 0, 22, 120, 62, 29, 28, 100, 54, 4, 28, 21, 4, 28, 5, 42]
abbrev dktJ2_newCapacity_0 : List UInt8 := dkwJ2_newCapacity_0 ++ dktJ2_newCapacity_1
theorem dksJ2_newCapacity_0 : cJ2_newCapacity.data.toList.drop 0 = dktJ2_newCapacity_0 := by decide +kernel
theorem dksJ2_newCapacity_1 : cJ2_newCapacity.data.toList.drop 24 = dktJ2_newCapacity_1 := dk_seg dksJ2_newCapacity_0 24 rfl rfl
theorem dksJ2_newCapacity_2 : cJ2_newCapacity.data.toList.drop 47 = dktJ2_newCapacity_2 := dk_seg dksJ2_newCapacity_1 23 rfl rfl
theorem dJ2_newCapacity_0 : decode cJ2_newCapacity 0 = .ok (.aload_n 0, 1) := dk_42 (dk_at dksJ2_newCapacity_0 0 rfl rfl)
theorem dJ2_newCapacity_1 : decode cJ2_newCapacity 1 = .ok (.getfield 15, 3) := dk_180 0 15 (dk_at dksJ2_newCapacity_0 1 rfl rfl)
theorem dJ2_newCapacity_4 : decode cJ2_newCapacity 4 = .ok (.arraylength, 1) := dk_190 (dk_at dksJ2_newCapacity_0 4 rfl rfl)
theorem dJ2_newCapacity_5 : decode cJ2_newCapacity 5 = .ok (.istore_n 2, 1) := dk_61 (dk_at dksJ2_newCapacity_0 5 rfl rfl)
theorem dJ2_newCapacity_6 : decode cJ2_newCapacity 6 = .ok (.iload_n 1, 1) := dk_27 (dk_at dksJ2_newCapacity_0 6 rfl rfl)
theorem dJ2_newCapacity_7 : decode cJ2_newCapacity 7 = .ok (.aload_n 0, 1) := dk_42 (dk_at dksJ2_newCapacity_0 7 rfl rfl)
theorem dJ2_newCapacity_8 : decode cJ2_newCapacity 8 = .ok (.getfield 22, 3) := dk_180 0 22 (dk_at dksJ2_newCapacity_0 8 rfl rfl)
theorem dJ2_newCapacity_11 : decode cJ2_newCapacity 11 = .ok (.ishl, 1) := dk_120 (dk_at dksJ2_newCapacity_0 11 rfl rfl)
theorem dJ2_newCapacity_12 : decode cJ2_newCapacity 12 = .ok (.istore_n 3, 1) := dk_62 (dk_at dksJ2_newCapacity_0 12 rfl rfl)
theorem dJ2_newCapacity_13 : decode cJ2_newCapacity 13 = .ok (.iload_n 3, 1) := dk_29 (dk_at dksJ2_newCapacity_0 13 rfl rfl)
theorem dJ2_newCapacity_14 : decode cJ2_newCapacity 14 = .ok (.iload_n 2, 1) := dk_28 (dk_at dksJ2_newCapacity_0 14 rfl rfl)
theorem dJ2_newCapacity_15 : decode cJ2_newCapacity 15 = .ok (.isub, 1) := dk_100 (dk_at dksJ2_newCapacity_0 15 rfl rfl)
theorem dJ2_newCapacity_16 : decode cJ2_newCapacity 16 = .ok (.istore 4, 2) := dk_54 4 (dk_at dksJ2_newCapacity_0 16 rfl rfl)
theorem dJ2_newCapacity_18 : decode cJ2_newCapacity 18 = .ok (.iload_n 2, 1) := dk_28 (dk_at dksJ2_newCapacity_0 18 rfl rfl)
theorem dJ2_newCapacity_19 : decode cJ2_newCapacity 19 = .ok (.iload 4, 2) := dk_21 4 (dk_at dksJ2_newCapacity_0 19 rfl rfl)
theorem dJ2_newCapacity_21 : decode cJ2_newCapacity 21 = .ok (.iload_n 2, 1) := dk_28 (dk_at dksJ2_newCapacity_0 21 rfl rfl)
theorem dJ2_newCapacity_22 : decode cJ2_newCapacity 22 = .ok (.iconst 2, 1) := dk_5 (dk_at dksJ2_newCapacity_0 22 rfl rfl)
theorem dJ2_newCapacity_23 : decode cJ2_newCapacity 23 = .ok (.aload_n 0, 1) := dk_42 (dk_at dksJ2_newCapacity_0 23 rfl rfl)
theorem dJ2_newCapacity_24 : decode cJ2_newCapacity 24 = .ok (.getfield 22, 3) := dk_180 0 22 (dk_at dksJ2_newCapacity_1 0 rfl rfl)
theorem dJ2_newCapacity_27 : decode cJ2_newCapacity 27 = .ok (.ishl, 1) := dk_120 (dk_at dksJ2_newCapacity_1 3 rfl rfl)
theorem dJ2_newCapacity_28 : decode cJ2_newCapacity 28 = .ok (.iadd, 1) := dk_96 (dk_at dksJ2_newCapacity_1 4 rfl rfl)
theorem dJ2_newCapacity_29 : decode cJ2_newCapacity 29 = .ok (.invokestatic 114, 3) := dk_184 0 114 (dk_at dksJ2_newCapacity_1 5 rfl rfl)
theorem dJ2_newCapacity_32 : decode cJ2_newCapacity 32 = .ok (.istore 5, 2) := dk_54 5 (dk_at dksJ2_newCapacity_1 8 rfl rfl)
theorem dJ2_newCapacity_34 : decode cJ2_newCapacity 34 = .ok (.iload 5, 2) := dk_21 5 (dk_at dksJ2_newCapacity_1 10 rfl rfl)
theorem dJ2_newCapacity_36 : decode cJ2_newCapacity 36 = .ok (.ldc 39, 2) := dk_18 39 (dk_at dksJ2_newCapacity_1 12 rfl rfl)
theorem dJ2_newCapacity_38 : decode cJ2_newCapacity 38 = .ok (.if_icmp .ne 13, 3) := dk_160 0 13 (dk_at dksJ2_newCapacity_1 14 rfl rfl)
theorem dJ2_newCapacity_41 : decode cJ2_newCapacity 41 = .ok (.new 120, 3) := dk_187 0 120 (dk_at dksJ2_newCapacity_1 17 rfl rfl)
theorem dJ2_newCapacity_44 : decode cJ2_newCapacity 44 = .ok (.dup, 1) := dk_89 (dk_at dksJ2_newCapacity_1 20 rfl rfl)
theorem dJ2_newCapacity_45 : decode cJ2_newCapacity 45 = .ok (.ldc 122, 2) := dk_18 122 (dk_at dksJ2_newCapacity_1 21 rfl rfl)
theorem dJ2_newCapacity_47 : decode cJ2_newCapacity 47 = .ok (.invokespecial 124, 3) := dk_183 0 124 (dk_at dksJ2_newCapacity_2 0 rfl rfl)
theorem dJ2_newCapacity_50 : decode cJ2_newCapacity 50 = .ok (.athrow, 1) := dk_191 (dk_at dksJ2_newCapacity_2 3 rfl rfl)
theorem dJ2_newCapacity_51 : decode cJ2_newCapacity 51 = .ok (.iload 5, 2) := dk_21 5 (dk_at dksJ2_newCapacity_2 4 rfl rfl)
theorem dJ2_newCapacity_53 : decode cJ2_newCapacity 53 = .ok (.aload_n 0, 1) := dk_42 (dk_at dksJ2_newCapacity_2 6 rfl rfl)
theorem dJ2_newCapacity_54 : decode cJ2_newCapacity 54 = .ok (.getfield 22, 3) := dk_180 0 22 (dk_at dksJ2_newCapacity_2 7 rfl rfl)
theorem dJ2_newCapacity_57 : decode cJ2_newCapacity 57 = .ok (.ishr, 1) := dk_122 (dk_at dksJ2_newCapacity_2 10 rfl rfl)
theorem dJ2_newCapacity_58 : decode cJ2_newCapacity 58 = .ok (.ireturn, 1) := dk_172 (dk_at dksJ2_newCapacity_2 11 rfl rfl)
abbrev cJ2_putStringAt : ByteArray := prog_17_method_73_code
def yJ2_putStringAt : MethodName := ⟨RJ2, "putStringAt", "(ILjava/lang/String;)V"⟩
def dkwJ2_putStringAt_0 : List UInt8 := [42, 44, 182, 1, 141, 44, 42, 180, 0, 15, 27, 42, 180, 0, 22, 182, 1, 143, 177]
abbrev dktJ2_putStringAt_0 : List UInt8 := dkwJ2_putStringAt_0 ++ []
theorem dksJ2_putStringAt_0 : cJ2_putStringAt.data.toList.drop 0 = dktJ2_putStringAt_0 := by decide +kernel
theorem dJ2_putStringAt_0 : decode cJ2_putStringAt 0 = .ok (.aload_n 0, 1) := dk_42 (dk_at dksJ2_putStringAt_0 0 rfl rfl)
theorem dJ2_putStringAt_1 : decode cJ2_putStringAt 1 = .ok (.aload_n 2, 1) := dk_44 (dk_at dksJ2_putStringAt_0 1 rfl rfl)
theorem dJ2_putStringAt_2 : decode cJ2_putStringAt 2 = .ok (.invokevirtual 397, 3) := dk_182 1 141 (dk_at dksJ2_putStringAt_0 2 rfl rfl)
theorem dJ2_putStringAt_5 : decode cJ2_putStringAt 5 = .ok (.aload_n 2, 1) := dk_44 (dk_at dksJ2_putStringAt_0 5 rfl rfl)
theorem dJ2_putStringAt_6 : decode cJ2_putStringAt 6 = .ok (.aload_n 0, 1) := dk_42 (dk_at dksJ2_putStringAt_0 6 rfl rfl)
theorem dJ2_putStringAt_7 : decode cJ2_putStringAt 7 = .ok (.getfield 15, 3) := dk_180 0 15 (dk_at dksJ2_putStringAt_0 7 rfl rfl)
theorem dJ2_putStringAt_10 : decode cJ2_putStringAt 10 = .ok (.iload_n 1, 1) := dk_27 (dk_at dksJ2_putStringAt_0 10 rfl rfl)
theorem dJ2_putStringAt_11 : decode cJ2_putStringAt 11 = .ok (.aload_n 0, 1) := dk_42 (dk_at dksJ2_putStringAt_0 11 rfl rfl)
theorem dJ2_putStringAt_12 : decode cJ2_putStringAt 12 = .ok (.getfield 22, 3) := dk_180 0 22 (dk_at dksJ2_putStringAt_0 12 rfl rfl)
theorem dJ2_putStringAt_15 : decode cJ2_putStringAt 15 = .ok (.invokevirtual 399, 3) := dk_182 1 143 (dk_at dksJ2_putStringAt_0 15 rfl rfl)
theorem dJ2_putStringAt_18 : decode cJ2_putStringAt 18 = .ok (.return_, 1) := dk_177 (dk_at dksJ2_putStringAt_0 18 rfl rfl)
abbrev cJ2_inflateIfNeededFor : ByteArray := prog_17_method_71_code
def yJ2_inflateIfNeededFor : MethodName := ⟨RJ2, "inflateIfNeededFor", "(Ljava/lang/String;)V"⟩
def dkwJ2_inflateIfNeededFor_0 : List UInt8 := [178, 0, 18, 153, 0, 18, 42, 180, 0, 22, 43, 182, 0, 40, 159, 0, 7, 42, 182, 0, 195, 177]
abbrev dktJ2_inflateIfNeededFor_0 : List UInt8 := dkwJ2_inflateIfNeededFor_0 ++ []
theorem dksJ2_inflateIfNeededFor_0 : cJ2_inflateIfNeededFor.data.toList.drop 0 = dktJ2_inflateIfNeededFor_0 := by decide +kernel
theorem dJ2_inflateIfNeededFor_0 : decode cJ2_inflateIfNeededFor 0 = .ok (.getstatic 18, 3) := dk_178 0 18 (dk_at dksJ2_inflateIfNeededFor_0 0 rfl rfl)
theorem dJ2_inflateIfNeededFor_3 : decode cJ2_inflateIfNeededFor 3 = .ok (.ifCond .eq 18, 3) := dk_153 0 18 (dk_at dksJ2_inflateIfNeededFor_0 3 rfl rfl)
theorem dJ2_inflateIfNeededFor_6 : decode cJ2_inflateIfNeededFor 6 = .ok (.aload_n 0, 1) := dk_42 (dk_at dksJ2_inflateIfNeededFor_0 6 rfl rfl)
theorem dJ2_inflateIfNeededFor_7 : decode cJ2_inflateIfNeededFor 7 = .ok (.getfield 22, 3) := dk_180 0 22 (dk_at dksJ2_inflateIfNeededFor_0 7 rfl rfl)
theorem dJ2_inflateIfNeededFor_10 : decode cJ2_inflateIfNeededFor 10 = .ok (.aload_n 1, 1) := dk_43 (dk_at dksJ2_inflateIfNeededFor_0 10 rfl rfl)
theorem dJ2_inflateIfNeededFor_11 : decode cJ2_inflateIfNeededFor 11 = .ok (.invokevirtual 40, 3) := dk_182 0 40 (dk_at dksJ2_inflateIfNeededFor_0 11 rfl rfl)
theorem dJ2_inflateIfNeededFor_14 : decode cJ2_inflateIfNeededFor 14 = .ok (.if_icmp .eq 7, 3) := dk_159 0 7 (dk_at dksJ2_inflateIfNeededFor_0 14 rfl rfl)
theorem dJ2_inflateIfNeededFor_17 : decode cJ2_inflateIfNeededFor 17 = .ok (.aload_n 0, 1) := dk_42 (dk_at dksJ2_inflateIfNeededFor_0 17 rfl rfl)
theorem dJ2_inflateIfNeededFor_18 : decode cJ2_inflateIfNeededFor 18 = .ok (.invokevirtual 195, 3) := dk_182 0 195 (dk_at dksJ2_inflateIfNeededFor_0 18 rfl rfl)
theorem dJ2_inflateIfNeededFor_21 : decode cJ2_inflateIfNeededFor 21 = .ok (.return_, 1) := dk_177 (dk_at dksJ2_inflateIfNeededFor_0 21 rfl rfl)
abbrev cJ2_inflate : ByteArray := prog_17_method_11_code
def yJ2_inflate : MethodName := ⟨RJ2, "inflate", "()V"⟩
def dkwJ2_inflate_1 : List UInt8 := [42, 180, 0, 79, 184, 0, 125, 42, 43, 181, 0, 15, 42, 4, 181, 0, 22, 177]
abbrev dktJ2_inflate_1 : List UInt8 := dkwJ2_inflate_1 ++ []
def dkwJ2_inflate_0 : List UInt8 := [42, 182, 0, 83, 154, 0, 4, 177, 42, 180, 0, 15, 190, 184, 0, 26, 76, 42, 180, 0, 15, 3, 43, 3]
abbrev dktJ2_inflate_0 : List UInt8 := dkwJ2_inflate_0 ++ dktJ2_inflate_1
theorem dksJ2_inflate_0 : cJ2_inflate.data.toList.drop 0 = dktJ2_inflate_0 := by decide +kernel
theorem dksJ2_inflate_1 : cJ2_inflate.data.toList.drop 24 = dktJ2_inflate_1 := dk_seg dksJ2_inflate_0 24 rfl rfl
theorem dJ2_inflate_0 : decode cJ2_inflate 0 = .ok (.aload_n 0, 1) := dk_42 (dk_at dksJ2_inflate_0 0 rfl rfl)
theorem dJ2_inflate_1 : decode cJ2_inflate 1 = .ok (.invokevirtual 83, 3) := dk_182 0 83 (dk_at dksJ2_inflate_0 1 rfl rfl)
theorem dJ2_inflate_4 : decode cJ2_inflate 4 = .ok (.ifCond .ne 4, 3) := dk_154 0 4 (dk_at dksJ2_inflate_0 4 rfl rfl)
theorem dJ2_inflate_7 : decode cJ2_inflate 7 = .ok (.return_, 1) := dk_177 (dk_at dksJ2_inflate_0 7 rfl rfl)
theorem dJ2_inflate_8 : decode cJ2_inflate 8 = .ok (.aload_n 0, 1) := dk_42 (dk_at dksJ2_inflate_0 8 rfl rfl)
theorem dJ2_inflate_9 : decode cJ2_inflate 9 = .ok (.getfield 15, 3) := dk_180 0 15 (dk_at dksJ2_inflate_0 9 rfl rfl)
theorem dJ2_inflate_12 : decode cJ2_inflate 12 = .ok (.arraylength, 1) := dk_190 (dk_at dksJ2_inflate_0 12 rfl rfl)
theorem dJ2_inflate_13 : decode cJ2_inflate 13 = .ok (.invokestatic 26, 3) := dk_184 0 26 (dk_at dksJ2_inflate_0 13 rfl rfl)
theorem dJ2_inflate_16 : decode cJ2_inflate 16 = .ok (.astore_n 1, 1) := dk_76 (dk_at dksJ2_inflate_0 16 rfl rfl)
theorem dJ2_inflate_17 : decode cJ2_inflate 17 = .ok (.aload_n 0, 1) := dk_42 (dk_at dksJ2_inflate_0 17 rfl rfl)
theorem dJ2_inflate_18 : decode cJ2_inflate 18 = .ok (.getfield 15, 3) := dk_180 0 15 (dk_at dksJ2_inflate_0 18 rfl rfl)
theorem dJ2_inflate_21 : decode cJ2_inflate 21 = .ok (.iconst 0, 1) := dk_3 (dk_at dksJ2_inflate_0 21 rfl rfl)
theorem dJ2_inflate_22 : decode cJ2_inflate 22 = .ok (.aload_n 1, 1) := dk_43 (dk_at dksJ2_inflate_0 22 rfl rfl)
theorem dJ2_inflate_23 : decode cJ2_inflate 23 = .ok (.iconst 0, 1) := dk_3 (dk_at dksJ2_inflate_0 23 rfl rfl)
theorem dJ2_inflate_24 : decode cJ2_inflate 24 = .ok (.aload_n 0, 1) := dk_42 (dk_at dksJ2_inflate_1 0 rfl rfl)
theorem dJ2_inflate_25 : decode cJ2_inflate 25 = .ok (.getfield 79, 3) := dk_180 0 79 (dk_at dksJ2_inflate_1 1 rfl rfl)
theorem dJ2_inflate_28 : decode cJ2_inflate 28 = .ok (.invokestatic 125, 3) := dk_184 0 125 (dk_at dksJ2_inflate_1 4 rfl rfl)
theorem dJ2_inflate_31 : decode cJ2_inflate 31 = .ok (.aload_n 0, 1) := dk_42 (dk_at dksJ2_inflate_1 7 rfl rfl)
theorem dJ2_inflate_32 : decode cJ2_inflate 32 = .ok (.aload_n 1, 1) := dk_43 (dk_at dksJ2_inflate_1 8 rfl rfl)
theorem dJ2_inflate_33 : decode cJ2_inflate 33 = .ok (.putfield 15, 3) := dk_181 0 15 (dk_at dksJ2_inflate_1 9 rfl rfl)
theorem dJ2_inflate_36 : decode cJ2_inflate 36 = .ok (.aload_n 0, 1) := dk_42 (dk_at dksJ2_inflate_1 12 rfl rfl)
theorem dJ2_inflate_37 : decode cJ2_inflate 37 = .ok (.iconst 1, 1) := dk_4 (dk_at dksJ2_inflate_1 13 rfl rfl)
theorem dJ2_inflate_38 : decode cJ2_inflate 38 = .ok (.putfield 22, 3) := dk_181 0 22 (dk_at dksJ2_inflate_1 14 rfl rfl)
theorem dJ2_inflate_41 : decode cJ2_inflate 41 = .ok (.return_, 1) := dk_177 (dk_at dksJ2_inflate_1 17 rfl rfl)
abbrev cJ2_append_2 : ByteArray := prog_17_method_32_code
def yJ2_append_2 : MethodName := ⟨RJ2, "append", "(I)Ljava/lang/AbstractStringBuilder;"⟩
def dkwJ2_append_2_2 : List UInt8 := [42, 29, 181, 0, 79, 42, 176]
abbrev dktJ2_append_2_2 : List UInt8 := dkwJ2_append_2_2 ++ []
def dkwJ2_append_2_1 : List UInt8 := [27, 29, 42, 180, 0, 15, 184, 0, 248, 87, 167, 0, 14, 27, 28, 29, 42, 180, 0, 15, 184, 0, 251, 87]
abbrev dktJ2_append_2_1 : List UInt8 := dkwJ2_append_2_1 ++ dktJ2_append_2_2
def dkwJ2_append_2_0 : List UInt8 := [42, 180, 0, 79, 61, 28, 27, 184, 0, 245, 96, 62, 42, 29, 182, 0, 100, 42, 182, 0, 83, 153, 0, 16]
abbrev dktJ2_append_2_0 : List UInt8 := dkwJ2_append_2_0 ++ dktJ2_append_2_1
theorem dksJ2_append_2_0 : cJ2_append_2.data.toList.drop 0 = dktJ2_append_2_0 := by decide +kernel
theorem dksJ2_append_2_1 : cJ2_append_2.data.toList.drop 24 = dktJ2_append_2_1 := dk_seg dksJ2_append_2_0 24 rfl rfl
theorem dksJ2_append_2_2 : cJ2_append_2.data.toList.drop 48 = dktJ2_append_2_2 := dk_seg dksJ2_append_2_1 24 rfl rfl
theorem dJ2_append_2_0 : decode cJ2_append_2 0 = .ok (.aload_n 0, 1) := dk_42 (dk_at dksJ2_append_2_0 0 rfl rfl)
theorem dJ2_append_2_1 : decode cJ2_append_2 1 = .ok (.getfield 79, 3) := dk_180 0 79 (dk_at dksJ2_append_2_0 1 rfl rfl)
theorem dJ2_append_2_4 : decode cJ2_append_2 4 = .ok (.istore_n 2, 1) := dk_61 (dk_at dksJ2_append_2_0 4 rfl rfl)
theorem dJ2_append_2_5 : decode cJ2_append_2 5 = .ok (.iload_n 2, 1) := dk_28 (dk_at dksJ2_append_2_0 5 rfl rfl)
theorem dJ2_append_2_6 : decode cJ2_append_2 6 = .ok (.iload_n 1, 1) := dk_27 (dk_at dksJ2_append_2_0 6 rfl rfl)
theorem dJ2_append_2_7 : decode cJ2_append_2 7 = .ok (.invokestatic 245, 3) := dk_184 0 245 (dk_at dksJ2_append_2_0 7 rfl rfl)
theorem dJ2_append_2_10 : decode cJ2_append_2 10 = .ok (.iadd, 1) := dk_96 (dk_at dksJ2_append_2_0 10 rfl rfl)
theorem dJ2_append_2_11 : decode cJ2_append_2 11 = .ok (.istore_n 3, 1) := dk_62 (dk_at dksJ2_append_2_0 11 rfl rfl)
theorem dJ2_append_2_12 : decode cJ2_append_2 12 = .ok (.aload_n 0, 1) := dk_42 (dk_at dksJ2_append_2_0 12 rfl rfl)
theorem dJ2_append_2_13 : decode cJ2_append_2 13 = .ok (.iload_n 3, 1) := dk_29 (dk_at dksJ2_append_2_0 13 rfl rfl)
theorem dJ2_append_2_14 : decode cJ2_append_2 14 = .ok (.invokevirtual 100, 3) := dk_182 0 100 (dk_at dksJ2_append_2_0 14 rfl rfl)
theorem dJ2_append_2_17 : decode cJ2_append_2 17 = .ok (.aload_n 0, 1) := dk_42 (dk_at dksJ2_append_2_0 17 rfl rfl)
theorem dJ2_append_2_18 : decode cJ2_append_2 18 = .ok (.invokevirtual 83, 3) := dk_182 0 83 (dk_at dksJ2_append_2_0 18 rfl rfl)
theorem dJ2_append_2_21 : decode cJ2_append_2 21 = .ok (.ifCond .eq 16, 3) := dk_153 0 16 (dk_at dksJ2_append_2_0 21 rfl rfl)
theorem dJ2_append_2_24 : decode cJ2_append_2 24 = .ok (.iload_n 1, 1) := dk_27 (dk_at dksJ2_append_2_1 0 rfl rfl)
theorem dJ2_append_2_25 : decode cJ2_append_2 25 = .ok (.iload_n 3, 1) := dk_29 (dk_at dksJ2_append_2_1 1 rfl rfl)
theorem dJ2_append_2_26 : decode cJ2_append_2 26 = .ok (.aload_n 0, 1) := dk_42 (dk_at dksJ2_append_2_1 2 rfl rfl)
theorem dJ2_append_2_27 : decode cJ2_append_2 27 = .ok (.getfield 15, 3) := dk_180 0 15 (dk_at dksJ2_append_2_1 3 rfl rfl)
theorem dJ2_append_2_30 : decode cJ2_append_2 30 = .ok (.invokestatic 248, 3) := dk_184 0 248 (dk_at dksJ2_append_2_1 6 rfl rfl)
theorem dJ2_append_2_33 : decode cJ2_append_2 33 = .ok (.pop, 1) := dk_87 (dk_at dksJ2_append_2_1 9 rfl rfl)
theorem dJ2_append_2_34 : decode cJ2_append_2 34 = .ok (.goto 14, 3) := dk_167 0 14 (dk_at dksJ2_append_2_1 10 rfl rfl)
theorem dJ2_append_2_37 : decode cJ2_append_2 37 = .ok (.iload_n 1, 1) := dk_27 (dk_at dksJ2_append_2_1 13 rfl rfl)
theorem dJ2_append_2_38 : decode cJ2_append_2 38 = .ok (.iload_n 2, 1) := dk_28 (dk_at dksJ2_append_2_1 14 rfl rfl)
theorem dJ2_append_2_39 : decode cJ2_append_2 39 = .ok (.iload_n 3, 1) := dk_29 (dk_at dksJ2_append_2_1 15 rfl rfl)
theorem dJ2_append_2_40 : decode cJ2_append_2 40 = .ok (.aload_n 0, 1) := dk_42 (dk_at dksJ2_append_2_1 16 rfl rfl)
theorem dJ2_append_2_41 : decode cJ2_append_2 41 = .ok (.getfield 15, 3) := dk_180 0 15 (dk_at dksJ2_append_2_1 17 rfl rfl)
theorem dJ2_append_2_44 : decode cJ2_append_2 44 = .ok (.invokestatic 251, 3) := dk_184 0 251 (dk_at dksJ2_append_2_1 20 rfl rfl)
theorem dJ2_append_2_47 : decode cJ2_append_2 47 = .ok (.pop, 1) := dk_87 (dk_at dksJ2_append_2_1 23 rfl rfl)
theorem dJ2_append_2_48 : decode cJ2_append_2 48 = .ok (.aload_n 0, 1) := dk_42 (dk_at dksJ2_append_2_2 0 rfl rfl)
theorem dJ2_append_2_49 : decode cJ2_append_2 49 = .ok (.iload_n 3, 1) := dk_29 (dk_at dksJ2_append_2_2 1 rfl rfl)
theorem dJ2_append_2_50 : decode cJ2_append_2 50 = .ok (.putfield 79, 3) := dk_181 0 79 (dk_at dksJ2_append_2_2 2 rfl rfl)
theorem dJ2_append_2_53 : decode cJ2_append_2 53 = .ok (.aload_n 0, 1) := dk_42 (dk_at dksJ2_append_2_2 5 rfl rfl)
theorem dJ2_append_2_54 : decode cJ2_append_2 54 = .ok (.areturn, 1) := dk_176 (dk_at dksJ2_append_2_2 6 rfl rfl)
abbrev cJ2_getValue : ByteArray := prog_17_method_64_code
def yJ2_getValue : MethodName := ⟨RJ2, "getValue", "()[B"⟩
theorem dJ2_getValue_0 : decode cJ2_getValue 0 = .ok (.aload_n 0, 1) := by decide +kernel
theorem dJ2_getValue_1 : decode cJ2_getValue 1 = .ok (.getfield 15, 3) := by decide +kernel
theorem dJ2_getValue_4 : decode cJ2_getValue 4 = .ok (.areturn, 1) := by decide +kernel
abbrev cJ2_charAt : ByteArray := prog_17_method_14_code
def yJ2_charAt : MethodName := ⟨RJ2, "charAt", "(I)C"⟩
def dkwJ2_charAt_1 : List UInt8 := [21, 4, 184, 0, 144, 28, 154, 0, 12, 45, 27, 51, 17, 0, 255, 126, 146, 172, 45, 27, 184, 0, 148, 172]
abbrev dktJ2_charAt_1 : List UInt8 := dkwJ2_charAt_1 ++ []
def dkwJ2_charAt_0 : List UInt8 := [42, 180, 0, 22, 61, 42, 180, 0, 15, 78, 42, 180, 0, 79, 45, 190, 28, 122, 184, 0, 138, 54, 4, 27]
abbrev dktJ2_charAt_0 : List UInt8 := dkwJ2_charAt_0 ++ dktJ2_charAt_1
theorem dksJ2_charAt_0 : cJ2_charAt.data.toList.drop 0 = dktJ2_charAt_0 := by decide +kernel
theorem dksJ2_charAt_1 : cJ2_charAt.data.toList.drop 24 = dktJ2_charAt_1 := dk_seg dksJ2_charAt_0 24 rfl rfl
theorem dJ2_charAt_0 : decode cJ2_charAt 0 = .ok (.aload_n 0, 1) := dk_42 (dk_at dksJ2_charAt_0 0 rfl rfl)
theorem dJ2_charAt_1 : decode cJ2_charAt 1 = .ok (.getfield 22, 3) := dk_180 0 22 (dk_at dksJ2_charAt_0 1 rfl rfl)
theorem dJ2_charAt_4 : decode cJ2_charAt 4 = .ok (.istore_n 2, 1) := dk_61 (dk_at dksJ2_charAt_0 4 rfl rfl)
theorem dJ2_charAt_5 : decode cJ2_charAt 5 = .ok (.aload_n 0, 1) := dk_42 (dk_at dksJ2_charAt_0 5 rfl rfl)
theorem dJ2_charAt_6 : decode cJ2_charAt 6 = .ok (.getfield 15, 3) := dk_180 0 15 (dk_at dksJ2_charAt_0 6 rfl rfl)
theorem dJ2_charAt_9 : decode cJ2_charAt 9 = .ok (.astore_n 3, 1) := dk_78 (dk_at dksJ2_charAt_0 9 rfl rfl)
theorem dJ2_charAt_10 : decode cJ2_charAt 10 = .ok (.aload_n 0, 1) := dk_42 (dk_at dksJ2_charAt_0 10 rfl rfl)
theorem dJ2_charAt_11 : decode cJ2_charAt 11 = .ok (.getfield 79, 3) := dk_180 0 79 (dk_at dksJ2_charAt_0 11 rfl rfl)
theorem dJ2_charAt_14 : decode cJ2_charAt 14 = .ok (.aload_n 3, 1) := dk_45 (dk_at dksJ2_charAt_0 14 rfl rfl)
theorem dJ2_charAt_15 : decode cJ2_charAt 15 = .ok (.arraylength, 1) := dk_190 (dk_at dksJ2_charAt_0 15 rfl rfl)
theorem dJ2_charAt_16 : decode cJ2_charAt 16 = .ok (.iload_n 2, 1) := dk_28 (dk_at dksJ2_charAt_0 16 rfl rfl)
theorem dJ2_charAt_17 : decode cJ2_charAt 17 = .ok (.ishr, 1) := dk_122 (dk_at dksJ2_charAt_0 17 rfl rfl)
theorem dJ2_charAt_18 : decode cJ2_charAt 18 = .ok (.invokestatic 138, 3) := dk_184 0 138 (dk_at dksJ2_charAt_0 18 rfl rfl)
theorem dJ2_charAt_21 : decode cJ2_charAt 21 = .ok (.istore 4, 2) := dk_54 4 (dk_at dksJ2_charAt_0 21 rfl rfl)
theorem dJ2_charAt_23 : decode cJ2_charAt 23 = .ok (.iload_n 1, 1) := dk_27 (dk_at dksJ2_charAt_0 23 rfl rfl)
theorem dJ2_charAt_24 : decode cJ2_charAt 24 = .ok (.iload 4, 2) := dk_21 4 (dk_at dksJ2_charAt_1 0 rfl rfl)
theorem dJ2_charAt_26 : decode cJ2_charAt 26 = .ok (.invokestatic 144, 3) := dk_184 0 144 (dk_at dksJ2_charAt_1 2 rfl rfl)
theorem dJ2_charAt_29 : decode cJ2_charAt 29 = .ok (.iload_n 2, 1) := dk_28 (dk_at dksJ2_charAt_1 5 rfl rfl)
theorem dJ2_charAt_30 : decode cJ2_charAt 30 = .ok (.ifCond .ne 12, 3) := dk_154 0 12 (dk_at dksJ2_charAt_1 6 rfl rfl)
theorem dJ2_charAt_33 : decode cJ2_charAt 33 = .ok (.aload_n 3, 1) := dk_45 (dk_at dksJ2_charAt_1 9 rfl rfl)
theorem dJ2_charAt_34 : decode cJ2_charAt 34 = .ok (.iload_n 1, 1) := dk_27 (dk_at dksJ2_charAt_1 10 rfl rfl)
theorem dJ2_charAt_35 : decode cJ2_charAt 35 = .ok (.baload, 1) := dk_51 (dk_at dksJ2_charAt_1 11 rfl rfl)
theorem dJ2_charAt_36 : decode cJ2_charAt 36 = .ok (.sipush 255, 3) := dk_17 0 255 (dk_at dksJ2_charAt_1 12 rfl rfl)
theorem dJ2_charAt_39 : decode cJ2_charAt 39 = .ok (.iand, 1) := dk_126 (dk_at dksJ2_charAt_1 15 rfl rfl)
theorem dJ2_charAt_40 : decode cJ2_charAt 40 = .ok (.i2c, 1) := dk_146 (dk_at dksJ2_charAt_1 16 rfl rfl)
theorem dJ2_charAt_41 : decode cJ2_charAt 41 = .ok (.ireturn, 1) := dk_172 (dk_at dksJ2_charAt_1 17 rfl rfl)
theorem dJ2_charAt_42 : decode cJ2_charAt 42 = .ok (.aload_n 3, 1) := dk_45 (dk_at dksJ2_charAt_1 18 rfl rfl)
theorem dJ2_charAt_43 : decode cJ2_charAt 43 = .ok (.iload_n 1, 1) := dk_27 (dk_at dksJ2_charAt_1 19 rfl rfl)
theorem dJ2_charAt_44 : decode cJ2_charAt 44 = .ok (.invokestatic 148, 3) := dk_184 0 148 (dk_at dksJ2_charAt_1 20 rfl rfl)
theorem dJ2_charAt_47 : decode cJ2_charAt 47 = .ok (.ireturn, 1) := dk_172 (dk_at dksJ2_charAt_1 23 rfl rfl)
abbrev cJ2_append_3 : ByteArray := prog_17_method_31_code
def yJ2_append_3 : MethodName := ⟨RJ2, "append", "(C)Ljava/lang/AbstractStringBuilder;"⟩
def dkwJ2_append_3_3 : List UInt8 := [181, 0, 79, 27, 184, 0, 197, 42, 176]
abbrev dktJ2_append_3_3 : List UInt8 := dkwJ2_append_3_3 ++ []
def dkwJ2_append_3_2 : List UInt8 := [182, 0, 83, 153, 0, 7, 42, 182, 0, 195, 42, 180, 0, 15, 42, 89, 180, 0, 79, 90, 4, 96]
abbrev dktJ2_append_3_2 : List UInt8 := dkwJ2_append_3_2 ++ dktJ2_append_3_3
def dkwJ2_append_3_1 : List UInt8 := [42, 180, 0, 15, 42, 89, 180, 0, 79, 90, 4, 96, 181, 0, 79, 27, 145, 84, 167, 0, 33, 42]
abbrev dktJ2_append_3_1 : List UInt8 := dkwJ2_append_3_1 ++ dktJ2_append_3_2
def dkwJ2_append_3_0 : List UInt8 := [42, 42, 180, 0, 79, 4, 96, 182, 0, 100, 42, 182, 0, 83, 153, 0, 31, 27, 184, 0, 191, 153, 0, 24]
abbrev dktJ2_append_3_0 : List UInt8 := dkwJ2_append_3_0 ++ dktJ2_append_3_1
theorem dksJ2_append_3_0 : cJ2_append_3.data.toList.drop 0 = dktJ2_append_3_0 := by decide +kernel
theorem dksJ2_append_3_1 : cJ2_append_3.data.toList.drop 24 = dktJ2_append_3_1 := dk_seg dksJ2_append_3_0 24 rfl rfl
theorem dksJ2_append_3_2 : cJ2_append_3.data.toList.drop 46 = dktJ2_append_3_2 := dk_seg dksJ2_append_3_1 22 rfl rfl
theorem dksJ2_append_3_3 : cJ2_append_3.data.toList.drop 68 = dktJ2_append_3_3 := dk_seg dksJ2_append_3_2 22 rfl rfl
theorem dJ2_append_3_0 : decode cJ2_append_3 0 = .ok (.aload_n 0, 1) := dk_42 (dk_at dksJ2_append_3_0 0 rfl rfl)
theorem dJ2_append_3_1 : decode cJ2_append_3 1 = .ok (.aload_n 0, 1) := dk_42 (dk_at dksJ2_append_3_0 1 rfl rfl)
theorem dJ2_append_3_2 : decode cJ2_append_3 2 = .ok (.getfield 79, 3) := dk_180 0 79 (dk_at dksJ2_append_3_0 2 rfl rfl)
theorem dJ2_append_3_5 : decode cJ2_append_3 5 = .ok (.iconst 1, 1) := dk_4 (dk_at dksJ2_append_3_0 5 rfl rfl)
theorem dJ2_append_3_6 : decode cJ2_append_3 6 = .ok (.iadd, 1) := dk_96 (dk_at dksJ2_append_3_0 6 rfl rfl)
theorem dJ2_append_3_7 : decode cJ2_append_3 7 = .ok (.invokevirtual 100, 3) := dk_182 0 100 (dk_at dksJ2_append_3_0 7 rfl rfl)
theorem dJ2_append_3_10 : decode cJ2_append_3 10 = .ok (.aload_n 0, 1) := dk_42 (dk_at dksJ2_append_3_0 10 rfl rfl)
theorem dJ2_append_3_11 : decode cJ2_append_3 11 = .ok (.invokevirtual 83, 3) := dk_182 0 83 (dk_at dksJ2_append_3_0 11 rfl rfl)
theorem dJ2_append_3_14 : decode cJ2_append_3 14 = .ok (.ifCond .eq 31, 3) := dk_153 0 31 (dk_at dksJ2_append_3_0 14 rfl rfl)
theorem dJ2_append_3_17 : decode cJ2_append_3 17 = .ok (.iload_n 1, 1) := dk_27 (dk_at dksJ2_append_3_0 17 rfl rfl)
theorem dJ2_append_3_18 : decode cJ2_append_3 18 = .ok (.invokestatic 191, 3) := dk_184 0 191 (dk_at dksJ2_append_3_0 18 rfl rfl)
theorem dJ2_append_3_21 : decode cJ2_append_3 21 = .ok (.ifCond .eq 24, 3) := dk_153 0 24 (dk_at dksJ2_append_3_0 21 rfl rfl)
theorem dJ2_append_3_24 : decode cJ2_append_3 24 = .ok (.aload_n 0, 1) := dk_42 (dk_at dksJ2_append_3_1 0 rfl rfl)
theorem dJ2_append_3_25 : decode cJ2_append_3 25 = .ok (.getfield 15, 3) := dk_180 0 15 (dk_at dksJ2_append_3_1 1 rfl rfl)
theorem dJ2_append_3_28 : decode cJ2_append_3 28 = .ok (.aload_n 0, 1) := dk_42 (dk_at dksJ2_append_3_1 4 rfl rfl)
theorem dJ2_append_3_29 : decode cJ2_append_3 29 = .ok (.dup, 1) := dk_89 (dk_at dksJ2_append_3_1 5 rfl rfl)
theorem dJ2_append_3_30 : decode cJ2_append_3 30 = .ok (.getfield 79, 3) := dk_180 0 79 (dk_at dksJ2_append_3_1 6 rfl rfl)
theorem dJ2_append_3_33 : decode cJ2_append_3 33 = .ok (.dup_x1, 1) := dk_90 (dk_at dksJ2_append_3_1 9 rfl rfl)
theorem dJ2_append_3_34 : decode cJ2_append_3 34 = .ok (.iconst 1, 1) := dk_4 (dk_at dksJ2_append_3_1 10 rfl rfl)
theorem dJ2_append_3_35 : decode cJ2_append_3 35 = .ok (.iadd, 1) := dk_96 (dk_at dksJ2_append_3_1 11 rfl rfl)
theorem dJ2_append_3_36 : decode cJ2_append_3 36 = .ok (.putfield 79, 3) := dk_181 0 79 (dk_at dksJ2_append_3_1 12 rfl rfl)
theorem dJ2_append_3_39 : decode cJ2_append_3 39 = .ok (.iload_n 1, 1) := dk_27 (dk_at dksJ2_append_3_1 15 rfl rfl)
theorem dJ2_append_3_40 : decode cJ2_append_3 40 = .ok (.i2b, 1) := dk_145 (dk_at dksJ2_append_3_1 16 rfl rfl)
theorem dJ2_append_3_41 : decode cJ2_append_3 41 = .ok (.bastore, 1) := dk_84 (dk_at dksJ2_append_3_1 17 rfl rfl)
theorem dJ2_append_3_42 : decode cJ2_append_3 42 = .ok (.goto 33, 3) := dk_167 0 33 (dk_at dksJ2_append_3_1 18 rfl rfl)
theorem dJ2_append_3_45 : decode cJ2_append_3 45 = .ok (.aload_n 0, 1) := dk_42 (dk_at dksJ2_append_3_1 21 rfl rfl)
theorem dJ2_append_3_46 : decode cJ2_append_3 46 = .ok (.invokevirtual 83, 3) := dk_182 0 83 (dk_at dksJ2_append_3_2 0 rfl rfl)
theorem dJ2_append_3_49 : decode cJ2_append_3 49 = .ok (.ifCond .eq 7, 3) := dk_153 0 7 (dk_at dksJ2_append_3_2 3 rfl rfl)
theorem dJ2_append_3_52 : decode cJ2_append_3 52 = .ok (.aload_n 0, 1) := dk_42 (dk_at dksJ2_append_3_2 6 rfl rfl)
theorem dJ2_append_3_53 : decode cJ2_append_3 53 = .ok (.invokevirtual 195, 3) := dk_182 0 195 (dk_at dksJ2_append_3_2 7 rfl rfl)
theorem dJ2_append_3_56 : decode cJ2_append_3 56 = .ok (.aload_n 0, 1) := dk_42 (dk_at dksJ2_append_3_2 10 rfl rfl)
theorem dJ2_append_3_57 : decode cJ2_append_3 57 = .ok (.getfield 15, 3) := dk_180 0 15 (dk_at dksJ2_append_3_2 11 rfl rfl)
theorem dJ2_append_3_60 : decode cJ2_append_3 60 = .ok (.aload_n 0, 1) := dk_42 (dk_at dksJ2_append_3_2 14 rfl rfl)
theorem dJ2_append_3_61 : decode cJ2_append_3 61 = .ok (.dup, 1) := dk_89 (dk_at dksJ2_append_3_2 15 rfl rfl)
theorem dJ2_append_3_62 : decode cJ2_append_3 62 = .ok (.getfield 79, 3) := dk_180 0 79 (dk_at dksJ2_append_3_2 16 rfl rfl)
theorem dJ2_append_3_65 : decode cJ2_append_3 65 = .ok (.dup_x1, 1) := dk_90 (dk_at dksJ2_append_3_2 19 rfl rfl)
theorem dJ2_append_3_66 : decode cJ2_append_3 66 = .ok (.iconst 1, 1) := dk_4 (dk_at dksJ2_append_3_2 20 rfl rfl)
theorem dJ2_append_3_67 : decode cJ2_append_3 67 = .ok (.iadd, 1) := dk_96 (dk_at dksJ2_append_3_2 21 rfl rfl)
theorem dJ2_append_3_68 : decode cJ2_append_3 68 = .ok (.putfield 79, 3) := dk_181 0 79 (dk_at dksJ2_append_3_3 0 rfl rfl)
theorem dJ2_append_3_71 : decode cJ2_append_3 71 = .ok (.iload_n 1, 1) := dk_27 (dk_at dksJ2_append_3_3 3 rfl rfl)
theorem dJ2_append_3_72 : decode cJ2_append_3 72 = .ok (.invokestatic 197, 3) := dk_184 0 197 (dk_at dksJ2_append_3_3 4 rfl rfl)
theorem dJ2_append_3_75 : decode cJ2_append_3 75 = .ok (.aload_n 0, 1) := dk_42 (dk_at dksJ2_append_3_3 7 rfl rfl)
theorem dJ2_append_3_76 : decode cJ2_append_3 76 = .ok (.areturn, 1) := dk_176 (dk_at dksJ2_append_3_3 8 rfl rfl)
theorem q89 : (Jvm.Cond.initialized "java/lang/AbstractStringBuilder") ∈ lw_all := lw_g (lw_at lw_m1 4 rfl) rfl
theorem q166 : (Jvm.Cond.instanceMethod ({ cls := "java/lang/AbstractStringBuilder", name := "<init>", desc := "(I)V" } : Jvm.MethodName)) ∈ lw_all := lw_g (lw_at lw_m1 81 rfl) rfl
theorem q167 : (Jvm.Cond.code ({ cls := "java/lang/AbstractStringBuilder", name := "<init>", desc := "(I)V" } : Jvm.MethodName) prog_17_method_2_code (2 : Nat) (Option.none : Option Jvm.ClassFile.FieldType)) ∈ lw_all := lw_g (lw_at lw_m1 82 rfl) rfl
theorem q168 : (Jvm.Cond.methodLink "java/lang/AbstractStringBuilder" (3 : Nat) ({ cls := "java/lang/Object", name := "<init>", desc := "()V" } : Jvm.MethodName)) ∈ lw_all := lw_g (lw_at lw_m1 83 rfl) rfl
theorem q169 : (Jvm.Cond.fieldLink "java/lang/AbstractStringBuilder" (18 : Nat) "java/lang/String" "COMPACT_STRINGS" "Z") ∈ lw_all := lw_g (lw_at lw_m1 84 rfl) rfl
theorem q171 : (Jvm.Cond.methodLink "java/lang/AbstractStringBuilder" (26 : Nat) ({ cls := "java/lang/StringUTF16", name := "newBytesFor", desc := "(I)[B" } : Jvm.MethodName)) ∈ lw_all := lw_g (lw_at lw_m1 86 rfl) rfl
theorem q178 : (Jvm.Cond.fieldLink "java/lang/AbstractStringBuilder" (15 : Nat) "java/lang/AbstractStringBuilder" "value" "[B") ∈ lw_all := lw_g (lw_at lw_m1 93 rfl) rfl
theorem q179 : (Jvm.Cond.fieldLink "java/lang/AbstractStringBuilder" (22 : Nat) "java/lang/AbstractStringBuilder" "coder" "B") ∈ lw_all := lw_g (lw_at lw_m1 94 rfl) rfl
theorem q180 : (Jvm.Cond.fieldLink "java/lang/AbstractStringBuilder" (73 : Nat) "java/lang/AbstractStringBuilder" "maybeLatin1" "Z") ∈ lw_all := lw_g (lw_at lw_m1 95 rfl) rfl
theorem q182 : (Jvm.Cond.fieldLink "java/lang/AbstractStringBuilder" (79 : Nat) "java/lang/AbstractStringBuilder" "count" "I") ∈ lw_all := lw_g (lw_at lw_m1 97 rfl) rfl
theorem q184 : (Jvm.Cond.soleField "java/lang/AbstractStringBuilder" "value") ∈ lw_all := lw_g (lw_at lw_m1 99 rfl) rfl
theorem q186 : (Jvm.Cond.soleField "java/lang/AbstractStringBuilder" "coder") ∈ lw_all := lw_g (lw_at lw_m1 101 rfl) rfl
theorem q188 : (Jvm.Cond.soleField "java/lang/AbstractStringBuilder" "maybeLatin1") ∈ lw_all := lw_g (lw_at lw_m1 103 rfl) rfl
theorem q190 : (Jvm.Cond.soleField "java/lang/AbstractStringBuilder" "count") ∈ lw_all := lw_g (lw_at lw_m1 105 rfl) rfl
theorem q822 : (Jvm.Cond.instanceMethod ({ cls := "java/lang/AbstractStringBuilder", name := "compareTo", desc := "(Ljava/lang/AbstractStringBuilder;)I" } : Jvm.MethodName)) ∈ lw_all := lw_g (lw_at lw_m4 17 rfl) rfl
theorem q823 : (Jvm.Cond.code ({ cls := "java/lang/AbstractStringBuilder", name := "compareTo", desc := "(Ljava/lang/AbstractStringBuilder;)I" } : Jvm.MethodName) prog_17_method_5_code (6 : Nat) (Option.some Jvm.ClassFile.FieldType.int)) ∈ lw_all := lw_g (lw_at lw_m4 18 rfl) rfl
theorem q824 : (Jvm.Cond.methodLink "java/lang/AbstractStringBuilder" (83 : Nat) ({ cls := "java/lang/AbstractStringBuilder", name := "isLatin1", desc := "()Z" } : Jvm.MethodName)) ∈ lw_all := lw_g (lw_at lw_m4 19 rfl) rfl
theorem q825 : (Jvm.Cond.instanceMethod ({ cls := "java/lang/AbstractStringBuilder", name := "isLatin1", desc := "()Z" } : Jvm.MethodName)) ∈ lw_all := lw_g (lw_at lw_m4 20 rfl) rfl
theorem q826 : (Jvm.Cond.sameMethod "java/lang/AbstractStringBuilder" "java/lang/AbstractStringBuilder" "isLatin1" "()Z") ∈ lw_all := lw_g (lw_at lw_m4 21 rfl) rfl
theorem q828 : (Jvm.Cond.code ({ cls := "java/lang/AbstractStringBuilder", name := "isLatin1", desc := "()Z" } : Jvm.MethodName) prog_17_method_68_code (1 : Nat) (Option.some Jvm.ClassFile.FieldType.boolean)) ∈ lw_all := lw_g (lw_at lw_m4 23 rfl) rfl
theorem q829 : (Jvm.Cond.methodLink "java/lang/AbstractStringBuilder" (87 : Nat) ({ cls := "java/lang/StringLatin1", name := "compareTo", desc := "([B[BII)I" } : Jvm.MethodName)) ∈ lw_all := lw_g (lw_at lw_m4 24 rfl) rfl
theorem q830 : (Jvm.Cond.methodLink "java/lang/AbstractStringBuilder" (93 : Nat) ({ cls := "java/lang/StringUTF16", name := "compareTo", desc := "([B[BII)I" } : Jvm.MethodName)) ∈ lw_all := lw_g (lw_at lw_m4 25 rfl) rfl
theorem q844 : (Jvm.Cond.methodLink "java/lang/AbstractStringBuilder" (94 : Nat) ({ cls := "java/lang/StringLatin1", name := "compareToUTF16", desc := "([B[BII)I" } : Jvm.MethodName)) ∈ lw_all := lw_g (lw_at lw_m4 39 rfl) rfl
theorem q848 : (Jvm.Cond.methodLink "java/lang/AbstractStringBuilder" (97 : Nat) ({ cls := "java/lang/StringUTF16", name := "compareToLatin1", desc := "([B[BII)I" } : Jvm.MethodName)) ∈ lw_all := lw_g (lw_at lw_m4 43 rfl) rfl
theorem q865 : (Jvm.Cond.instanceMethod ({ cls := "java/lang/AbstractStringBuilder", name := "length", desc := "()I" } : Jvm.MethodName)) ∈ lw_all := lw_g (lw_at lw_m4 60 rfl) rfl
theorem q866 : (Jvm.Cond.code ({ cls := "java/lang/AbstractStringBuilder", name := "length", desc := "()I" } : Jvm.MethodName) prog_17_method_6_code (1 : Nat) (Option.some Jvm.ClassFile.FieldType.int)) ∈ lw_all := lw_g (lw_at lw_m4 61 rfl) rfl
theorem q872 : (Jvm.Cond.instanceMethod ({ cls := "java/lang/AbstractStringBuilder", name := "setLength", desc := "(I)V" } : Jvm.MethodName)) ∈ lw_all := lw_g (lw_at lw_m4 67 rfl) rfl
theorem q873 : (Jvm.Cond.code ({ cls := "java/lang/AbstractStringBuilder", name := "setLength", desc := "(I)V" } : Jvm.MethodName) prog_17_method_13_code (2 : Nat) (Option.none : Option Jvm.ClassFile.FieldType)) ∈ lw_all := lw_g (lw_at lw_m4 68 rfl) rfl
theorem q874 : (Jvm.Cond.classLink "java/lang/AbstractStringBuilder" (129 : Nat) "java/lang/StringIndexOutOfBoundsException") ∈ lw_all := lw_g (lw_at lw_m4 69 rfl) rfl
theorem q876 : (Jvm.Cond.methodLink "java/lang/AbstractStringBuilder" (131 : Nat) ({ cls := "java/lang/StringIndexOutOfBoundsException", name := "<init>", desc := "(I)V" } : Jvm.MethodName)) ∈ lw_all := lw_g (lw_at lw_m4 71 rfl) rfl
theorem q887 : (Jvm.Cond.instanceMethod ({ cls := "java/lang/AbstractStringBuilder", name := "append", desc := "(Ljava/lang/String;)Ljava/lang/AbstractStringBuilder;" } : Jvm.MethodName)) ∈ lw_all := lw_g (lw_at lw_m4 82 rfl) rfl
theorem q888 : (Jvm.Cond.code ({ cls := "java/lang/AbstractStringBuilder", name := "append", desc := "(Ljava/lang/String;)Ljava/lang/AbstractStringBuilder;" } : Jvm.MethodName) prog_17_method_22_code (3 : Nat) (Option.some (Jvm.ClassFile.FieldType.object "java/lang/AbstractStringBuilder"))) ∈ lw_all := lw_g (lw_at lw_m4 83 rfl) rfl
theorem q889 : (Jvm.Cond.methodLink "java/lang/AbstractStringBuilder" (204 : Nat) ({ cls := "java/lang/AbstractStringBuilder", name := "appendNull", desc := "()Ljava/lang/AbstractStringBuilder;" } : Jvm.MethodName)) ∈ lw_all := lw_g (lw_at lw_m4 84 rfl) rfl
theorem q890 : (Jvm.Cond.privateMethod ({ cls := "java/lang/AbstractStringBuilder", name := "appendNull", desc := "()Ljava/lang/AbstractStringBuilder;" } : Jvm.MethodName)) ∈ lw_tbl := lw_at lw_m4 85 rfl
theorem q891 : (Jvm.Cond.instanceMethod ({ cls := "java/lang/AbstractStringBuilder", name := "appendNull", desc := "()Ljava/lang/AbstractStringBuilder;" } : Jvm.MethodName)) ∈ lw_all := lw_g (lw_at lw_m4 86 rfl) rfl
theorem q892 : (Jvm.Cond.code ({ cls := "java/lang/AbstractStringBuilder", name := "appendNull", desc := "()Ljava/lang/AbstractStringBuilder;" } : Jvm.MethodName) prog_17_method_26_code (3 : Nat) (Option.some (Jvm.ClassFile.FieldType.object "java/lang/AbstractStringBuilder"))) ∈ lw_all := lw_g (lw_at lw_m4 87 rfl) rfl
theorem q893 : (Jvm.Cond.methodLink "java/lang/AbstractStringBuilder" (100 : Nat) ({ cls := "java/lang/AbstractStringBuilder", name := "ensureCapacityInternal", desc := "(I)V" } : Jvm.MethodName)) ∈ lw_all := lw_g (lw_at lw_m4 88 rfl) rfl
theorem q894 : (Jvm.Cond.privateMethod ({ cls := "java/lang/AbstractStringBuilder", name := "ensureCapacityInternal", desc := "(I)V" } : Jvm.MethodName)) ∈ lw_tbl := lw_at lw_m4 89 rfl
theorem q895 : (Jvm.Cond.instanceMethod ({ cls := "java/lang/AbstractStringBuilder", name := "ensureCapacityInternal", desc := "(I)V" } : Jvm.MethodName)) ∈ lw_all := lw_g (lw_at lw_m4 90 rfl) rfl
theorem q896 : (Jvm.Cond.code ({ cls := "java/lang/AbstractStringBuilder", name := "ensureCapacityInternal", desc := "(I)V" } : Jvm.MethodName) prog_17_method_9_code (3 : Nat) (Option.none : Option Jvm.ClassFile.FieldType)) ∈ lw_all := lw_g (lw_at lw_m4 91 rfl) rfl
theorem q897 : (Jvm.Cond.methodLink "java/lang/AbstractStringBuilder" (104 : Nat) ({ cls := "java/lang/AbstractStringBuilder", name := "newCapacity", desc := "(I)I" } : Jvm.MethodName)) ∈ lw_all := lw_g (lw_at lw_m4 92 rfl) rfl
theorem q898 : (Jvm.Cond.privateMethod ({ cls := "java/lang/AbstractStringBuilder", name := "newCapacity", desc := "(I)I" } : Jvm.MethodName)) ∈ lw_tbl := lw_at lw_m4 93 rfl
theorem q899 : (Jvm.Cond.instanceMethod ({ cls := "java/lang/AbstractStringBuilder", name := "newCapacity", desc := "(I)I" } : Jvm.MethodName)) ∈ lw_all := lw_g (lw_at lw_m4 94 rfl) rfl
theorem q900 : (Jvm.Cond.code ({ cls := "java/lang/AbstractStringBuilder", name := "newCapacity", desc := "(I)I" } : Jvm.MethodName) prog_17_method_10_code (6 : Nat) (Option.some Jvm.ClassFile.FieldType.int)) ∈ lw_all := lw_g (lw_at lw_m4 95 rfl) rfl
theorem q901 : (Jvm.Cond.methodLink "java/lang/AbstractStringBuilder" (114 : Nat) ({ cls := "jdk/internal/util/ArraysSupport", name := "newLength", desc := "(III)I" } : Jvm.MethodName)) ∈ lw_all := lw_g (lw_at lw_m4 96 rfl) rfl
theorem q902 : (Jvm.Cond.constant "java/lang/AbstractStringBuilder" (39 : Nat) (2147483647 : Int32)) ∈ lw_all := lw_g (lw_at lw_m4 97 rfl) rfl
theorem q903 : (Jvm.Cond.methodLink "java/lang/AbstractStringBuilder" (108 : Nat) ({ cls := "java/util/Arrays", name := "copyOf", desc := "([BI)[B" } : Jvm.MethodName)) ∈ lw_all := lw_g (lw_at lw_m4 98 rfl) rfl
theorem q913 : (Jvm.Cond.methodLink "java/lang/AbstractStringBuilder" (226 : Nat) ({ cls := "java/lang/StringUTF16", name := "putCharsAt", desc := "([BICCCC)I" } : Jvm.MethodName)) ∈ lw_all := lw_g (lw_at lw_m4 108 rfl) rfl
theorem q925 : (Jvm.Cond.methodLink "java/lang/AbstractStringBuilder" (32 : Nat) ({ cls := "java/lang/String", name := "length", desc := "()I" } : Jvm.MethodName)) ∈ lw_all := lw_g (lw_at lw_m4 120 rfl) rfl
theorem q929 : (Jvm.Cond.methodLink "java/lang/AbstractStringBuilder" (208 : Nat) ({ cls := "java/lang/AbstractStringBuilder", name := "putStringAt", desc := "(ILjava/lang/String;)V" } : Jvm.MethodName)) ∈ lw_all := lw_g (lw_at lw_m4 124 rfl) rfl
theorem q930 : (Jvm.Cond.privateMethod ({ cls := "java/lang/AbstractStringBuilder", name := "putStringAt", desc := "(ILjava/lang/String;)V" } : Jvm.MethodName)) ∈ lw_tbl := lw_at lw_m4 125 rfl
theorem q931 : (Jvm.Cond.instanceMethod ({ cls := "java/lang/AbstractStringBuilder", name := "putStringAt", desc := "(ILjava/lang/String;)V" } : Jvm.MethodName)) ∈ lw_all := lw_g (lw_at lw_m4 126 rfl) rfl
theorem q932 : (Jvm.Cond.code ({ cls := "java/lang/AbstractStringBuilder", name := "putStringAt", desc := "(ILjava/lang/String;)V" } : Jvm.MethodName) prog_17_method_73_code (3 : Nat) (Option.none : Option Jvm.ClassFile.FieldType)) ∈ lw_all := lw_g (lw_at lw_m4 127 rfl) rfl
theorem q933 : (Jvm.Cond.methodLink "java/lang/AbstractStringBuilder" (397 : Nat) ({ cls := "java/lang/AbstractStringBuilder", name := "inflateIfNeededFor", desc := "(Ljava/lang/String;)V" } : Jvm.MethodName)) ∈ lw_all := lw_g (lw_at lw_m4 128 rfl) rfl
theorem q934 : (Jvm.Cond.privateMethod ({ cls := "java/lang/AbstractStringBuilder", name := "inflateIfNeededFor", desc := "(Ljava/lang/String;)V" } : Jvm.MethodName)) ∈ lw_tbl := lw_at lw_m4 129 rfl
theorem q935 : (Jvm.Cond.instanceMethod ({ cls := "java/lang/AbstractStringBuilder", name := "inflateIfNeededFor", desc := "(Ljava/lang/String;)V" } : Jvm.MethodName)) ∈ lw_all := lw_g (lw_at lw_m4 130 rfl) rfl
theorem q936 : (Jvm.Cond.code ({ cls := "java/lang/AbstractStringBuilder", name := "inflateIfNeededFor", desc := "(Ljava/lang/String;)V" } : Jvm.MethodName) prog_17_method_71_code (2 : Nat) (Option.none : Option Jvm.ClassFile.FieldType)) ∈ lw_all := lw_g (lw_at lw_m4 131 rfl) rfl
theorem q937 : (Jvm.Cond.methodLink "java/lang/AbstractStringBuilder" (40 : Nat) ({ cls := "java/lang/String", name := "coder", desc := "()B" } : Jvm.MethodName)) ∈ lw_all := lw_g (lw_at lw_m4 132 rfl) rfl
theorem q938 : (Jvm.Cond.methodLink "java/lang/AbstractStringBuilder" (195 : Nat) ({ cls := "java/lang/AbstractStringBuilder", name := "inflate", desc := "()V" } : Jvm.MethodName)) ∈ lw_all := lw_g (lw_at lw_m4 133 rfl) rfl
theorem q939 : (Jvm.Cond.privateMethod ({ cls := "java/lang/AbstractStringBuilder", name := "inflate", desc := "()V" } : Jvm.MethodName)) ∈ lw_tbl := lw_at lw_m4 134 rfl
theorem q940 : (Jvm.Cond.instanceMethod ({ cls := "java/lang/AbstractStringBuilder", name := "inflate", desc := "()V" } : Jvm.MethodName)) ∈ lw_all := lw_g (lw_at lw_m4 135 rfl) rfl
theorem q941 : (Jvm.Cond.code ({ cls := "java/lang/AbstractStringBuilder", name := "inflate", desc := "()V" } : Jvm.MethodName) prog_17_method_11_code (2 : Nat) (Option.none : Option Jvm.ClassFile.FieldType)) ∈ lw_all := lw_g (lw_at lw_m4 136 rfl) rfl
theorem q942 : (Jvm.Cond.methodLink "java/lang/AbstractStringBuilder" (125 : Nat) ({ cls := "java/lang/StringLatin1", name := "inflate", desc := "([BI[BII)V" } : Jvm.MethodName)) ∈ lw_all := lw_g (lw_at lw_m4 137 rfl) rfl
theorem q957 : (Jvm.Cond.methodLink "java/lang/AbstractStringBuilder" (399 : Nat) ({ cls := "java/lang/String", name := "getBytes", desc := "([BIB)V" } : Jvm.MethodName)) ∈ lw_all := lw_g (lw_at lw_m4 152 rfl) rfl
theorem q968 : (Jvm.Cond.instanceMethod ({ cls := "java/lang/AbstractStringBuilder", name := "append", desc := "(I)Ljava/lang/AbstractStringBuilder;" } : Jvm.MethodName)) ∈ lw_all := lw_g (lw_at lw_m4 163 rfl) rfl
theorem q969 : (Jvm.Cond.code ({ cls := "java/lang/AbstractStringBuilder", name := "append", desc := "(I)Ljava/lang/AbstractStringBuilder;" } : Jvm.MethodName) prog_17_method_32_code (4 : Nat) (Option.some (Jvm.ClassFile.FieldType.object "java/lang/AbstractStringBuilder"))) ∈ lw_all := lw_g (lw_at lw_m4 164 rfl) rfl
theorem q970 : (Jvm.Cond.methodLink "java/lang/AbstractStringBuilder" (245 : Nat) ({ cls := "java/lang/Integer", name := "stringSize", desc := "(I)I" } : Jvm.MethodName)) ∈ lw_all := lw_g (lw_at lw_m4 165 rfl) rfl
theorem q973 : (Jvm.Cond.methodLink "java/lang/AbstractStringBuilder" (248 : Nat) ({ cls := "java/lang/Integer", name := "getChars", desc := "(II[B)I" } : Jvm.MethodName)) ∈ lw_all := lw_g (lw_at lw_m4 168 rfl) rfl
theorem q980 : (Jvm.Cond.methodLink "java/lang/AbstractStringBuilder" (251 : Nat) ({ cls := "java/lang/StringUTF16", name := "getChars", desc := "(III[B)I" } : Jvm.MethodName)) ∈ lw_all := lw_g (lw_at lw_m4 175 rfl) rfl
theorem q1002 : (Jvm.Cond.instanceMethod ({ cls := "java/lang/AbstractStringBuilder", name := "getValue", desc := "()[B" } : Jvm.MethodName)) ∈ lw_all := lw_g (lw_at lw_m4 197 rfl) rfl
theorem q1003 : (Jvm.Cond.sameMethod "java/lang/AbstractStringBuilder" "java/lang/AbstractStringBuilder" "getValue" "()[B") ∈ lw_all := lw_g (lw_at lw_m4 198 rfl) rfl
theorem q1005 : (Jvm.Cond.code ({ cls := "java/lang/AbstractStringBuilder", name := "getValue", desc := "()[B" } : Jvm.MethodName) prog_17_method_64_code (1 : Nat) (Option.some (Jvm.ClassFile.FieldType.array Jvm.ClassFile.FieldType.byte))) ∈ lw_all := lw_g (lw_at lw_m4 200 rfl) rfl
theorem q1070 : (Jvm.Cond.methodLink "java/lang/AbstractStringBuilder" (133 : Nat) ({ cls := "java/lang/StringLatin1", name := "fillNull", desc := "([BII)V" } : Jvm.MethodName)) ∈ lw_all := lw_g (lw_at lw_m5 25 rfl) rfl
theorem q1105 : (Jvm.Cond.methodLink "java/lang/AbstractStringBuilder" (137 : Nat) ({ cls := "java/lang/StringUTF16", name := "fillNull", desc := "([BII)V" } : Jvm.MethodName)) ∈ lw_all := lw_g (lw_at lw_m5 60 rfl) rfl
theorem q1121 : (Jvm.Cond.instanceMethod ({ cls := "java/lang/AbstractStringBuilder", name := "charAt", desc := "(I)C" } : Jvm.MethodName)) ∈ lw_all := lw_g (lw_at lw_m5 76 rfl) rfl
theorem q1122 : (Jvm.Cond.code ({ cls := "java/lang/AbstractStringBuilder", name := "charAt", desc := "(I)C" } : Jvm.MethodName) prog_17_method_14_code (5 : Nat) (Option.some Jvm.ClassFile.FieldType.char)) ∈ lw_all := lw_g (lw_at lw_m5 77 rfl) rfl
theorem q1123 : (Jvm.Cond.methodLink "java/lang/AbstractStringBuilder" (138 : Nat) ({ cls := "java/lang/Math", name := "min", desc := "(II)I" } : Jvm.MethodName)) ∈ lw_all := lw_g (lw_at lw_m5 78 rfl) rfl
theorem q1124 : (Jvm.Cond.methodLink "java/lang/AbstractStringBuilder" (144 : Nat) ({ cls := "java/lang/String", name := "checkIndex", desc := "(II)V" } : Jvm.MethodName)) ∈ lw_all := lw_g (lw_at lw_m5 79 rfl) rfl
theorem q1128 : (Jvm.Cond.methodLink "java/lang/AbstractStringBuilder" (148 : Nat) ({ cls := "java/lang/StringUTF16", name := "getChar", desc := "([BI)C" } : Jvm.MethodName)) ∈ lw_all := lw_g (lw_at lw_m5 83 rfl) rfl
theorem q1815 : (Jvm.Cond.instanceMethod ({ cls := "java/lang/AbstractStringBuilder", name := "append", desc := "(C)Ljava/lang/AbstractStringBuilder;" } : Jvm.MethodName)) ∈ lw_all := lw_g (lw_at lw_m8 50 rfl) rfl
theorem q1816 : (Jvm.Cond.code ({ cls := "java/lang/AbstractStringBuilder", name := "append", desc := "(C)Ljava/lang/AbstractStringBuilder;" } : Jvm.MethodName) prog_17_method_31_code (2 : Nat) (Option.some (Jvm.ClassFile.FieldType.object "java/lang/AbstractStringBuilder"))) ∈ lw_all := lw_g (lw_at lw_m8 51 rfl) rfl
theorem q1817 : (Jvm.Cond.methodLink "java/lang/AbstractStringBuilder" (191 : Nat) ({ cls := "java/lang/StringLatin1", name := "canEncode", desc := "(C)Z" } : Jvm.MethodName)) ∈ lw_all := lw_g (lw_at lw_m8 52 rfl) rfl
theorem q1820 : (Jvm.Cond.methodLink "java/lang/AbstractStringBuilder" (197 : Nat) ({ cls := "java/lang/StringUTF16", name := "putCharSB", desc := "([BII)V" } : Jvm.MethodName)) ∈ lw_all := lw_g (lw_at lw_m8 55 rfl) rfl
theorem q2380 : (Jvm.Cond.sameMethod "java/lang/AbstractStringBuilder" "java/lang/AbstractStringBuilder" "compareTo" "(Ljava/lang/AbstractStringBuilder;)I") ∈ lw_all := lw_g (lw_at lw_m10 135 rfl) rfl
theorem q2381 : (Jvm.Cond.sameMethod "java/lang/AbstractStringBuilder" "java/lang/AbstractStringBuilder" "length" "()I") ∈ lw_all := lw_g (lw_at lw_m10 136 rfl) rfl
theorem q2382 : (Jvm.Cond.sameMethod "java/lang/AbstractStringBuilder" "java/lang/AbstractStringBuilder" "setLength" "(I)V") ∈ lw_all := lw_g (lw_at lw_m10 137 rfl) rfl
theorem q2383 : (Jvm.Cond.sameMethod "java/lang/AbstractStringBuilder" "java/lang/AbstractStringBuilder" "append" "(Ljava/lang/String;)Ljava/lang/AbstractStringBuilder;") ∈ lw_all := lw_g (lw_at lw_m10 138 rfl) rfl
theorem q2384 : (Jvm.Cond.sameMethod "java/lang/AbstractStringBuilder" "java/lang/AbstractStringBuilder" "appendNull" "()Ljava/lang/AbstractStringBuilder;") ∈ lw_all := lw_g (lw_at lw_m10 139 rfl) rfl
theorem q2385 : (Jvm.Cond.sameMethod "java/lang/AbstractStringBuilder" "java/lang/AbstractStringBuilder" "ensureCapacityInternal" "(I)V") ∈ lw_all := lw_g (lw_at lw_m10 140 rfl) rfl
theorem q2386 : (Jvm.Cond.sameMethod "java/lang/AbstractStringBuilder" "java/lang/AbstractStringBuilder" "newCapacity" "(I)I") ∈ lw_all := lw_g (lw_at lw_m10 141 rfl) rfl
theorem q2387 : (Jvm.Cond.sameMethod "java/lang/AbstractStringBuilder" "java/lang/AbstractStringBuilder" "putStringAt" "(ILjava/lang/String;)V") ∈ lw_all := lw_g (lw_at lw_m10 142 rfl) rfl
theorem q2388 : (Jvm.Cond.sameMethod "java/lang/AbstractStringBuilder" "java/lang/AbstractStringBuilder" "inflateIfNeededFor" "(Ljava/lang/String;)V") ∈ lw_all := lw_g (lw_at lw_m10 143 rfl) rfl
theorem q2389 : (Jvm.Cond.sameMethod "java/lang/AbstractStringBuilder" "java/lang/AbstractStringBuilder" "inflate" "()V") ∈ lw_all := lw_g (lw_at lw_m10 144 rfl) rfl
theorem q2390 : (Jvm.Cond.sameMethod "java/lang/AbstractStringBuilder" "java/lang/AbstractStringBuilder" "append" "(I)Ljava/lang/AbstractStringBuilder;") ∈ lw_all := lw_g (lw_at lw_m10 145 rfl) rfl
theorem q2392 : (Jvm.Cond.sameMethod "java/lang/AbstractStringBuilder" "java/lang/AbstractStringBuilder" "charAt" "(I)C") ∈ lw_all := lw_g (lw_at lw_m10 147 rfl) rfl
theorem q2393 : (Jvm.Cond.sameMethod "java/lang/AbstractStringBuilder" "java/lang/AbstractStringBuilder" "append" "(C)Ljava/lang/AbstractStringBuilder;") ∈ lw_all := lw_g (lw_at lw_m10 148 rfl) rfl
/-! java/lang/StringBuilder -/
set_option maxRecDepth 100000
def RJ3 : String := "java/lang/StringBuilder"
def TJ3 : u_T := fun k => match k with
  | 0 => ("java/lang/AbstractStringBuilder", "value", "[B", false)
  | 1 => ("java/lang/AbstractStringBuilder", "coder", "B", false)
  | 2 => ("java/lang/AbstractStringBuilder", "maybeLatin1", "Z", false)
  | _ => ("java/lang/AbstractStringBuilder", "count", "I", false)
def tyJ3 : Nat → FieldType := fun k => match k with
  | 0 => .array .byte
  | 1 => .byte
  | 2 => .boolean
  | _ => .int
abbrev wsJ30 : List Cond := u_ws RJ3 TJ3 4
theorem nmJ3 : ∀ a, a < 4 → ∀ b, b < 4 → a ≠ b → (TJ3 a).2.1 ≠ (TJ3 b).2.1 := by decide +kernel
theorem tyJ3_ok : ∀ k, k < 4 → parseFieldDescriptor (TJ3 k).2.2.1 = some (tyJ3 k) := by decide +kernel
abbrev cJ3_init : ByteArray := prog_35_method_1_code
def yJ3_init : MethodName := ⟨RJ3, "<init>", "()V"⟩
def dkwJ3_init_0 : List UInt8 := [42, 16, 16, 183, 0, 1, 177]
abbrev dktJ3_init_0 : List UInt8 := dkwJ3_init_0 ++ []
theorem dksJ3_init_0 : cJ3_init.data.toList.drop 0 = dktJ3_init_0 := by decide +kernel
theorem dJ3_init_0 : decode cJ3_init 0 = .ok (.aload_n 0, 1) := dk_42 (dk_at dksJ3_init_0 0 rfl rfl)
theorem dJ3_init_1 : decode cJ3_init 1 = .ok (.bipush 16, 2) := dk_16 16 (dk_at dksJ3_init_0 1 rfl rfl)
theorem dJ3_init_3 : decode cJ3_init 3 = .ok (.invokespecial 1, 3) := dk_183 0 1 (dk_at dksJ3_init_0 3 rfl rfl)
theorem dJ3_init_6 : decode cJ3_init 6 = .ok (.return_, 1) := dk_177 (dk_at dksJ3_init_0 6 rfl rfl)
abbrev cJ3_compareTo : ByteArray := prog_35_method_97_code
def yJ3_compareTo : MethodName := ⟨RJ3, "compareTo", "(Ljava/lang/Object;)I"⟩
def dkwJ3_compareTo_0 : List UInt8 := [42, 43, 192, 0, 24, 182, 1, 90, 172]
abbrev dktJ3_compareTo_0 : List UInt8 := dkwJ3_compareTo_0 ++ []
theorem dksJ3_compareTo_0 : cJ3_compareTo.data.toList.drop 0 = dktJ3_compareTo_0 := by decide +kernel
theorem dJ3_compareTo_0 : decode cJ3_compareTo 0 = .ok (.aload_n 0, 1) := dk_42 (dk_at dksJ3_compareTo_0 0 rfl rfl)
theorem dJ3_compareTo_1 : decode cJ3_compareTo 1 = .ok (.aload_n 1, 1) := dk_43 (dk_at dksJ3_compareTo_0 1 rfl rfl)
theorem dJ3_compareTo_2 : decode cJ3_compareTo 2 = .ok (.checkcast 24, 3) := dk_192 0 24 (dk_at dksJ3_compareTo_0 2 rfl rfl)
theorem dJ3_compareTo_5 : decode cJ3_compareTo 5 = .ok (.invokevirtual 346, 3) := dk_182 1 90 (dk_at dksJ3_compareTo_0 5 rfl rfl)
theorem dJ3_compareTo_8 : decode cJ3_compareTo 8 = .ok (.ireturn, 1) := dk_172 (dk_at dksJ3_compareTo_0 8 rfl rfl)
abbrev cJ3_compareTo_2 : ByteArray := prog_35_method_5_code
def yJ3_compareTo_2 : MethodName := ⟨RJ3, "compareTo", "(Ljava/lang/StringBuilder;)I"⟩
def dkwJ3_compareTo_2_0 : List UInt8 := [42, 43, 183, 0, 13, 172]
abbrev dktJ3_compareTo_2_0 : List UInt8 := dkwJ3_compareTo_2_0 ++ []
theorem dksJ3_compareTo_2_0 : cJ3_compareTo_2.data.toList.drop 0 = dktJ3_compareTo_2_0 := by decide +kernel
theorem dJ3_compareTo_2_0 : decode cJ3_compareTo_2 0 = .ok (.aload_n 0, 1) := dk_42 (dk_at dksJ3_compareTo_2_0 0 rfl rfl)
theorem dJ3_compareTo_2_1 : decode cJ3_compareTo_2 1 = .ok (.aload_n 1, 1) := dk_43 (dk_at dksJ3_compareTo_2_0 1 rfl rfl)
theorem dJ3_compareTo_2_2 : decode cJ3_compareTo_2 2 = .ok (.invokespecial 13, 3) := dk_183 0 13 (dk_at dksJ3_compareTo_2_0 2 rfl rfl)
theorem dJ3_compareTo_2_5 : decode cJ3_compareTo_2 5 = .ok (.ireturn, 1) := dk_172 (dk_at dksJ3_compareTo_2_0 5 rfl rfl)
abbrev cJ3_length : ByteArray := prog_35_method_93_code
def yJ3_length : MethodName := ⟨RJ3, "length", "()I"⟩
theorem dJ3_length_0 : decode cJ3_length 0 = .ok (.aload_n 0, 1) := by decide +kernel
theorem dJ3_length_1 : decode cJ3_length 1 = .ok (.invokespecial 343, 3) := by decide +kernel
theorem dJ3_length_4 : decode cJ3_length 4 = .ok (.ireturn, 1) := by decide +kernel
abbrev cJ3_setLength : ByteArray := prog_35_method_89_code
def yJ3_setLength : MethodName := ⟨RJ3, "setLength", "(I)V"⟩
def dkwJ3_setLength_0 : List UInt8 := [42, 27, 183, 1, 77, 177]
abbrev dktJ3_setLength_0 : List UInt8 := dkwJ3_setLength_0 ++ []
theorem dksJ3_setLength_0 : cJ3_setLength.data.toList.drop 0 = dktJ3_setLength_0 := by decide +kernel
theorem dJ3_setLength_0 : decode cJ3_setLength 0 = .ok (.aload_n 0, 1) := dk_42 (dk_at dksJ3_setLength_0 0 rfl rfl)
theorem dJ3_setLength_1 : decode cJ3_setLength 1 = .ok (.iload_n 1, 1) := dk_27 (dk_at dksJ3_setLength_0 1 rfl rfl)
theorem dJ3_setLength_2 : decode cJ3_setLength 2 = .ok (.invokespecial 333, 3) := dk_183 1 77 (dk_at dksJ3_setLength_0 2 rfl rfl)
theorem dJ3_setLength_5 : decode cJ3_setLength 5 = .ok (.return_, 1) := dk_177 (dk_at dksJ3_setLength_0 5 rfl rfl)
abbrev cJ3_append : ByteArray := prog_35_method_7_code
def yJ3_append : MethodName := ⟨RJ3, "append", "(Ljava/lang/String;)Ljava/lang/StringBuilder;"⟩
def dkwJ3_append_0 : List UInt8 := [42, 43, 183, 0, 29, 87, 42, 176]
abbrev dktJ3_append_0 : List UInt8 := dkwJ3_append_0 ++ []
theorem dksJ3_append_0 : cJ3_append.data.toList.drop 0 = dktJ3_append_0 := by decide +kernel
theorem dJ3_append_0 : decode cJ3_append 0 = .ok (.aload_n 0, 1) := dk_42 (dk_at dksJ3_append_0 0 rfl rfl)
theorem dJ3_append_1 : decode cJ3_append 1 = .ok (.aload_n 1, 1) := dk_43 (dk_at dksJ3_append_0 1 rfl rfl)
theorem dJ3_append_2 : decode cJ3_append 2 = .ok (.invokespecial 29, 3) := dk_183 0 29 (dk_at dksJ3_append_0 2 rfl rfl)
theorem dJ3_append_5 : decode cJ3_append 5 = .ok (.pop, 1) := dk_87 (dk_at dksJ3_append_0 5 rfl rfl)
theorem dJ3_append_6 : decode cJ3_append 6 = .ok (.aload_n 0, 1) := dk_42 (dk_at dksJ3_append_0 6 rfl rfl)
theorem dJ3_append_7 : decode cJ3_append 7 = .ok (.areturn, 1) := dk_176 (dk_at dksJ3_append_0 7 rfl rfl)
abbrev cJ3_append_2 : ByteArray := prog_35_method_15_code
def yJ3_append_2 : MethodName := ⟨RJ3, "append", "(I)Ljava/lang/StringBuilder;"⟩
def dkwJ3_append_2_0 : List UInt8 := [42, 27, 183, 0, 53, 87, 42, 176]
abbrev dktJ3_append_2_0 : List UInt8 := dkwJ3_append_2_0 ++ []
theorem dksJ3_append_2_0 : cJ3_append_2.data.toList.drop 0 = dktJ3_append_2_0 := by decide +kernel
theorem dJ3_append_2_0 : decode cJ3_append_2 0 = .ok (.aload_n 0, 1) := dk_42 (dk_at dksJ3_append_2_0 0 rfl rfl)
theorem dJ3_append_2_1 : decode cJ3_append_2 1 = .ok (.iload_n 1, 1) := dk_27 (dk_at dksJ3_append_2_0 1 rfl rfl)
theorem dJ3_append_2_2 : decode cJ3_append_2 2 = .ok (.invokespecial 53, 3) := dk_183 0 53 (dk_at dksJ3_append_2_0 2 rfl rfl)
theorem dJ3_append_2_5 : decode cJ3_append_2 5 = .ok (.pop, 1) := dk_87 (dk_at dksJ3_append_2_0 5 rfl rfl)
theorem dJ3_append_2_6 : decode cJ3_append_2 6 = .ok (.aload_n 0, 1) := dk_42 (dk_at dksJ3_append_2_0 6 rfl rfl)
theorem dJ3_append_2_7 : decode cJ3_append_2 7 = .ok (.areturn, 1) := dk_176 (dk_at dksJ3_append_2_0 7 rfl rfl)
abbrev cJ3_toString : ByteArray := prog_35_method_42_code
def yJ3_toString : MethodName := ⟨RJ3, "toString", "()Ljava/lang/String;"⟩
def dkwJ3_toString_0 : List UInt8 := [187, 0, 18, 89, 42, 183, 0, 137, 176]
abbrev dktJ3_toString_0 : List UInt8 := dkwJ3_toString_0 ++ []
theorem dksJ3_toString_0 : cJ3_toString.data.toList.drop 0 = dktJ3_toString_0 := by decide +kernel
theorem dJ3_toString_0 : decode cJ3_toString 0 = .ok (.new 18, 3) := dk_187 0 18 (dk_at dksJ3_toString_0 0 rfl rfl)
theorem dJ3_toString_3 : decode cJ3_toString 3 = .ok (.dup, 1) := dk_89 (dk_at dksJ3_toString_0 3 rfl rfl)
theorem dJ3_toString_4 : decode cJ3_toString 4 = .ok (.aload_n 0, 1) := dk_42 (dk_at dksJ3_toString_0 4 rfl rfl)
theorem dJ3_toString_5 : decode cJ3_toString 5 = .ok (.invokespecial 137, 3) := dk_183 0 137 (dk_at dksJ3_toString_0 5 rfl rfl)
theorem dJ3_toString_8 : decode cJ3_toString 8 = .ok (.areturn, 1) := dk_176 (dk_at dksJ3_toString_0 8 rfl rfl)
abbrev cJ3_charAt : ByteArray := prog_35_method_88_code
def yJ3_charAt : MethodName := ⟨RJ3, "charAt", "(I)C"⟩
def dkwJ3_charAt_0 : List UInt8 := [42, 27, 183, 1, 73, 172]
abbrev dktJ3_charAt_0 : List UInt8 := dkwJ3_charAt_0 ++ []
theorem dksJ3_charAt_0 : cJ3_charAt.data.toList.drop 0 = dktJ3_charAt_0 := by decide +kernel
theorem dJ3_charAt_0 : decode cJ3_charAt 0 = .ok (.aload_n 0, 1) := dk_42 (dk_at dksJ3_charAt_0 0 rfl rfl)
theorem dJ3_charAt_1 : decode cJ3_charAt 1 = .ok (.iload_n 1, 1) := dk_27 (dk_at dksJ3_charAt_0 1 rfl rfl)
theorem dJ3_charAt_2 : decode cJ3_charAt 2 = .ok (.invokespecial 329, 3) := dk_183 1 73 (dk_at dksJ3_charAt_0 2 rfl rfl)
theorem dJ3_charAt_5 : decode cJ3_charAt 5 = .ok (.ireturn, 1) := dk_172 (dk_at dksJ3_charAt_0 5 rfl rfl)
abbrev cJ3_append_3 : ByteArray := prog_35_method_14_code
def yJ3_append_3 : MethodName := ⟨RJ3, "append", "(C)Ljava/lang/StringBuilder;"⟩
def dkwJ3_append_3_0 : List UInt8 := [42, 27, 183, 0, 50, 87, 42, 176]
abbrev dktJ3_append_3_0 : List UInt8 := dkwJ3_append_3_0 ++ []
theorem dksJ3_append_3_0 : cJ3_append_3.data.toList.drop 0 = dktJ3_append_3_0 := by decide +kernel
theorem dJ3_append_3_0 : decode cJ3_append_3 0 = .ok (.aload_n 0, 1) := dk_42 (dk_at dksJ3_append_3_0 0 rfl rfl)
theorem dJ3_append_3_1 : decode cJ3_append_3 1 = .ok (.iload_n 1, 1) := dk_27 (dk_at dksJ3_append_3_0 1 rfl rfl)
theorem dJ3_append_3_2 : decode cJ3_append_3 2 = .ok (.invokespecial 50, 3) := dk_183 0 50 (dk_at dksJ3_append_3_0 2 rfl rfl)
theorem dJ3_append_3_5 : decode cJ3_append_3 5 = .ok (.pop, 1) := dk_87 (dk_at dksJ3_append_3_0 5 rfl rfl)
theorem dJ3_append_3_6 : decode cJ3_append_3 6 = .ok (.aload_n 0, 1) := dk_42 (dk_at dksJ3_append_3_0 6 rfl rfl)
theorem dJ3_append_3_7 : decode cJ3_append_3 7 = .ok (.areturn, 1) := dk_176 (dk_at dksJ3_append_3_0 7 rfl rfl)
theorem q90 : (Jvm.Cond.initialized "java/lang/StringBuilder") ∈ lw_all := lw_g (lw_at lw_m1 5 rfl) rfl
theorem q161 : (Jvm.Cond.instantiable "java/lang/StringBuilder" (4 : Nat)) ∈ lw_all := lw_g (lw_at lw_m1 76 rfl) rfl
theorem q163 : (Jvm.Cond.instanceMethod ({ cls := "java/lang/StringBuilder", name := "<init>", desc := "()V" } : Jvm.MethodName)) ∈ lw_all := lw_g (lw_at lw_m1 78 rfl) rfl
theorem q164 : (Jvm.Cond.code ({ cls := "java/lang/StringBuilder", name := "<init>", desc := "()V" } : Jvm.MethodName) prog_35_method_1_code (1 : Nat) (Option.none : Option Jvm.ClassFile.FieldType)) ∈ lw_all := lw_g (lw_at lw_m1 79 rfl) rfl
theorem q165 : (Jvm.Cond.methodLink "java/lang/StringBuilder" (1 : Nat) ({ cls := "java/lang/AbstractStringBuilder", name := "<init>", desc := "(I)V" } : Jvm.MethodName)) ∈ lw_all := lw_g (lw_at lw_m1 80 rfl) rfl
theorem q183 : (Jvm.Cond.lays "java/lang/StringBuilder" "java/lang/AbstractStringBuilder" "value" "[B") ∈ lw_all := lw_g (lw_at lw_m1 98 rfl) rfl
theorem q185 : (Jvm.Cond.lays "java/lang/StringBuilder" "java/lang/AbstractStringBuilder" "coder" "B") ∈ lw_all := lw_g (lw_at lw_m1 100 rfl) rfl
theorem q187 : (Jvm.Cond.lays "java/lang/StringBuilder" "java/lang/AbstractStringBuilder" "maybeLatin1" "Z") ∈ lw_all := lw_g (lw_at lw_m1 102 rfl) rfl
theorem q189 : (Jvm.Cond.lays "java/lang/StringBuilder" "java/lang/AbstractStringBuilder" "count" "I") ∈ lw_all := lw_g (lw_at lw_m1 104 rfl) rfl
theorem q191 : (Jvm.Cond.superclass "java/lang/StringBuilder" "java/lang/AbstractStringBuilder") ∈ lw_all := lw_g (lw_at lw_m1 106 rfl) rfl
theorem q381 : (Jvm.Cond.selects "java/lang/StringBuilder" ({ cls := "java/lang/Object", name := "getClass", desc := "()Ljava/lang/Class;" } : Jvm.MethodName) ({ cls := "java/lang/Object", name := "getClass", desc := "()Ljava/lang/Class;" } : Jvm.MethodName)) ∈ lw_all := lw_g (lw_at lw_m2 56 rfl) rfl
theorem q810 : (Jvm.Cond.castable "java/lang/StringBuilder" "java/lang/Comparable") ∈ lw_tbl := lw_at lw_m4 5 rfl
theorem q811 : (Jvm.Cond.selects "java/lang/StringBuilder" ({ cls := "java/lang/Comparable", name := "compareTo", desc := "(Ljava/lang/Object;)I" } : Jvm.MethodName) ({ cls := "java/lang/StringBuilder", name := "compareTo", desc := "(Ljava/lang/Object;)I" } : Jvm.MethodName)) ∈ lw_all := lw_g (lw_at lw_m4 6 rfl) rfl
theorem q812 : (Jvm.Cond.unhidden "java/lang/StringBuilder" "compareTo" "(Ljava/lang/Object;)I") ∈ lw_tbl := lw_at lw_m4 7 rfl
theorem q813 : (Jvm.Cond.instanceMethod ({ cls := "java/lang/StringBuilder", name := "compareTo", desc := "(Ljava/lang/Object;)I" } : Jvm.MethodName)) ∈ lw_all := lw_g (lw_at lw_m4 8 rfl) rfl
theorem q814 : (Jvm.Cond.publicMethod ({ cls := "java/lang/StringBuilder", name := "compareTo", desc := "(Ljava/lang/Object;)I" } : Jvm.MethodName)) ∈ lw_tbl := lw_at lw_m4 9 rfl
theorem q815 : (Jvm.Cond.code ({ cls := "java/lang/StringBuilder", name := "compareTo", desc := "(Ljava/lang/Object;)I" } : Jvm.MethodName) prog_35_method_97_code (2 : Nat) (Option.some Jvm.ClassFile.FieldType.int)) ∈ lw_all := lw_g (lw_at lw_m4 10 rfl) rfl
theorem q816 : (Jvm.Cond.classLink "java/lang/StringBuilder" (24 : Nat) "java/lang/StringBuilder") ∈ lw_all := lw_g (lw_at lw_m4 11 rfl) rfl
theorem q817 : (Jvm.Cond.methodLink "java/lang/StringBuilder" (346 : Nat) ({ cls := "java/lang/StringBuilder", name := "compareTo", desc := "(Ljava/lang/StringBuilder;)I" } : Jvm.MethodName)) ∈ lw_all := lw_g (lw_at lw_m4 12 rfl) rfl
theorem q818 : (Jvm.Cond.instanceMethod ({ cls := "java/lang/StringBuilder", name := "compareTo", desc := "(Ljava/lang/StringBuilder;)I" } : Jvm.MethodName)) ∈ lw_all := lw_g (lw_at lw_m4 13 rfl) rfl
theorem q819 : (Jvm.Cond.selects "java/lang/StringBuilder" ({ cls := "java/lang/StringBuilder", name := "compareTo", desc := "(Ljava/lang/StringBuilder;)I" } : Jvm.MethodName) ({ cls := "java/lang/StringBuilder", name := "compareTo", desc := "(Ljava/lang/StringBuilder;)I" } : Jvm.MethodName)) ∈ lw_all := lw_g (lw_at lw_m4 14 rfl) rfl
theorem q820 : (Jvm.Cond.code ({ cls := "java/lang/StringBuilder", name := "compareTo", desc := "(Ljava/lang/StringBuilder;)I" } : Jvm.MethodName) prog_35_method_5_code (2 : Nat) (Option.some Jvm.ClassFile.FieldType.int)) ∈ lw_all := lw_g (lw_at lw_m4 15 rfl) rfl
theorem q821 : (Jvm.Cond.methodLink "java/lang/StringBuilder" (13 : Nat) ({ cls := "java/lang/AbstractStringBuilder", name := "compareTo", desc := "(Ljava/lang/AbstractStringBuilder;)I" } : Jvm.MethodName)) ∈ lw_all := lw_g (lw_at lw_m4 16 rfl) rfl
theorem q827 : (Jvm.Cond.selects "java/lang/StringBuilder" ({ cls := "java/lang/AbstractStringBuilder", name := "isLatin1", desc := "()Z" } : Jvm.MethodName) ({ cls := "java/lang/AbstractStringBuilder", name := "isLatin1", desc := "()Z" } : Jvm.MethodName)) ∈ lw_all := lw_g (lw_at lw_m4 22 rfl) rfl
theorem q861 : (Jvm.Cond.instanceMethod ({ cls := "java/lang/StringBuilder", name := "length", desc := "()I" } : Jvm.MethodName)) ∈ lw_all := lw_g (lw_at lw_m4 56 rfl) rfl
theorem q862 : (Jvm.Cond.selects "java/lang/StringBuilder" ({ cls := "java/lang/StringBuilder", name := "length", desc := "()I" } : Jvm.MethodName) ({ cls := "java/lang/StringBuilder", name := "length", desc := "()I" } : Jvm.MethodName)) ∈ lw_all := lw_g (lw_at lw_m4 57 rfl) rfl
theorem q863 : (Jvm.Cond.code ({ cls := "java/lang/StringBuilder", name := "length", desc := "()I" } : Jvm.MethodName) prog_35_method_93_code (1 : Nat) (Option.some Jvm.ClassFile.FieldType.int)) ∈ lw_all := lw_g (lw_at lw_m4 58 rfl) rfl
theorem q864 : (Jvm.Cond.methodLink "java/lang/StringBuilder" (343 : Nat) ({ cls := "java/lang/AbstractStringBuilder", name := "length", desc := "()I" } : Jvm.MethodName)) ∈ lw_all := lw_g (lw_at lw_m4 59 rfl) rfl
theorem q868 : (Jvm.Cond.instanceMethod ({ cls := "java/lang/StringBuilder", name := "setLength", desc := "(I)V" } : Jvm.MethodName)) ∈ lw_all := lw_g (lw_at lw_m4 63 rfl) rfl
theorem q869 : (Jvm.Cond.selects "java/lang/StringBuilder" ({ cls := "java/lang/StringBuilder", name := "setLength", desc := "(I)V" } : Jvm.MethodName) ({ cls := "java/lang/StringBuilder", name := "setLength", desc := "(I)V" } : Jvm.MethodName)) ∈ lw_all := lw_g (lw_at lw_m4 64 rfl) rfl
theorem q870 : (Jvm.Cond.code ({ cls := "java/lang/StringBuilder", name := "setLength", desc := "(I)V" } : Jvm.MethodName) prog_35_method_89_code (2 : Nat) (Option.none : Option Jvm.ClassFile.FieldType)) ∈ lw_all := lw_g (lw_at lw_m4 65 rfl) rfl
theorem q871 : (Jvm.Cond.methodLink "java/lang/StringBuilder" (333 : Nat) ({ cls := "java/lang/AbstractStringBuilder", name := "setLength", desc := "(I)V" } : Jvm.MethodName)) ∈ lw_all := lw_g (lw_at lw_m4 66 rfl) rfl
theorem q883 : (Jvm.Cond.instanceMethod ({ cls := "java/lang/StringBuilder", name := "append", desc := "(Ljava/lang/String;)Ljava/lang/StringBuilder;" } : Jvm.MethodName)) ∈ lw_all := lw_g (lw_at lw_m4 78 rfl) rfl
theorem q884 : (Jvm.Cond.selects "java/lang/StringBuilder" ({ cls := "java/lang/StringBuilder", name := "append", desc := "(Ljava/lang/String;)Ljava/lang/StringBuilder;" } : Jvm.MethodName) ({ cls := "java/lang/StringBuilder", name := "append", desc := "(Ljava/lang/String;)Ljava/lang/StringBuilder;" } : Jvm.MethodName)) ∈ lw_all := lw_g (lw_at lw_m4 79 rfl) rfl
theorem q885 : (Jvm.Cond.code ({ cls := "java/lang/StringBuilder", name := "append", desc := "(Ljava/lang/String;)Ljava/lang/StringBuilder;" } : Jvm.MethodName) prog_35_method_7_code (2 : Nat) (Option.some (Jvm.ClassFile.FieldType.object "java/lang/StringBuilder"))) ∈ lw_all := lw_g (lw_at lw_m4 80 rfl) rfl
theorem q886 : (Jvm.Cond.methodLink "java/lang/StringBuilder" (29 : Nat) ({ cls := "java/lang/AbstractStringBuilder", name := "append", desc := "(Ljava/lang/String;)Ljava/lang/AbstractStringBuilder;" } : Jvm.MethodName)) ∈ lw_all := lw_g (lw_at lw_m4 81 rfl) rfl
theorem q964 : (Jvm.Cond.instanceMethod ({ cls := "java/lang/StringBuilder", name := "append", desc := "(I)Ljava/lang/StringBuilder;" } : Jvm.MethodName)) ∈ lw_all := lw_g (lw_at lw_m4 159 rfl) rfl
theorem q965 : (Jvm.Cond.selects "java/lang/StringBuilder" ({ cls := "java/lang/StringBuilder", name := "append", desc := "(I)Ljava/lang/StringBuilder;" } : Jvm.MethodName) ({ cls := "java/lang/StringBuilder", name := "append", desc := "(I)Ljava/lang/StringBuilder;" } : Jvm.MethodName)) ∈ lw_all := lw_g (lw_at lw_m4 160 rfl) rfl
theorem q966 : (Jvm.Cond.code ({ cls := "java/lang/StringBuilder", name := "append", desc := "(I)Ljava/lang/StringBuilder;" } : Jvm.MethodName) prog_35_method_15_code (2 : Nat) (Option.some (Jvm.ClassFile.FieldType.object "java/lang/StringBuilder"))) ∈ lw_all := lw_g (lw_at lw_m4 161 rfl) rfl
theorem q967 : (Jvm.Cond.methodLink "java/lang/StringBuilder" (53 : Nat) ({ cls := "java/lang/AbstractStringBuilder", name := "append", desc := "(I)Ljava/lang/AbstractStringBuilder;" } : Jvm.MethodName)) ∈ lw_all := lw_g (lw_at lw_m4 162 rfl) rfl
theorem q989 : (Jvm.Cond.instanceMethod ({ cls := "java/lang/StringBuilder", name := "toString", desc := "()Ljava/lang/String;" } : Jvm.MethodName)) ∈ lw_all := lw_g (lw_at lw_m4 184 rfl) rfl
theorem q990 : (Jvm.Cond.selects "java/lang/StringBuilder" ({ cls := "java/lang/StringBuilder", name := "toString", desc := "()Ljava/lang/String;" } : Jvm.MethodName) ({ cls := "java/lang/StringBuilder", name := "toString", desc := "()Ljava/lang/String;" } : Jvm.MethodName)) ∈ lw_all := lw_g (lw_at lw_m4 185 rfl) rfl
theorem q991 : (Jvm.Cond.code ({ cls := "java/lang/StringBuilder", name := "toString", desc := "()Ljava/lang/String;" } : Jvm.MethodName) prog_35_method_42_code (1 : Nat) (Option.some (Jvm.ClassFile.FieldType.object "java/lang/String"))) ∈ lw_all := lw_g (lw_at lw_m4 186 rfl) rfl
theorem q992 : (Jvm.Cond.classLink "java/lang/StringBuilder" (18 : Nat) "java/lang/String") ∈ lw_all := lw_g (lw_at lw_m4 187 rfl) rfl
theorem q994 : (Jvm.Cond.methodLink "java/lang/StringBuilder" (137 : Nat) ({ cls := "java/lang/String", name := "<init>", desc := "(Ljava/lang/StringBuilder;)V" } : Jvm.MethodName)) ∈ lw_all := lw_g (lw_at lw_m4 189 rfl) rfl
theorem q1004 : (Jvm.Cond.selects "java/lang/StringBuilder" ({ cls := "java/lang/AbstractStringBuilder", name := "getValue", desc := "()[B" } : Jvm.MethodName) ({ cls := "java/lang/AbstractStringBuilder", name := "getValue", desc := "()[B" } : Jvm.MethodName)) ∈ lw_all := lw_g (lw_at lw_m4 199 rfl) rfl
theorem q1117 : (Jvm.Cond.instanceMethod ({ cls := "java/lang/StringBuilder", name := "charAt", desc := "(I)C" } : Jvm.MethodName)) ∈ lw_all := lw_g (lw_at lw_m5 72 rfl) rfl
theorem q1118 : (Jvm.Cond.selects "java/lang/StringBuilder" ({ cls := "java/lang/StringBuilder", name := "charAt", desc := "(I)C" } : Jvm.MethodName) ({ cls := "java/lang/StringBuilder", name := "charAt", desc := "(I)C" } : Jvm.MethodName)) ∈ lw_all := lw_g (lw_at lw_m5 73 rfl) rfl
theorem q1119 : (Jvm.Cond.code ({ cls := "java/lang/StringBuilder", name := "charAt", desc := "(I)C" } : Jvm.MethodName) prog_35_method_88_code (2 : Nat) (Option.some Jvm.ClassFile.FieldType.char)) ∈ lw_all := lw_g (lw_at lw_m5 74 rfl) rfl
theorem q1120 : (Jvm.Cond.methodLink "java/lang/StringBuilder" (329 : Nat) ({ cls := "java/lang/AbstractStringBuilder", name := "charAt", desc := "(I)C" } : Jvm.MethodName)) ∈ lw_all := lw_g (lw_at lw_m5 75 rfl) rfl
theorem q1669 : (Jvm.Cond.castable "java/lang/StringBuilder" "java/lang/CharSequence") ∈ lw_tbl := lw_at lw_m7 144 rfl
theorem q1670 : (Jvm.Cond.selects "java/lang/StringBuilder" ({ cls := "java/lang/CharSequence", name := "length", desc := "()I" } : Jvm.MethodName) ({ cls := "java/lang/StringBuilder", name := "length", desc := "()I" } : Jvm.MethodName)) ∈ lw_all := lw_g (lw_at lw_m7 145 rfl) rfl
theorem q1671 : (Jvm.Cond.unhidden "java/lang/StringBuilder" "length" "()I") ∈ lw_tbl := lw_at lw_m7 146 rfl
theorem q1672 : (Jvm.Cond.publicMethod ({ cls := "java/lang/StringBuilder", name := "length", desc := "()I" } : Jvm.MethodName)) ∈ lw_tbl := lw_at lw_m7 147 rfl
theorem q1697 : (Jvm.Cond.selects "java/lang/StringBuilder" ({ cls := "java/lang/CharSequence", name := "charAt", desc := "(I)C" } : Jvm.MethodName) ({ cls := "java/lang/StringBuilder", name := "charAt", desc := "(I)C" } : Jvm.MethodName)) ∈ lw_all := lw_g (lw_at lw_m7 172 rfl) rfl
theorem q1698 : (Jvm.Cond.unhidden "java/lang/StringBuilder" "charAt" "(I)C") ∈ lw_tbl := lw_at lw_m7 173 rfl
theorem q1699 : (Jvm.Cond.publicMethod ({ cls := "java/lang/StringBuilder", name := "charAt", desc := "(I)C" } : Jvm.MethodName)) ∈ lw_tbl := lw_at lw_m7 174 rfl
theorem q1811 : (Jvm.Cond.instanceMethod ({ cls := "java/lang/StringBuilder", name := "append", desc := "(C)Ljava/lang/StringBuilder;" } : Jvm.MethodName)) ∈ lw_all := lw_g (lw_at lw_m8 46 rfl) rfl
theorem q1812 : (Jvm.Cond.selects "java/lang/StringBuilder" ({ cls := "java/lang/StringBuilder", name := "append", desc := "(C)Ljava/lang/StringBuilder;" } : Jvm.MethodName) ({ cls := "java/lang/StringBuilder", name := "append", desc := "(C)Ljava/lang/StringBuilder;" } : Jvm.MethodName)) ∈ lw_all := lw_g (lw_at lw_m8 47 rfl) rfl
theorem q1813 : (Jvm.Cond.code ({ cls := "java/lang/StringBuilder", name := "append", desc := "(C)Ljava/lang/StringBuilder;" } : Jvm.MethodName) prog_35_method_14_code (2 : Nat) (Option.some (Jvm.ClassFile.FieldType.object "java/lang/StringBuilder"))) ∈ lw_all := lw_g (lw_at lw_m8 48 rfl) rfl
theorem q1814 : (Jvm.Cond.methodLink "java/lang/StringBuilder" (50 : Nat) ({ cls := "java/lang/AbstractStringBuilder", name := "append", desc := "(C)Ljava/lang/AbstractStringBuilder;" } : Jvm.MethodName)) ∈ lw_all := lw_g (lw_at lw_m8 49 rfl) rfl
theorem q2391 : (Jvm.Cond.selects "java/lang/StringBuilder" ({ cls := "java/lang/AbstractStringBuilder", name := "length", desc := "()I" } : Jvm.MethodName) ({ cls := "java/lang/StringBuilder", name := "length", desc := "()I" } : Jvm.MethodName)) ∈ lw_all := lw_g (lw_at lw_m10 146 rfl) rfl
theorem q2401 : (Jvm.Cond.castable "java/lang/StringBuilder" "java/lang/Object") ∈ lw_tbl := lw_at lw_m10 156 rfl
theorem in_J3 : ∀ w ∈ wsJ30, w ∈ lw_all := lw_in wsJ30 [183, 185, 187, 189] (by decide +kernel) (by decide +kernel)
/-! java/util/Arrays -/
set_option maxRecDepth 100000
def RJ12 : String := "java/util/Arrays"
abbrev cJ12_copyOf : ByteArray := prog_47_method_119_code
def yJ12_copyOf : MethodName := ⟨RJ12, "copyOf", "([Ljava/lang/Object;I)[Ljava/lang/Object;"⟩
def dkwJ12_copyOf_0 : List UInt8 := [42, 27, 42, 182, 0, 86, 184, 1, 44, 176]
abbrev dktJ12_copyOf_0 : List UInt8 := dkwJ12_copyOf_0 ++ []
theorem dksJ12_copyOf_0 : cJ12_copyOf.data.toList.drop 0 = dktJ12_copyOf_0 := by decide +kernel
theorem dJ12_copyOf_0 : decode cJ12_copyOf 0 = .ok (.aload_n 0, 1) := dk_42 (dk_at dksJ12_copyOf_0 0 rfl rfl)
theorem dJ12_copyOf_1 : decode cJ12_copyOf 1 = .ok (.iload_n 1, 1) := dk_27 (dk_at dksJ12_copyOf_0 1 rfl rfl)
theorem dJ12_copyOf_2 : decode cJ12_copyOf 2 = .ok (.aload_n 0, 1) := dk_42 (dk_at dksJ12_copyOf_0 2 rfl rfl)
theorem dJ12_copyOf_3 : decode cJ12_copyOf 3 = .ok (.invokevirtual 86, 3) := dk_182 0 86 (dk_at dksJ12_copyOf_0 3 rfl rfl)
theorem dJ12_copyOf_6 : decode cJ12_copyOf 6 = .ok (.invokestatic 300, 3) := dk_184 1 44 (dk_at dksJ12_copyOf_0 6 rfl rfl)
theorem dJ12_copyOf_9 : decode cJ12_copyOf 9 = .ok (.areturn, 1) := dk_176 (dk_at dksJ12_copyOf_0 9 rfl rfl)
abbrev cJ12_copyOf_2 : ByteArray := prog_47_method_120_code
def yJ12_copyOf_2 : MethodName := ⟨RJ12, "copyOf", "([Ljava/lang/Object;ILjava/lang/Class;)[Ljava/lang/Object;"⟩
def dkwJ12_copyOf_2_1 : List UInt8 := [78, 42, 3, 45, 3, 42, 190, 27, 184, 1, 48, 184, 0, 150, 45, 176]
abbrev dktJ12_copyOf_2_1 : List UInt8 := dkwJ12_copyOf_2_1 ++ []
def dkwJ12_copyOf_2_0 : List UInt8 := [44, 18, 110, 166, 0, 10, 27, 189, 0, 2, 167, 0, 14, 44, 182, 0, 90, 27, 184, 0, 95, 192, 0, 110]
abbrev dktJ12_copyOf_2_0 : List UInt8 := dkwJ12_copyOf_2_0 ++ dktJ12_copyOf_2_1
theorem dksJ12_copyOf_2_0 : cJ12_copyOf_2.data.toList.drop 0 = dktJ12_copyOf_2_0 := by decide +kernel
theorem dksJ12_copyOf_2_1 : cJ12_copyOf_2.data.toList.drop 24 = dktJ12_copyOf_2_1 := dk_seg dksJ12_copyOf_2_0 24 rfl rfl
theorem dJ12_copyOf_2_0 : decode cJ12_copyOf_2 0 = .ok (.aload_n 2, 1) := dk_44 (dk_at dksJ12_copyOf_2_0 0 rfl rfl)
theorem dJ12_copyOf_2_1 : decode cJ12_copyOf_2 1 = .ok (.ldc 110, 2) := dk_18 110 (dk_at dksJ12_copyOf_2_0 1 rfl rfl)
theorem dJ12_copyOf_2_3 : decode cJ12_copyOf_2 3 = .ok (.if_acmp .ne 10, 3) := dk_166 0 10 (dk_at dksJ12_copyOf_2_0 3 rfl rfl)
theorem dJ12_copyOf_2_6 : decode cJ12_copyOf_2 6 = .ok (.iload_n 1, 1) := dk_27 (dk_at dksJ12_copyOf_2_0 6 rfl rfl)
theorem dJ12_copyOf_2_7 : decode cJ12_copyOf_2 7 = .ok (.anewarray 2, 3) := dk_189 0 2 (dk_at dksJ12_copyOf_2_0 7 rfl rfl)
theorem dJ12_copyOf_2_10 : decode cJ12_copyOf_2 10 = .ok (.goto 14, 3) := dk_167 0 14 (dk_at dksJ12_copyOf_2_0 10 rfl rfl)
theorem dJ12_copyOf_2_13 : decode cJ12_copyOf_2 13 = .ok (.aload_n 2, 1) := dk_44 (dk_at dksJ12_copyOf_2_0 13 rfl rfl)
theorem dJ12_copyOf_2_14 : decode cJ12_copyOf_2 14 = .ok (.invokevirtual 90, 3) := dk_182 0 90 (dk_at dksJ12_copyOf_2_0 14 rfl rfl)
theorem dJ12_copyOf_2_17 : decode cJ12_copyOf_2 17 = .ok (.iload_n 1, 1) := dk_27 (dk_at dksJ12_copyOf_2_0 17 rfl rfl)
theorem dJ12_copyOf_2_18 : decode cJ12_copyOf_2 18 = .ok (.invokestatic 95, 3) := dk_184 0 95 (dk_at dksJ12_copyOf_2_0 18 rfl rfl)
theorem dJ12_copyOf_2_21 : decode cJ12_copyOf_2 21 = .ok (.checkcast 110, 3) := dk_192 0 110 (dk_at dksJ12_copyOf_2_0 21 rfl rfl)
theorem dJ12_copyOf_2_24 : decode cJ12_copyOf_2 24 = .ok (.astore_n 3, 1) := dk_78 (dk_at dksJ12_copyOf_2_1 0 rfl rfl)
theorem dJ12_copyOf_2_25 : decode cJ12_copyOf_2 25 = .ok (.aload_n 0, 1) := dk_42 (dk_at dksJ12_copyOf_2_1 1 rfl rfl)
theorem dJ12_copyOf_2_26 : decode cJ12_copyOf_2 26 = .ok (.iconst 0, 1) := dk_3 (dk_at dksJ12_copyOf_2_1 2 rfl rfl)
theorem dJ12_copyOf_2_27 : decode cJ12_copyOf_2 27 = .ok (.aload_n 3, 1) := dk_45 (dk_at dksJ12_copyOf_2_1 3 rfl rfl)
theorem dJ12_copyOf_2_28 : decode cJ12_copyOf_2 28 = .ok (.iconst 0, 1) := dk_3 (dk_at dksJ12_copyOf_2_1 4 rfl rfl)
theorem dJ12_copyOf_2_29 : decode cJ12_copyOf_2 29 = .ok (.aload_n 0, 1) := dk_42 (dk_at dksJ12_copyOf_2_1 5 rfl rfl)
theorem dJ12_copyOf_2_30 : decode cJ12_copyOf_2 30 = .ok (.arraylength, 1) := dk_190 (dk_at dksJ12_copyOf_2_1 6 rfl rfl)
theorem dJ12_copyOf_2_31 : decode cJ12_copyOf_2 31 = .ok (.iload_n 1, 1) := dk_27 (dk_at dksJ12_copyOf_2_1 7 rfl rfl)
theorem dJ12_copyOf_2_32 : decode cJ12_copyOf_2 32 = .ok (.invokestatic 304, 3) := dk_184 1 48 (dk_at dksJ12_copyOf_2_1 8 rfl rfl)
theorem dJ12_copyOf_2_35 : decode cJ12_copyOf_2 35 = .ok (.invokestatic 150, 3) := dk_184 0 150 (dk_at dksJ12_copyOf_2_1 11 rfl rfl)
theorem dJ12_copyOf_2_38 : decode cJ12_copyOf_2 38 = .ok (.aload_n 3, 1) := dk_45 (dk_at dksJ12_copyOf_2_1 14 rfl rfl)
theorem dJ12_copyOf_2_39 : decode cJ12_copyOf_2 39 = .ok (.areturn, 1) := dk_176 (dk_at dksJ12_copyOf_2_1 15 rfl rfl)
abbrev cJ12_copyOf_3 : ByteArray := prog_47_method_121_code
def yJ12_copyOf_3 : MethodName := ⟨RJ12, "copyOf", "([BI)[B"⟩
def dkwJ12_copyOf_3_1 : List UInt8 := [27, 184, 1, 48, 184, 0, 150, 44, 176]
abbrev dktJ12_copyOf_3_1 : List UInt8 := dkwJ12_copyOf_3_1 ++ []
def dkwJ12_copyOf_3_0 : List UInt8 := [27, 42, 190, 160, 0, 11, 42, 182, 1, 54, 192, 1, 55, 176, 27, 188, 8, 77, 42, 3, 44, 3, 42, 190]
abbrev dktJ12_copyOf_3_0 : List UInt8 := dkwJ12_copyOf_3_0 ++ dktJ12_copyOf_3_1
theorem dksJ12_copyOf_3_0 : cJ12_copyOf_3.data.toList.drop 0 = dktJ12_copyOf_3_0 := by decide +kernel
theorem dksJ12_copyOf_3_1 : cJ12_copyOf_3.data.toList.drop 24 = dktJ12_copyOf_3_1 := dk_seg dksJ12_copyOf_3_0 24 rfl rfl
theorem dJ12_copyOf_3_0 : decode cJ12_copyOf_3 0 = .ok (.iload_n 1, 1) := dk_27 (dk_at dksJ12_copyOf_3_0 0 rfl rfl)
theorem dJ12_copyOf_3_1 : decode cJ12_copyOf_3 1 = .ok (.aload_n 0, 1) := dk_42 (dk_at dksJ12_copyOf_3_0 1 rfl rfl)
theorem dJ12_copyOf_3_2 : decode cJ12_copyOf_3 2 = .ok (.arraylength, 1) := dk_190 (dk_at dksJ12_copyOf_3_0 2 rfl rfl)
theorem dJ12_copyOf_3_3 : decode cJ12_copyOf_3 3 = .ok (.if_icmp .ne 11, 3) := dk_160 0 11 (dk_at dksJ12_copyOf_3_0 3 rfl rfl)
theorem dJ12_copyOf_3_6 : decode cJ12_copyOf_3 6 = .ok (.aload_n 0, 1) := dk_42 (dk_at dksJ12_copyOf_3_0 6 rfl rfl)
theorem dJ12_copyOf_3_7 : decode cJ12_copyOf_3 7 = .ok (.invokevirtual 310, 3) := dk_182 1 54 (dk_at dksJ12_copyOf_3_0 7 rfl rfl)
theorem dJ12_copyOf_3_10 : decode cJ12_copyOf_3 10 = .ok (.checkcast 311, 3) := dk_192 1 55 (dk_at dksJ12_copyOf_3_0 10 rfl rfl)
theorem dJ12_copyOf_3_13 : decode cJ12_copyOf_3 13 = .ok (.areturn, 1) := dk_176 (dk_at dksJ12_copyOf_3_0 13 rfl rfl)
theorem dJ12_copyOf_3_14 : decode cJ12_copyOf_3 14 = .ok (.iload_n 1, 1) := dk_27 (dk_at dksJ12_copyOf_3_0 14 rfl rfl)
theorem dJ12_copyOf_3_15 : decode cJ12_copyOf_3 15 = .ok (.newarray .byte, 2) := dk_188_8 (dk_at dksJ12_copyOf_3_0 15 rfl rfl)
theorem dJ12_copyOf_3_17 : decode cJ12_copyOf_3 17 = .ok (.astore_n 2, 1) := dk_77 (dk_at dksJ12_copyOf_3_0 17 rfl rfl)
theorem dJ12_copyOf_3_18 : decode cJ12_copyOf_3 18 = .ok (.aload_n 0, 1) := dk_42 (dk_at dksJ12_copyOf_3_0 18 rfl rfl)
theorem dJ12_copyOf_3_19 : decode cJ12_copyOf_3 19 = .ok (.iconst 0, 1) := dk_3 (dk_at dksJ12_copyOf_3_0 19 rfl rfl)
theorem dJ12_copyOf_3_20 : decode cJ12_copyOf_3 20 = .ok (.aload_n 2, 1) := dk_44 (dk_at dksJ12_copyOf_3_0 20 rfl rfl)
theorem dJ12_copyOf_3_21 : decode cJ12_copyOf_3 21 = .ok (.iconst 0, 1) := dk_3 (dk_at dksJ12_copyOf_3_0 21 rfl rfl)
theorem dJ12_copyOf_3_22 : decode cJ12_copyOf_3 22 = .ok (.aload_n 0, 1) := dk_42 (dk_at dksJ12_copyOf_3_0 22 rfl rfl)
theorem dJ12_copyOf_3_23 : decode cJ12_copyOf_3 23 = .ok (.arraylength, 1) := dk_190 (dk_at dksJ12_copyOf_3_0 23 rfl rfl)
theorem dJ12_copyOf_3_24 : decode cJ12_copyOf_3 24 = .ok (.iload_n 1, 1) := dk_27 (dk_at dksJ12_copyOf_3_1 0 rfl rfl)
theorem dJ12_copyOf_3_25 : decode cJ12_copyOf_3 25 = .ok (.invokestatic 304, 3) := dk_184 1 48 (dk_at dksJ12_copyOf_3_1 1 rfl rfl)
theorem dJ12_copyOf_3_28 : decode cJ12_copyOf_3 28 = .ok (.invokestatic 150, 3) := dk_184 0 150 (dk_at dksJ12_copyOf_3_1 4 rfl rfl)
theorem dJ12_copyOf_3_31 : decode cJ12_copyOf_3 31 = .ok (.aload_n 2, 1) := dk_44 (dk_at dksJ12_copyOf_3_1 7 rfl rfl)
theorem dJ12_copyOf_3_32 : decode cJ12_copyOf_3 32 = .ok (.areturn, 1) := dk_176 (dk_at dksJ12_copyOf_3_1 8 rfl rfl)
abbrev cJ12_copyOfRange : ByteArray := prog_47_method_132_code
def yJ12_copyOfRange : MethodName := ⟨RJ12, "copyOfRange", "([BII)[B"⟩
def dkwJ12_copyOfRange_1 : List UInt8 := [176]
abbrev dktJ12_copyOfRange_1 : List UInt8 := dkwJ12_copyOfRange_1 ++ []
def dkwJ12_copyOfRange_0 : List UInt8 := [27, 154, 0, 9, 28, 42, 190, 159, 0, 10, 42, 27, 28, 184, 1, 83, 176, 42, 182, 1, 54, 192, 1, 55]
abbrev dktJ12_copyOfRange_0 : List UInt8 := dkwJ12_copyOfRange_0 ++ dktJ12_copyOfRange_1
theorem dksJ12_copyOfRange_0 : cJ12_copyOfRange.data.toList.drop 0 = dktJ12_copyOfRange_0 := by decide +kernel
theorem dksJ12_copyOfRange_1 : cJ12_copyOfRange.data.toList.drop 24 = dktJ12_copyOfRange_1 := dk_seg dksJ12_copyOfRange_0 24 rfl rfl
theorem dJ12_copyOfRange_0 : decode cJ12_copyOfRange 0 = .ok (.iload_n 1, 1) := dk_27 (dk_at dksJ12_copyOfRange_0 0 rfl rfl)
theorem dJ12_copyOfRange_1 : decode cJ12_copyOfRange 1 = .ok (.ifCond .ne 9, 3) := dk_154 0 9 (dk_at dksJ12_copyOfRange_0 1 rfl rfl)
theorem dJ12_copyOfRange_4 : decode cJ12_copyOfRange 4 = .ok (.iload_n 2, 1) := dk_28 (dk_at dksJ12_copyOfRange_0 4 rfl rfl)
theorem dJ12_copyOfRange_5 : decode cJ12_copyOfRange 5 = .ok (.aload_n 0, 1) := dk_42 (dk_at dksJ12_copyOfRange_0 5 rfl rfl)
theorem dJ12_copyOfRange_6 : decode cJ12_copyOfRange 6 = .ok (.arraylength, 1) := dk_190 (dk_at dksJ12_copyOfRange_0 6 rfl rfl)
theorem dJ12_copyOfRange_7 : decode cJ12_copyOfRange 7 = .ok (.if_icmp .eq 10, 3) := dk_159 0 10 (dk_at dksJ12_copyOfRange_0 7 rfl rfl)
theorem dJ12_copyOfRange_10 : decode cJ12_copyOfRange 10 = .ok (.aload_n 0, 1) := dk_42 (dk_at dksJ12_copyOfRange_0 10 rfl rfl)
theorem dJ12_copyOfRange_11 : decode cJ12_copyOfRange 11 = .ok (.iload_n 1, 1) := dk_27 (dk_at dksJ12_copyOfRange_0 11 rfl rfl)
theorem dJ12_copyOfRange_12 : decode cJ12_copyOfRange 12 = .ok (.iload_n 2, 1) := dk_28 (dk_at dksJ12_copyOfRange_0 12 rfl rfl)
theorem dJ12_copyOfRange_13 : decode cJ12_copyOfRange 13 = .ok (.invokestatic 339, 3) := dk_184 1 83 (dk_at dksJ12_copyOfRange_0 13 rfl rfl)
theorem dJ12_copyOfRange_16 : decode cJ12_copyOfRange 16 = .ok (.areturn, 1) := dk_176 (dk_at dksJ12_copyOfRange_0 16 rfl rfl)
theorem dJ12_copyOfRange_17 : decode cJ12_copyOfRange 17 = .ok (.aload_n 0, 1) := dk_42 (dk_at dksJ12_copyOfRange_0 17 rfl rfl)
theorem dJ12_copyOfRange_18 : decode cJ12_copyOfRange 18 = .ok (.invokevirtual 310, 3) := dk_182 1 54 (dk_at dksJ12_copyOfRange_0 18 rfl rfl)
theorem dJ12_copyOfRange_21 : decode cJ12_copyOfRange 21 = .ok (.checkcast 311, 3) := dk_192 1 55 (dk_at dksJ12_copyOfRange_0 21 rfl rfl)
theorem dJ12_copyOfRange_24 : decode cJ12_copyOfRange 24 = .ok (.areturn, 1) := dk_176 (dk_at dksJ12_copyOfRange_1 0 rfl rfl)
abbrev cJ12_copyOfRangeByte : ByteArray := prog_47_method_133_code
def yJ12_copyOfRangeByte : MethodName := ⟨RJ12, "copyOfRangeByte", "([BII)[B"⟩
def dkwJ12_copyOfRangeByte_1 : List UInt8 := [184, 1, 48, 184, 0, 150, 25, 4, 176]
abbrev dktJ12_copyOfRangeByte_1 : List UInt8 := dkwJ12_copyOfRangeByte_1 ++ []
def dkwJ12_copyOfRangeByte_0 : List UInt8 := [27, 28, 184, 1, 87, 28, 27, 100, 62, 29, 188, 8, 58, 4, 42, 27, 25, 4, 3, 42, 190, 27, 100, 29]
abbrev dktJ12_copyOfRangeByte_0 : List UInt8 := dkwJ12_copyOfRangeByte_0 ++ dktJ12_copyOfRangeByte_1
theorem dksJ12_copyOfRangeByte_0 : cJ12_copyOfRangeByte.data.toList.drop 0 = dktJ12_copyOfRangeByte_0 := by decide +kernel
theorem dksJ12_copyOfRangeByte_1 : cJ12_copyOfRangeByte.data.toList.drop 24 = dktJ12_copyOfRangeByte_1 := dk_seg dksJ12_copyOfRangeByte_0 24 rfl rfl
theorem dJ12_copyOfRangeByte_0 : decode cJ12_copyOfRangeByte 0 = .ok (.iload_n 1, 1) := dk_27 (dk_at dksJ12_copyOfRangeByte_0 0 rfl rfl)
theorem dJ12_copyOfRangeByte_1 : decode cJ12_copyOfRangeByte 1 = .ok (.iload_n 2, 1) := dk_28 (dk_at dksJ12_copyOfRangeByte_0 1 rfl rfl)
theorem dJ12_copyOfRangeByte_2 : decode cJ12_copyOfRangeByte 2 = .ok (.invokestatic 343, 3) := dk_184 1 87 (dk_at dksJ12_copyOfRangeByte_0 2 rfl rfl)
theorem dJ12_copyOfRangeByte_5 : decode cJ12_copyOfRangeByte 5 = .ok (.iload_n 2, 1) := dk_28 (dk_at dksJ12_copyOfRangeByte_0 5 rfl rfl)
theorem dJ12_copyOfRangeByte_6 : decode cJ12_copyOfRangeByte 6 = .ok (.iload_n 1, 1) := dk_27 (dk_at dksJ12_copyOfRangeByte_0 6 rfl rfl)
theorem dJ12_copyOfRangeByte_7 : decode cJ12_copyOfRangeByte 7 = .ok (.isub, 1) := dk_100 (dk_at dksJ12_copyOfRangeByte_0 7 rfl rfl)
theorem dJ12_copyOfRangeByte_8 : decode cJ12_copyOfRangeByte 8 = .ok (.istore_n 3, 1) := dk_62 (dk_at dksJ12_copyOfRangeByte_0 8 rfl rfl)
theorem dJ12_copyOfRangeByte_9 : decode cJ12_copyOfRangeByte 9 = .ok (.iload_n 3, 1) := dk_29 (dk_at dksJ12_copyOfRangeByte_0 9 rfl rfl)
theorem dJ12_copyOfRangeByte_10 : decode cJ12_copyOfRangeByte 10 = .ok (.newarray .byte, 2) := dk_188_8 (dk_at dksJ12_copyOfRangeByte_0 10 rfl rfl)
theorem dJ12_copyOfRangeByte_12 : decode cJ12_copyOfRangeByte 12 = .ok (.astore 4, 2) := dk_58 4 (dk_at dksJ12_copyOfRangeByte_0 12 rfl rfl)
theorem dJ12_copyOfRangeByte_14 : decode cJ12_copyOfRangeByte 14 = .ok (.aload_n 0, 1) := dk_42 (dk_at dksJ12_copyOfRangeByte_0 14 rfl rfl)
theorem dJ12_copyOfRangeByte_15 : decode cJ12_copyOfRangeByte 15 = .ok (.iload_n 1, 1) := dk_27 (dk_at dksJ12_copyOfRangeByte_0 15 rfl rfl)
theorem dJ12_copyOfRangeByte_16 : decode cJ12_copyOfRangeByte 16 = .ok (.aload 4, 2) := dk_25 4 (dk_at dksJ12_copyOfRangeByte_0 16 rfl rfl)
theorem dJ12_copyOfRangeByte_18 : decode cJ12_copyOfRangeByte 18 = .ok (.iconst 0, 1) := dk_3 (dk_at dksJ12_copyOfRangeByte_0 18 rfl rfl)
theorem dJ12_copyOfRangeByte_19 : decode cJ12_copyOfRangeByte 19 = .ok (.aload_n 0, 1) := dk_42 (dk_at dksJ12_copyOfRangeByte_0 19 rfl rfl)
theorem dJ12_copyOfRangeByte_20 : decode cJ12_copyOfRangeByte 20 = .ok (.arraylength, 1) := dk_190 (dk_at dksJ12_copyOfRangeByte_0 20 rfl rfl)
theorem dJ12_copyOfRangeByte_21 : decode cJ12_copyOfRangeByte 21 = .ok (.iload_n 1, 1) := dk_27 (dk_at dksJ12_copyOfRangeByte_0 21 rfl rfl)
theorem dJ12_copyOfRangeByte_22 : decode cJ12_copyOfRangeByte 22 = .ok (.isub, 1) := dk_100 (dk_at dksJ12_copyOfRangeByte_0 22 rfl rfl)
theorem dJ12_copyOfRangeByte_23 : decode cJ12_copyOfRangeByte 23 = .ok (.iload_n 3, 1) := dk_29 (dk_at dksJ12_copyOfRangeByte_0 23 rfl rfl)
theorem dJ12_copyOfRangeByte_24 : decode cJ12_copyOfRangeByte 24 = .ok (.invokestatic 304, 3) := dk_184 1 48 (dk_at dksJ12_copyOfRangeByte_1 0 rfl rfl)
theorem dJ12_copyOfRangeByte_27 : decode cJ12_copyOfRangeByte 27 = .ok (.invokestatic 150, 3) := dk_184 0 150 (dk_at dksJ12_copyOfRangeByte_1 3 rfl rfl)
theorem dJ12_copyOfRangeByte_30 : decode cJ12_copyOfRangeByte 30 = .ok (.aload 4, 2) := dk_25 4 (dk_at dksJ12_copyOfRangeByte_1 6 rfl rfl)
theorem dJ12_copyOfRangeByte_32 : decode cJ12_copyOfRangeByte 32 = .ok (.areturn, 1) := dk_176 (dk_at dksJ12_copyOfRangeByte_1 8 rfl rfl)
abbrev cJ12_checkLength : ByteArray := prog_47_method_131_code
def yJ12_checkLength : MethodName := ⟨RJ12, "checkLength", "(II)V"⟩
def dkwJ12_checkLength_1 : List UInt8 := [182, 0, 50, 27, 182, 0, 54, 182, 0, 61, 183, 0, 65, 191, 177]
abbrev dktJ12_checkLength_1 : List UInt8 := dkwJ12_checkLength_1 ++ []
def dkwJ12_checkLength_0 : List UInt8 := [27, 26, 162, 0, 35, 187, 0, 43, 89, 187, 0, 45, 89, 183, 0, 47, 26, 182, 0, 54, 19, 1, 81]
abbrev dktJ12_checkLength_0 : List UInt8 := dkwJ12_checkLength_0 ++ dktJ12_checkLength_1
theorem dksJ12_checkLength_0 : cJ12_checkLength.data.toList.drop 0 = dktJ12_checkLength_0 := by decide +kernel
theorem dksJ12_checkLength_1 : cJ12_checkLength.data.toList.drop 23 = dktJ12_checkLength_1 := dk_seg dksJ12_checkLength_0 23 rfl rfl
theorem dJ12_checkLength_0 : decode cJ12_checkLength 0 = .ok (.iload_n 1, 1) := dk_27 (dk_at dksJ12_checkLength_0 0 rfl rfl)
theorem dJ12_checkLength_1 : decode cJ12_checkLength 1 = .ok (.iload_n 0, 1) := dk_26 (dk_at dksJ12_checkLength_0 1 rfl rfl)
theorem dJ12_checkLength_2 : decode cJ12_checkLength 2 = .ok (.if_icmp .ge 35, 3) := dk_162 0 35 (dk_at dksJ12_checkLength_0 2 rfl rfl)
theorem dJ12_checkLength_5 : decode cJ12_checkLength 5 = .ok (.new 43, 3) := dk_187 0 43 (dk_at dksJ12_checkLength_0 5 rfl rfl)
theorem dJ12_checkLength_8 : decode cJ12_checkLength 8 = .ok (.dup, 1) := dk_89 (dk_at dksJ12_checkLength_0 8 rfl rfl)
theorem dJ12_checkLength_9 : decode cJ12_checkLength 9 = .ok (.new 45, 3) := dk_187 0 45 (dk_at dksJ12_checkLength_0 9 rfl rfl)
theorem dJ12_checkLength_12 : decode cJ12_checkLength 12 = .ok (.dup, 1) := dk_89 (dk_at dksJ12_checkLength_0 12 rfl rfl)
theorem dJ12_checkLength_13 : decode cJ12_checkLength 13 = .ok (.invokespecial 47, 3) := dk_183 0 47 (dk_at dksJ12_checkLength_0 13 rfl rfl)
theorem dJ12_checkLength_16 : decode cJ12_checkLength 16 = .ok (.iload_n 0, 1) := dk_26 (dk_at dksJ12_checkLength_0 16 rfl rfl)
theorem dJ12_checkLength_17 : decode cJ12_checkLength 17 = .ok (.invokevirtual 54, 3) := dk_182 0 54 (dk_at dksJ12_checkLength_0 17 rfl rfl)
theorem dJ12_checkLength_20 : decode cJ12_checkLength 20 = .ok (.ldc_w 337, 3) := dk_19 1 81 (dk_at dksJ12_checkLength_0 20 rfl rfl)
theorem dJ12_checkLength_23 : decode cJ12_checkLength 23 = .ok (.invokevirtual 50, 3) := dk_182 0 50 (dk_at dksJ12_checkLength_1 0 rfl rfl)
theorem dJ12_checkLength_26 : decode cJ12_checkLength 26 = .ok (.iload_n 1, 1) := dk_27 (dk_at dksJ12_checkLength_1 3 rfl rfl)
theorem dJ12_checkLength_27 : decode cJ12_checkLength 27 = .ok (.invokevirtual 54, 3) := dk_182 0 54 (dk_at dksJ12_checkLength_1 4 rfl rfl)
theorem dJ12_checkLength_30 : decode cJ12_checkLength 30 = .ok (.invokevirtual 61, 3) := dk_182 0 61 (dk_at dksJ12_checkLength_1 7 rfl rfl)
theorem dJ12_checkLength_33 : decode cJ12_checkLength 33 = .ok (.invokespecial 65, 3) := dk_183 0 65 (dk_at dksJ12_checkLength_1 10 rfl rfl)
theorem dJ12_checkLength_36 : decode cJ12_checkLength 36 = .ok (.athrow, 1) := dk_191 (dk_at dksJ12_checkLength_1 13 rfl rfl)
theorem dJ12_checkLength_37 : decode cJ12_checkLength 37 = .ok (.return_, 1) := dk_177 (dk_at dksJ12_checkLength_1 14 rfl rfl)
abbrev cJ12_fill : ByteArray := prog_47_method_110_code
def yJ12_fill : MethodName := ⟨RJ12, "fill", "([BIIB)V"⟩
def dkwJ12_fill_1 : List UInt8 := [167, 255, 242, 177]
abbrev dktJ12_fill_1 : List UInt8 := dkwJ12_fill_1 ++ []
def dkwJ12_fill_0 : List UInt8 := [42, 190, 27, 28, 184, 0, 13, 27, 54, 4, 21, 4, 28, 162, 0, 14, 42, 21, 4, 29, 84, 132, 4, 1]
abbrev dktJ12_fill_0 : List UInt8 := dkwJ12_fill_0 ++ dktJ12_fill_1
theorem dksJ12_fill_0 : cJ12_fill.data.toList.drop 0 = dktJ12_fill_0 := by decide +kernel
theorem dksJ12_fill_1 : cJ12_fill.data.toList.drop 24 = dktJ12_fill_1 := dk_seg dksJ12_fill_0 24 rfl rfl
theorem dJ12_fill_0 : decode cJ12_fill 0 = .ok (.aload_n 0, 1) := dk_42 (dk_at dksJ12_fill_0 0 rfl rfl)
theorem dJ12_fill_1 : decode cJ12_fill 1 = .ok (.arraylength, 1) := dk_190 (dk_at dksJ12_fill_0 1 rfl rfl)
theorem dJ12_fill_2 : decode cJ12_fill 2 = .ok (.iload_n 1, 1) := dk_27 (dk_at dksJ12_fill_0 2 rfl rfl)
theorem dJ12_fill_3 : decode cJ12_fill 3 = .ok (.iload_n 2, 1) := dk_28 (dk_at dksJ12_fill_0 3 rfl rfl)
theorem dJ12_fill_4 : decode cJ12_fill 4 = .ok (.invokestatic 13, 3) := dk_184 0 13 (dk_at dksJ12_fill_0 4 rfl rfl)
theorem dJ12_fill_7 : decode cJ12_fill 7 = .ok (.iload_n 1, 1) := dk_27 (dk_at dksJ12_fill_0 7 rfl rfl)
theorem dJ12_fill_8 : decode cJ12_fill 8 = .ok (.istore 4, 2) := dk_54 4 (dk_at dksJ12_fill_0 8 rfl rfl)
theorem dJ12_fill_10 : decode cJ12_fill 10 = .ok (.iload 4, 2) := dk_21 4 (dk_at dksJ12_fill_0 10 rfl rfl)
theorem dJ12_fill_12 : decode cJ12_fill 12 = .ok (.iload_n 2, 1) := dk_28 (dk_at dksJ12_fill_0 12 rfl rfl)
theorem dJ12_fill_13 : decode cJ12_fill 13 = .ok (.if_icmp .ge 14, 3) := dk_162 0 14 (dk_at dksJ12_fill_0 13 rfl rfl)
theorem dJ12_fill_16 : decode cJ12_fill 16 = .ok (.aload_n 0, 1) := dk_42 (dk_at dksJ12_fill_0 16 rfl rfl)
theorem dJ12_fill_17 : decode cJ12_fill 17 = .ok (.iload 4, 2) := dk_21 4 (dk_at dksJ12_fill_0 17 rfl rfl)
theorem dJ12_fill_19 : decode cJ12_fill 19 = .ok (.iload_n 3, 1) := dk_29 (dk_at dksJ12_fill_0 19 rfl rfl)
theorem dJ12_fill_20 : decode cJ12_fill 20 = .ok (.bastore, 1) := dk_84 (dk_at dksJ12_fill_0 20 rfl rfl)
theorem dJ12_fill_21 : decode cJ12_fill 21 = .ok (.iinc 4 1, 3) := dk_132 4 1 (dk_at dksJ12_fill_0 21 rfl rfl)
theorem dJ12_fill_24 : decode cJ12_fill 24 = .ok (.goto (-14), 3) := dk_167 255 242 (dk_at dksJ12_fill_1 0 rfl rfl)
theorem dJ12_fill_27 : decode cJ12_fill 27 = .ok (.return_, 1) := dk_177 (dk_at dksJ12_fill_1 3 rfl rfl)
abbrev cJ12_rangeCheck : ByteArray := prog_47_method_30_code
def yJ12_rangeCheck : MethodName := ⟨RJ12, "rangeCheck", "(III)V"⟩
def dkwJ12_rangeCheck_3 : List UInt8 := [183, 0, 70, 191, 177]
abbrev dktJ12_rangeCheck_3 : List UInt8 := dkwJ12_rangeCheck_3 ++ []
def dkwJ12_rangeCheck_2 : List UInt8 := [27, 156, 0, 12, 187, 0, 68, 89, 27, 183, 0, 70, 191, 28, 26, 164, 0, 12, 187, 0, 68, 89, 28]
abbrev dktJ12_rangeCheck_2 : List UInt8 := dkwJ12_rangeCheck_2 ++ dktJ12_rangeCheck_3
def dkwJ12_rangeCheck_1 : List UInt8 := [182, 0, 54, 18, 57, 182, 0, 50, 28, 182, 0, 54, 18, 59, 182, 0, 50, 182, 0, 61, 183, 0, 65, 191]
abbrev dktJ12_rangeCheck_1 : List UInt8 := dkwJ12_rangeCheck_1 ++ dktJ12_rangeCheck_2
def dkwJ12_rangeCheck_0 : List UInt8 := [27, 28, 164, 0, 44, 187, 0, 43, 89, 187, 0, 45, 89, 183, 0, 47, 18, 48, 182, 0, 50, 27]
abbrev dktJ12_rangeCheck_0 : List UInt8 := dkwJ12_rangeCheck_0 ++ dktJ12_rangeCheck_1
theorem dksJ12_rangeCheck_0 : cJ12_rangeCheck.data.toList.drop 0 = dktJ12_rangeCheck_0 := by decide +kernel
theorem dksJ12_rangeCheck_1 : cJ12_rangeCheck.data.toList.drop 22 = dktJ12_rangeCheck_1 := dk_seg dksJ12_rangeCheck_0 22 rfl rfl
theorem dksJ12_rangeCheck_2 : cJ12_rangeCheck.data.toList.drop 46 = dktJ12_rangeCheck_2 := dk_seg dksJ12_rangeCheck_1 24 rfl rfl
theorem dksJ12_rangeCheck_3 : cJ12_rangeCheck.data.toList.drop 69 = dktJ12_rangeCheck_3 := dk_seg dksJ12_rangeCheck_2 23 rfl rfl
theorem dJ12_rangeCheck_0 : decode cJ12_rangeCheck 0 = .ok (.iload_n 1, 1) := dk_27 (dk_at dksJ12_rangeCheck_0 0 rfl rfl)
theorem dJ12_rangeCheck_1 : decode cJ12_rangeCheck 1 = .ok (.iload_n 2, 1) := dk_28 (dk_at dksJ12_rangeCheck_0 1 rfl rfl)
theorem dJ12_rangeCheck_2 : decode cJ12_rangeCheck 2 = .ok (.if_icmp .le 44, 3) := dk_164 0 44 (dk_at dksJ12_rangeCheck_0 2 rfl rfl)
theorem dJ12_rangeCheck_5 : decode cJ12_rangeCheck 5 = .ok (.new 43, 3) := dk_187 0 43 (dk_at dksJ12_rangeCheck_0 5 rfl rfl)
theorem dJ12_rangeCheck_8 : decode cJ12_rangeCheck 8 = .ok (.dup, 1) := dk_89 (dk_at dksJ12_rangeCheck_0 8 rfl rfl)
theorem dJ12_rangeCheck_9 : decode cJ12_rangeCheck 9 = .ok (.new 45, 3) := dk_187 0 45 (dk_at dksJ12_rangeCheck_0 9 rfl rfl)
theorem dJ12_rangeCheck_12 : decode cJ12_rangeCheck 12 = .ok (.dup, 1) := dk_89 (dk_at dksJ12_rangeCheck_0 12 rfl rfl)
theorem dJ12_rangeCheck_13 : decode cJ12_rangeCheck 13 = .ok (.invokespecial 47, 3) := dk_183 0 47 (dk_at dksJ12_rangeCheck_0 13 rfl rfl)
theorem dJ12_rangeCheck_16 : decode cJ12_rangeCheck 16 = .ok (.ldc 48, 2) := dk_18 48 (dk_at dksJ12_rangeCheck_0 16 rfl rfl)
theorem dJ12_rangeCheck_18 : decode cJ12_rangeCheck 18 = .ok (.invokevirtual 50, 3) := dk_182 0 50 (dk_at dksJ12_rangeCheck_0 18 rfl rfl)
theorem dJ12_rangeCheck_21 : decode cJ12_rangeCheck 21 = .ok (.iload_n 1, 1) := dk_27 (dk_at dksJ12_rangeCheck_0 21 rfl rfl)
theorem dJ12_rangeCheck_22 : decode cJ12_rangeCheck 22 = .ok (.invokevirtual 54, 3) := dk_182 0 54 (dk_at dksJ12_rangeCheck_1 0 rfl rfl)
theorem dJ12_rangeCheck_25 : decode cJ12_rangeCheck 25 = .ok (.ldc 57, 2) := dk_18 57 (dk_at dksJ12_rangeCheck_1 3 rfl rfl)
theorem dJ12_rangeCheck_27 : decode cJ12_rangeCheck 27 = .ok (.invokevirtual 50, 3) := dk_182 0 50 (dk_at dksJ12_rangeCheck_1 5 rfl rfl)
theorem dJ12_rangeCheck_30 : decode cJ12_rangeCheck 30 = .ok (.iload_n 2, 1) := dk_28 (dk_at dksJ12_rangeCheck_1 8 rfl rfl)
theorem dJ12_rangeCheck_31 : decode cJ12_rangeCheck 31 = .ok (.invokevirtual 54, 3) := dk_182 0 54 (dk_at dksJ12_rangeCheck_1 9 rfl rfl)
theorem dJ12_rangeCheck_34 : decode cJ12_rangeCheck 34 = .ok (.ldc 59, 2) := dk_18 59 (dk_at dksJ12_rangeCheck_1 12 rfl rfl)
theorem dJ12_rangeCheck_36 : decode cJ12_rangeCheck 36 = .ok (.invokevirtual 50, 3) := dk_182 0 50 (dk_at dksJ12_rangeCheck_1 14 rfl rfl)
theorem dJ12_rangeCheck_39 : decode cJ12_rangeCheck 39 = .ok (.invokevirtual 61, 3) := dk_182 0 61 (dk_at dksJ12_rangeCheck_1 17 rfl rfl)
theorem dJ12_rangeCheck_42 : decode cJ12_rangeCheck 42 = .ok (.invokespecial 65, 3) := dk_183 0 65 (dk_at dksJ12_rangeCheck_1 20 rfl rfl)
theorem dJ12_rangeCheck_45 : decode cJ12_rangeCheck 45 = .ok (.athrow, 1) := dk_191 (dk_at dksJ12_rangeCheck_1 23 rfl rfl)
theorem dJ12_rangeCheck_46 : decode cJ12_rangeCheck 46 = .ok (.iload_n 1, 1) := dk_27 (dk_at dksJ12_rangeCheck_2 0 rfl rfl)
theorem dJ12_rangeCheck_47 : decode cJ12_rangeCheck 47 = .ok (.ifCond .ge 12, 3) := dk_156 0 12 (dk_at dksJ12_rangeCheck_2 1 rfl rfl)
theorem dJ12_rangeCheck_50 : decode cJ12_rangeCheck 50 = .ok (.new 68, 3) := dk_187 0 68 (dk_at dksJ12_rangeCheck_2 4 rfl rfl)
theorem dJ12_rangeCheck_53 : decode cJ12_rangeCheck 53 = .ok (.dup, 1) := dk_89 (dk_at dksJ12_rangeCheck_2 7 rfl rfl)
theorem dJ12_rangeCheck_54 : decode cJ12_rangeCheck 54 = .ok (.iload_n 1, 1) := dk_27 (dk_at dksJ12_rangeCheck_2 8 rfl rfl)
theorem dJ12_rangeCheck_55 : decode cJ12_rangeCheck 55 = .ok (.invokespecial 70, 3) := dk_183 0 70 (dk_at dksJ12_rangeCheck_2 9 rfl rfl)
theorem dJ12_rangeCheck_58 : decode cJ12_rangeCheck 58 = .ok (.athrow, 1) := dk_191 (dk_at dksJ12_rangeCheck_2 12 rfl rfl)
theorem dJ12_rangeCheck_59 : decode cJ12_rangeCheck 59 = .ok (.iload_n 2, 1) := dk_28 (dk_at dksJ12_rangeCheck_2 13 rfl rfl)
theorem dJ12_rangeCheck_60 : decode cJ12_rangeCheck 60 = .ok (.iload_n 0, 1) := dk_26 (dk_at dksJ12_rangeCheck_2 14 rfl rfl)
theorem dJ12_rangeCheck_61 : decode cJ12_rangeCheck 61 = .ok (.if_icmp .le 12, 3) := dk_164 0 12 (dk_at dksJ12_rangeCheck_2 15 rfl rfl)
theorem dJ12_rangeCheck_64 : decode cJ12_rangeCheck 64 = .ok (.new 68, 3) := dk_187 0 68 (dk_at dksJ12_rangeCheck_2 18 rfl rfl)
theorem dJ12_rangeCheck_67 : decode cJ12_rangeCheck 67 = .ok (.dup, 1) := dk_89 (dk_at dksJ12_rangeCheck_2 21 rfl rfl)
theorem dJ12_rangeCheck_68 : decode cJ12_rangeCheck 68 = .ok (.iload_n 2, 1) := dk_28 (dk_at dksJ12_rangeCheck_2 22 rfl rfl)
theorem dJ12_rangeCheck_69 : decode cJ12_rangeCheck 69 = .ok (.invokespecial 70, 3) := dk_183 0 70 (dk_at dksJ12_rangeCheck_3 0 rfl rfl)
theorem dJ12_rangeCheck_72 : decode cJ12_rangeCheck 72 = .ok (.athrow, 1) := dk_191 (dk_at dksJ12_rangeCheck_3 3 rfl rfl)
theorem dJ12_rangeCheck_73 : decode cJ12_rangeCheck 73 = .ok (.return_, 1) := dk_177 (dk_at dksJ12_rangeCheck_3 4 rfl rfl)
theorem q104 : (Jvm.Cond.initialized "java/util/Arrays") ∈ lw_all := lw_g (lw_at lw_m1 19 rfl) rfl
theorem q356 : (Jvm.Cond.static ({ cls := "java/util/Arrays", name := "copyOf", desc := "([Ljava/lang/Object;I)[Ljava/lang/Object;" } : Jvm.MethodName)) ∈ lw_all := lw_g (lw_at lw_m2 31 rfl) rfl
theorem q357 : (Jvm.Cond.code ({ cls := "java/util/Arrays", name := "copyOf", desc := "([Ljava/lang/Object;I)[Ljava/lang/Object;" } : Jvm.MethodName) prog_47_method_119_code (2 : Nat) (Option.some (Jvm.ClassFile.FieldType.array (Jvm.ClassFile.FieldType.object "java/lang/Object")))) ∈ lw_all := lw_g (lw_at lw_m2 32 rfl) rfl
theorem q358 : (Jvm.Cond.methodLink "java/util/Arrays" (86 : Nat) ({ cls := "java/lang/Object", name := "getClass", desc := "()Ljava/lang/Class;" } : Jvm.MethodName)) ∈ lw_all := lw_g (lw_at lw_m2 33 rfl) rfl
theorem q387 : (Jvm.Cond.methodLink "java/util/Arrays" (300 : Nat) ({ cls := "java/util/Arrays", name := "copyOf", desc := "([Ljava/lang/Object;ILjava/lang/Class;)[Ljava/lang/Object;" } : Jvm.MethodName)) ∈ lw_all := lw_g (lw_at lw_m2 62 rfl) rfl
theorem q388 : (Jvm.Cond.static ({ cls := "java/util/Arrays", name := "copyOf", desc := "([Ljava/lang/Object;ILjava/lang/Class;)[Ljava/lang/Object;" } : Jvm.MethodName)) ∈ lw_all := lw_g (lw_at lw_m2 63 rfl) rfl
theorem q389 : (Jvm.Cond.code ({ cls := "java/util/Arrays", name := "copyOf", desc := "([Ljava/lang/Object;ILjava/lang/Class;)[Ljava/lang/Object;" } : Jvm.MethodName) prog_47_method_120_code (4 : Nat) (Option.some (Jvm.ClassFile.FieldType.array (Jvm.ClassFile.FieldType.object "java/lang/Object")))) ∈ lw_all := lw_g (lw_at lw_m2 64 rfl) rfl
theorem q390 : (Jvm.Cond.classLink "java/util/Arrays" (110 : Nat) "[Ljava/lang/Object;") ∈ lw_all := lw_g (lw_at lw_m2 65 rfl) rfl
theorem q391 : (Jvm.Cond.classLink "java/util/Arrays" (2 : Nat) "java/lang/Object") ∈ lw_all := lw_g (lw_at lw_m2 66 rfl) rfl
theorem q392 : (Jvm.Cond.methodLink "java/util/Arrays" (304 : Nat) ({ cls := "java/lang/Math", name := "min", desc := "(II)I" } : Jvm.MethodName)) ∈ lw_all := lw_g (lw_at lw_m2 67 rfl) rfl
theorem q395 : (Jvm.Cond.methodLink "java/util/Arrays" (150 : Nat) ({ cls := "java/lang/System", name := "arraycopy", desc := "(Ljava/lang/Object;ILjava/lang/Object;II)V" } : Jvm.MethodName)) ∈ lw_all := lw_g (lw_at lw_m2 70 rfl) rfl
theorem q904 : (Jvm.Cond.static ({ cls := "java/util/Arrays", name := "copyOf", desc := "([BI)[B" } : Jvm.MethodName)) ∈ lw_all := lw_g (lw_at lw_m4 99 rfl) rfl
theorem q905 : (Jvm.Cond.code ({ cls := "java/util/Arrays", name := "copyOf", desc := "([BI)[B" } : Jvm.MethodName) prog_47_method_121_code (3 : Nat) (Option.some (Jvm.ClassFile.FieldType.array Jvm.ClassFile.FieldType.byte))) ∈ lw_all := lw_g (lw_at lw_m4 100 rfl) rfl
theorem q906 : (Jvm.Cond.methodLink "java/util/Arrays" (310 : Nat) ({ cls := "[B", name := "clone", desc := "()Ljava/lang/Object;" } : Jvm.MethodName)) ∈ lw_all := lw_g (lw_at lw_m4 101 rfl) rfl
theorem q912 : (Jvm.Cond.classLink "java/util/Arrays" (311 : Nat) "[B") ∈ lw_all := lw_g (lw_at lw_m4 107 rfl) rfl
theorem q1009 : (Jvm.Cond.static ({ cls := "java/util/Arrays", name := "copyOfRange", desc := "([BII)[B" } : Jvm.MethodName)) ∈ lw_all := lw_g (lw_at lw_m4 204 rfl) rfl
theorem q1010 : (Jvm.Cond.code ({ cls := "java/util/Arrays", name := "copyOfRange", desc := "([BII)[B" } : Jvm.MethodName) prog_47_method_132_code (3 : Nat) (Option.some (Jvm.ClassFile.FieldType.array Jvm.ClassFile.FieldType.byte))) ∈ lw_all := lw_g (lw_at lw_m4 205 rfl) rfl
theorem q1011 : (Jvm.Cond.methodLink "java/util/Arrays" (339 : Nat) ({ cls := "java/util/Arrays", name := "copyOfRangeByte", desc := "([BII)[B" } : Jvm.MethodName)) ∈ lw_all := lw_g (lw_at lw_m4 206 rfl) rfl
theorem q1012 : (Jvm.Cond.static ({ cls := "java/util/Arrays", name := "copyOfRangeByte", desc := "([BII)[B" } : Jvm.MethodName)) ∈ lw_all := lw_g (lw_at lw_m4 207 rfl) rfl
theorem q1013 : (Jvm.Cond.code ({ cls := "java/util/Arrays", name := "copyOfRangeByte", desc := "([BII)[B" } : Jvm.MethodName) prog_47_method_133_code (5 : Nat) (Option.some (Jvm.ClassFile.FieldType.array Jvm.ClassFile.FieldType.byte))) ∈ lw_all := lw_g (lw_at lw_m4 208 rfl) rfl
theorem q1014 : (Jvm.Cond.methodLink "java/util/Arrays" (343 : Nat) ({ cls := "java/util/Arrays", name := "checkLength", desc := "(II)V" } : Jvm.MethodName)) ∈ lw_all := lw_g (lw_at lw_m4 209 rfl) rfl
theorem q1015 : (Jvm.Cond.static ({ cls := "java/util/Arrays", name := "checkLength", desc := "(II)V" } : Jvm.MethodName)) ∈ lw_all := lw_g (lw_at lw_m4 210 rfl) rfl
theorem q1016 : (Jvm.Cond.code ({ cls := "java/util/Arrays", name := "checkLength", desc := "(II)V" } : Jvm.MethodName) prog_47_method_131_code (2 : Nat) (Option.none : Option Jvm.ClassFile.FieldType)) ∈ lw_all := lw_g (lw_at lw_m4 211 rfl) rfl
theorem q1017 : (Jvm.Cond.classLink "java/util/Arrays" (43 : Nat) "java/lang/IllegalArgumentException") ∈ lw_all := lw_g (lw_at lw_m4 212 rfl) rfl
theorem q1026 : (Jvm.Cond.classLink "java/util/Arrays" (45 : Nat) "java/lang/StringBuilder") ∈ lw_all := lw_g (lw_at lw_m4 221 rfl) rfl
theorem q1027 : (Jvm.Cond.methodLink "java/util/Arrays" (47 : Nat) ({ cls := "java/lang/StringBuilder", name := "<init>", desc := "()V" } : Jvm.MethodName)) ∈ lw_all := lw_g (lw_at lw_m4 222 rfl) rfl
theorem q1028 : (Jvm.Cond.methodLink "java/util/Arrays" (54 : Nat) ({ cls := "java/lang/StringBuilder", name := "append", desc := "(I)Ljava/lang/StringBuilder;" } : Jvm.MethodName)) ∈ lw_all := lw_g (lw_at lw_m4 223 rfl) rfl
theorem q1029 : (Jvm.Cond.stringRef "java/util/Arrays" (337 : Nat) " > ") ∈ lw_tbl := lw_at lw_m4 224 rfl
theorem q1030 : (Jvm.Cond.methodLink "java/util/Arrays" (50 : Nat) ({ cls := "java/lang/StringBuilder", name := "append", desc := "(Ljava/lang/String;)Ljava/lang/StringBuilder;" } : Jvm.MethodName)) ∈ lw_all := lw_g (lw_at lw_m4 225 rfl) rfl
theorem q1031 : (Jvm.Cond.methodLink "java/util/Arrays" (61 : Nat) ({ cls := "java/lang/StringBuilder", name := "toString", desc := "()Ljava/lang/String;" } : Jvm.MethodName)) ∈ lw_all := lw_g (lw_at lw_m4 226 rfl) rfl
theorem q1032 : (Jvm.Cond.methodLink "java/util/Arrays" (65 : Nat) ({ cls := "java/lang/IllegalArgumentException", name := "<init>", desc := "(Ljava/lang/String;)V" } : Jvm.MethodName)) ∈ lw_all := lw_g (lw_at lw_m4 227 rfl) rfl
theorem q1074 : (Jvm.Cond.static ({ cls := "java/util/Arrays", name := "fill", desc := "([BIIB)V" } : Jvm.MethodName)) ∈ lw_all := lw_g (lw_at lw_m5 29 rfl) rfl
theorem q1075 : (Jvm.Cond.code ({ cls := "java/util/Arrays", name := "fill", desc := "([BIIB)V" } : Jvm.MethodName) prog_47_method_110_code (5 : Nat) (Option.none : Option Jvm.ClassFile.FieldType)) ∈ lw_all := lw_g (lw_at lw_m5 30 rfl) rfl
theorem q1076 : (Jvm.Cond.methodLink "java/util/Arrays" (13 : Nat) ({ cls := "java/util/Arrays", name := "rangeCheck", desc := "(III)V" } : Jvm.MethodName)) ∈ lw_all := lw_g (lw_at lw_m5 31 rfl) rfl
theorem q1077 : (Jvm.Cond.static ({ cls := "java/util/Arrays", name := "rangeCheck", desc := "(III)V" } : Jvm.MethodName)) ∈ lw_all := lw_g (lw_at lw_m5 32 rfl) rfl
theorem q1078 : (Jvm.Cond.code ({ cls := "java/util/Arrays", name := "rangeCheck", desc := "(III)V" } : Jvm.MethodName) prog_47_method_30_code (3 : Nat) (Option.none : Option Jvm.ClassFile.FieldType)) ∈ lw_all := lw_g (lw_at lw_m5 33 rfl) rfl
theorem q1079 : (Jvm.Cond.stringRef "java/util/Arrays" (48 : Nat) "fromIndex(") ∈ lw_tbl := lw_at lw_m5 34 rfl
theorem q1080 : (Jvm.Cond.stringRef "java/util/Arrays" (57 : Nat) ") > toIndex(") ∈ lw_tbl := lw_at lw_m5 35 rfl
theorem q1081 : (Jvm.Cond.stringRef "java/util/Arrays" (59 : Nat) ")") ∈ lw_tbl := lw_at lw_m5 36 rfl
theorem q1082 : (Jvm.Cond.classLink "java/util/Arrays" (68 : Nat) "java/lang/ArrayIndexOutOfBoundsException") ∈ lw_all := lw_g (lw_at lw_m5 37 rfl) rfl
theorem q1093 : (Jvm.Cond.methodLink "java/util/Arrays" (70 : Nat) ({ cls := "java/lang/ArrayIndexOutOfBoundsException", name := "<init>", desc := "(I)V" } : Jvm.MethodName)) ∈ lw_all := lw_g (lw_at lw_m5 48 rfl) rfl
/-! jdk/internal/util/ArraysSupport -/
set_option maxRecDepth 100000
def RJ10 : String := "jdk/internal/util/ArraysSupport"
abbrev cJ10_newLength : ByteArray := prog_57_method_27_code
def yJ10_newLength : MethodName := ⟨RJ10, "newLength", "(III)I"⟩
def dkwJ10_newLength_1 : List UInt8 := [184, 0, 201, 172]
abbrev dktJ10_newLength_1 : List UInt8 := dkwJ10_newLength_1 ++ []
def dkwJ10_newLength_0 : List UInt8 := [26, 27, 28, 184, 0, 194, 96, 62, 3, 29, 162, 0, 11, 29, 18, 200, 163, 0, 5, 29, 172, 26, 27]
abbrev dktJ10_newLength_0 : List UInt8 := dkwJ10_newLength_0 ++ dktJ10_newLength_1
theorem dksJ10_newLength_0 : cJ10_newLength.data.toList.drop 0 = dktJ10_newLength_0 := by decide +kernel
theorem dksJ10_newLength_1 : cJ10_newLength.data.toList.drop 23 = dktJ10_newLength_1 := dk_seg dksJ10_newLength_0 23 rfl rfl
theorem dJ10_newLength_0 : decode cJ10_newLength 0 = .ok (.iload_n 0, 1) := dk_26 (dk_at dksJ10_newLength_0 0 rfl rfl)
theorem dJ10_newLength_1 : decode cJ10_newLength 1 = .ok (.iload_n 1, 1) := dk_27 (dk_at dksJ10_newLength_0 1 rfl rfl)
theorem dJ10_newLength_2 : decode cJ10_newLength 2 = .ok (.iload_n 2, 1) := dk_28 (dk_at dksJ10_newLength_0 2 rfl rfl)
theorem dJ10_newLength_3 : decode cJ10_newLength 3 = .ok (.invokestatic 194, 3) := dk_184 0 194 (dk_at dksJ10_newLength_0 3 rfl rfl)
theorem dJ10_newLength_6 : decode cJ10_newLength 6 = .ok (.iadd, 1) := dk_96 (dk_at dksJ10_newLength_0 6 rfl rfl)
theorem dJ10_newLength_7 : decode cJ10_newLength 7 = .ok (.istore_n 3, 1) := dk_62 (dk_at dksJ10_newLength_0 7 rfl rfl)
theorem dJ10_newLength_8 : decode cJ10_newLength 8 = .ok (.iconst 0, 1) := dk_3 (dk_at dksJ10_newLength_0 8 rfl rfl)
theorem dJ10_newLength_9 : decode cJ10_newLength 9 = .ok (.iload_n 3, 1) := dk_29 (dk_at dksJ10_newLength_0 9 rfl rfl)
theorem dJ10_newLength_10 : decode cJ10_newLength 10 = .ok (.if_icmp .ge 11, 3) := dk_162 0 11 (dk_at dksJ10_newLength_0 10 rfl rfl)
theorem dJ10_newLength_13 : decode cJ10_newLength 13 = .ok (.iload_n 3, 1) := dk_29 (dk_at dksJ10_newLength_0 13 rfl rfl)
theorem dJ10_newLength_14 : decode cJ10_newLength 14 = .ok (.ldc 200, 2) := dk_18 200 (dk_at dksJ10_newLength_0 14 rfl rfl)
theorem dJ10_newLength_16 : decode cJ10_newLength 16 = .ok (.if_icmp .gt 5, 3) := dk_163 0 5 (dk_at dksJ10_newLength_0 16 rfl rfl)
theorem dJ10_newLength_19 : decode cJ10_newLength 19 = .ok (.iload_n 3, 1) := dk_29 (dk_at dksJ10_newLength_0 19 rfl rfl)
theorem dJ10_newLength_20 : decode cJ10_newLength 20 = .ok (.ireturn, 1) := dk_172 (dk_at dksJ10_newLength_0 20 rfl rfl)
theorem dJ10_newLength_21 : decode cJ10_newLength 21 = .ok (.iload_n 0, 1) := dk_26 (dk_at dksJ10_newLength_0 21 rfl rfl)
theorem dJ10_newLength_22 : decode cJ10_newLength 22 = .ok (.iload_n 1, 1) := dk_27 (dk_at dksJ10_newLength_0 22 rfl rfl)
theorem dJ10_newLength_23 : decode cJ10_newLength 23 = .ok (.invokestatic 201, 3) := dk_184 0 201 (dk_at dksJ10_newLength_1 0 rfl rfl)
theorem dJ10_newLength_26 : decode cJ10_newLength 26 = .ok (.ireturn, 1) := dk_172 (dk_at dksJ10_newLength_1 3 rfl rfl)
abbrev cJ10_hugeLength : ByteArray := prog_57_method_28_code
def yJ10_hugeLength : MethodName := ⟨RJ10, "hugeLength", "(II)I"⟩
def dkwJ10_hugeLength_2 : List UInt8 := [191, 28, 18, 200, 163, 0, 6, 18, 200, 172, 28, 172]
abbrev dktJ10_hugeLength_2 : List UInt8 := dkwJ10_hugeLength_2 ++ []
def dkwJ10_hugeLength_1 : List UInt8 := [26, 182, 0, 98, 18, 208, 182, 0, 94, 27, 182, 0, 98, 18, 210, 182, 0, 94, 182, 0, 101, 183, 0, 212]
abbrev dktJ10_hugeLength_1 : List UInt8 := dkwJ10_hugeLength_1 ++ dktJ10_hugeLength_2
def dkwJ10_hugeLength_0 : List UInt8 := [26, 27, 96, 61, 28, 156, 0, 44, 187, 0, 204, 89, 187, 0, 89, 89, 183, 0, 91, 18, 206, 182, 0, 94]
abbrev dktJ10_hugeLength_0 : List UInt8 := dkwJ10_hugeLength_0 ++ dktJ10_hugeLength_1
theorem dksJ10_hugeLength_0 : cJ10_hugeLength.data.toList.drop 0 = dktJ10_hugeLength_0 := by decide +kernel
theorem dksJ10_hugeLength_1 : cJ10_hugeLength.data.toList.drop 24 = dktJ10_hugeLength_1 := dk_seg dksJ10_hugeLength_0 24 rfl rfl
theorem dksJ10_hugeLength_2 : cJ10_hugeLength.data.toList.drop 48 = dktJ10_hugeLength_2 := dk_seg dksJ10_hugeLength_1 24 rfl rfl
theorem dJ10_hugeLength_0 : decode cJ10_hugeLength 0 = .ok (.iload_n 0, 1) := dk_26 (dk_at dksJ10_hugeLength_0 0 rfl rfl)
theorem dJ10_hugeLength_1 : decode cJ10_hugeLength 1 = .ok (.iload_n 1, 1) := dk_27 (dk_at dksJ10_hugeLength_0 1 rfl rfl)
theorem dJ10_hugeLength_2 : decode cJ10_hugeLength 2 = .ok (.iadd, 1) := dk_96 (dk_at dksJ10_hugeLength_0 2 rfl rfl)
theorem dJ10_hugeLength_3 : decode cJ10_hugeLength 3 = .ok (.istore_n 2, 1) := dk_61 (dk_at dksJ10_hugeLength_0 3 rfl rfl)
theorem dJ10_hugeLength_4 : decode cJ10_hugeLength 4 = .ok (.iload_n 2, 1) := dk_28 (dk_at dksJ10_hugeLength_0 4 rfl rfl)
theorem dJ10_hugeLength_5 : decode cJ10_hugeLength 5 = .ok (.ifCond .ge 44, 3) := dk_156 0 44 (dk_at dksJ10_hugeLength_0 5 rfl rfl)
theorem dJ10_hugeLength_8 : decode cJ10_hugeLength 8 = .ok (.new 204, 3) := dk_187 0 204 (dk_at dksJ10_hugeLength_0 8 rfl rfl)
theorem dJ10_hugeLength_11 : decode cJ10_hugeLength 11 = .ok (.dup, 1) := dk_89 (dk_at dksJ10_hugeLength_0 11 rfl rfl)
theorem dJ10_hugeLength_12 : decode cJ10_hugeLength 12 = .ok (.new 89, 3) := dk_187 0 89 (dk_at dksJ10_hugeLength_0 12 rfl rfl)
theorem dJ10_hugeLength_15 : decode cJ10_hugeLength 15 = .ok (.dup, 1) := dk_89 (dk_at dksJ10_hugeLength_0 15 rfl rfl)
theorem dJ10_hugeLength_16 : decode cJ10_hugeLength 16 = .ok (.invokespecial 91, 3) := dk_183 0 91 (dk_at dksJ10_hugeLength_0 16 rfl rfl)
theorem dJ10_hugeLength_19 : decode cJ10_hugeLength 19 = .ok (.ldc 206, 2) := dk_18 206 (dk_at dksJ10_hugeLength_0 19 rfl rfl)
theorem dJ10_hugeLength_21 : decode cJ10_hugeLength 21 = .ok (.invokevirtual 94, 3) := dk_182 0 94 (dk_at dksJ10_hugeLength_0 21 rfl rfl)
theorem dJ10_hugeLength_24 : decode cJ10_hugeLength 24 = .ok (.iload_n 0, 1) := dk_26 (dk_at dksJ10_hugeLength_1 0 rfl rfl)
theorem dJ10_hugeLength_25 : decode cJ10_hugeLength 25 = .ok (.invokevirtual 98, 3) := dk_182 0 98 (dk_at dksJ10_hugeLength_1 1 rfl rfl)
theorem dJ10_hugeLength_28 : decode cJ10_hugeLength 28 = .ok (.ldc 208, 2) := dk_18 208 (dk_at dksJ10_hugeLength_1 4 rfl rfl)
theorem dJ10_hugeLength_30 : decode cJ10_hugeLength 30 = .ok (.invokevirtual 94, 3) := dk_182 0 94 (dk_at dksJ10_hugeLength_1 6 rfl rfl)
theorem dJ10_hugeLength_33 : decode cJ10_hugeLength 33 = .ok (.iload_n 1, 1) := dk_27 (dk_at dksJ10_hugeLength_1 9 rfl rfl)
theorem dJ10_hugeLength_34 : decode cJ10_hugeLength 34 = .ok (.invokevirtual 98, 3) := dk_182 0 98 (dk_at dksJ10_hugeLength_1 10 rfl rfl)
theorem dJ10_hugeLength_37 : decode cJ10_hugeLength 37 = .ok (.ldc 210, 2) := dk_18 210 (dk_at dksJ10_hugeLength_1 13 rfl rfl)
theorem dJ10_hugeLength_39 : decode cJ10_hugeLength 39 = .ok (.invokevirtual 94, 3) := dk_182 0 94 (dk_at dksJ10_hugeLength_1 15 rfl rfl)
theorem dJ10_hugeLength_42 : decode cJ10_hugeLength 42 = .ok (.invokevirtual 101, 3) := dk_182 0 101 (dk_at dksJ10_hugeLength_1 18 rfl rfl)
theorem dJ10_hugeLength_45 : decode cJ10_hugeLength 45 = .ok (.invokespecial 212, 3) := dk_183 0 212 (dk_at dksJ10_hugeLength_1 21 rfl rfl)
theorem dJ10_hugeLength_48 : decode cJ10_hugeLength 48 = .ok (.athrow, 1) := dk_191 (dk_at dksJ10_hugeLength_2 0 rfl rfl)
theorem dJ10_hugeLength_49 : decode cJ10_hugeLength 49 = .ok (.iload_n 2, 1) := dk_28 (dk_at dksJ10_hugeLength_2 1 rfl rfl)
theorem dJ10_hugeLength_50 : decode cJ10_hugeLength 50 = .ok (.ldc 200, 2) := dk_18 200 (dk_at dksJ10_hugeLength_2 2 rfl rfl)
theorem dJ10_hugeLength_52 : decode cJ10_hugeLength 52 = .ok (.if_icmp .gt 6, 3) := dk_163 0 6 (dk_at dksJ10_hugeLength_2 4 rfl rfl)
theorem dJ10_hugeLength_55 : decode cJ10_hugeLength 55 = .ok (.ldc 200, 2) := dk_18 200 (dk_at dksJ10_hugeLength_2 7 rfl rfl)
theorem dJ10_hugeLength_57 : decode cJ10_hugeLength 57 = .ok (.ireturn, 1) := dk_172 (dk_at dksJ10_hugeLength_2 9 rfl rfl)
theorem dJ10_hugeLength_58 : decode cJ10_hugeLength 58 = .ok (.iload_n 2, 1) := dk_28 (dk_at dksJ10_hugeLength_2 10 rfl rfl)
theorem dJ10_hugeLength_59 : decode cJ10_hugeLength 59 = .ok (.ireturn, 1) := dk_172 (dk_at dksJ10_hugeLength_2 11 rfl rfl)
abbrev cJ10_mismatch : ByteArray := prog_57_method_13_code
def yJ10_mismatch : MethodName := ⟨RJ10, "mismatch", "([B[BI)I"⟩
def dkwJ10_mismatch_3 : List UInt8 := [172]
abbrev dktJ10_mismatch_3 : List UInt8 := dkwJ10_mismatch_3 ++ []
def dkwJ10_mismatch_2 : List UInt8 := [62, 29, 28, 162, 0, 20, 42, 29, 51, 43, 29, 51, 159, 0, 5, 29, 172, 132, 3, 1, 167, 255, 237, 2]
abbrev dktJ10_mismatch_2 : List UInt8 := dkwJ10_mismatch_2 ++ dktJ10_mismatch_3
def dkwJ10_mismatch_1 : List UInt8 := [43, 178, 0, 126, 133, 28, 178, 0, 129, 184, 0, 122, 62, 29, 155, 0, 5, 29, 172, 28, 29, 2, 130, 100]
abbrev dktJ10_mismatch_1 : List UInt8 := dkwJ10_mismatch_1 ++ dktJ10_mismatch_2
def dkwJ10_mismatch_0 : List UInt8 := [3, 62, 28, 16, 7, 164, 0, 44, 42, 3, 51, 43, 3, 51, 159, 0, 5, 3, 172, 42, 178, 0, 126, 133]
abbrev dktJ10_mismatch_0 : List UInt8 := dkwJ10_mismatch_0 ++ dktJ10_mismatch_1
theorem dksJ10_mismatch_0 : cJ10_mismatch.data.toList.drop 0 = dktJ10_mismatch_0 := by decide +kernel
theorem dksJ10_mismatch_1 : cJ10_mismatch.data.toList.drop 24 = dktJ10_mismatch_1 := dk_seg dksJ10_mismatch_0 24 rfl rfl
theorem dksJ10_mismatch_2 : cJ10_mismatch.data.toList.drop 48 = dktJ10_mismatch_2 := dk_seg dksJ10_mismatch_1 24 rfl rfl
theorem dksJ10_mismatch_3 : cJ10_mismatch.data.toList.drop 72 = dktJ10_mismatch_3 := dk_seg dksJ10_mismatch_2 24 rfl rfl
theorem dJ10_mismatch_0 : decode cJ10_mismatch 0 = .ok (.iconst 0, 1) := dk_3 (dk_at dksJ10_mismatch_0 0 rfl rfl)
theorem dJ10_mismatch_1 : decode cJ10_mismatch 1 = .ok (.istore_n 3, 1) := dk_62 (dk_at dksJ10_mismatch_0 1 rfl rfl)
theorem dJ10_mismatch_2 : decode cJ10_mismatch 2 = .ok (.iload_n 2, 1) := dk_28 (dk_at dksJ10_mismatch_0 2 rfl rfl)
theorem dJ10_mismatch_3 : decode cJ10_mismatch 3 = .ok (.bipush 7, 2) := dk_16 7 (dk_at dksJ10_mismatch_0 3 rfl rfl)
theorem dJ10_mismatch_5 : decode cJ10_mismatch 5 = .ok (.if_icmp .le 44, 3) := dk_164 0 44 (dk_at dksJ10_mismatch_0 5 rfl rfl)
theorem dJ10_mismatch_8 : decode cJ10_mismatch 8 = .ok (.aload_n 0, 1) := dk_42 (dk_at dksJ10_mismatch_0 8 rfl rfl)
theorem dJ10_mismatch_9 : decode cJ10_mismatch 9 = .ok (.iconst 0, 1) := dk_3 (dk_at dksJ10_mismatch_0 9 rfl rfl)
theorem dJ10_mismatch_10 : decode cJ10_mismatch 10 = .ok (.baload, 1) := dk_51 (dk_at dksJ10_mismatch_0 10 rfl rfl)
theorem dJ10_mismatch_11 : decode cJ10_mismatch 11 = .ok (.aload_n 1, 1) := dk_43 (dk_at dksJ10_mismatch_0 11 rfl rfl)
theorem dJ10_mismatch_12 : decode cJ10_mismatch 12 = .ok (.iconst 0, 1) := dk_3 (dk_at dksJ10_mismatch_0 12 rfl rfl)
theorem dJ10_mismatch_13 : decode cJ10_mismatch 13 = .ok (.baload, 1) := dk_51 (dk_at dksJ10_mismatch_0 13 rfl rfl)
theorem dJ10_mismatch_14 : decode cJ10_mismatch 14 = .ok (.if_icmp .eq 5, 3) := dk_159 0 5 (dk_at dksJ10_mismatch_0 14 rfl rfl)
theorem dJ10_mismatch_17 : decode cJ10_mismatch 17 = .ok (.iconst 0, 1) := dk_3 (dk_at dksJ10_mismatch_0 17 rfl rfl)
theorem dJ10_mismatch_18 : decode cJ10_mismatch 18 = .ok (.ireturn, 1) := dk_172 (dk_at dksJ10_mismatch_0 18 rfl rfl)
theorem dJ10_mismatch_19 : decode cJ10_mismatch 19 = .ok (.aload_n 0, 1) := dk_42 (dk_at dksJ10_mismatch_0 19 rfl rfl)
theorem dJ10_mismatch_20 : decode cJ10_mismatch 20 = .ok (.getstatic 126, 3) := dk_178 0 126 (dk_at dksJ10_mismatch_0 20 rfl rfl)
theorem dJ10_mismatch_23 : decode cJ10_mismatch 23 = .ok (.i2l, 1) := dk_133 (dk_at dksJ10_mismatch_0 23 rfl rfl)
theorem dJ10_mismatch_24 : decode cJ10_mismatch 24 = .ok (.aload_n 1, 1) := dk_43 (dk_at dksJ10_mismatch_1 0 rfl rfl)
theorem dJ10_mismatch_25 : decode cJ10_mismatch 25 = .ok (.getstatic 126, 3) := dk_178 0 126 (dk_at dksJ10_mismatch_1 1 rfl rfl)
theorem dJ10_mismatch_28 : decode cJ10_mismatch 28 = .ok (.i2l, 1) := dk_133 (dk_at dksJ10_mismatch_1 4 rfl rfl)
theorem dJ10_mismatch_29 : decode cJ10_mismatch 29 = .ok (.iload_n 2, 1) := dk_28 (dk_at dksJ10_mismatch_1 5 rfl rfl)
theorem dJ10_mismatch_30 : decode cJ10_mismatch 30 = .ok (.getstatic 129, 3) := dk_178 0 129 (dk_at dksJ10_mismatch_1 6 rfl rfl)
theorem dJ10_mismatch_33 : decode cJ10_mismatch 33 = .ok (.invokestatic 122, 3) := dk_184 0 122 (dk_at dksJ10_mismatch_1 9 rfl rfl)
theorem dJ10_mismatch_36 : decode cJ10_mismatch 36 = .ok (.istore_n 3, 1) := dk_62 (dk_at dksJ10_mismatch_1 12 rfl rfl)
theorem dJ10_mismatch_37 : decode cJ10_mismatch 37 = .ok (.iload_n 3, 1) := dk_29 (dk_at dksJ10_mismatch_1 13 rfl rfl)
theorem dJ10_mismatch_38 : decode cJ10_mismatch 38 = .ok (.ifCond .lt 5, 3) := dk_155 0 5 (dk_at dksJ10_mismatch_1 14 rfl rfl)
theorem dJ10_mismatch_41 : decode cJ10_mismatch 41 = .ok (.iload_n 3, 1) := dk_29 (dk_at dksJ10_mismatch_1 17 rfl rfl)
theorem dJ10_mismatch_42 : decode cJ10_mismatch 42 = .ok (.ireturn, 1) := dk_172 (dk_at dksJ10_mismatch_1 18 rfl rfl)
theorem dJ10_mismatch_43 : decode cJ10_mismatch 43 = .ok (.iload_n 2, 1) := dk_28 (dk_at dksJ10_mismatch_1 19 rfl rfl)
theorem dJ10_mismatch_44 : decode cJ10_mismatch 44 = .ok (.iload_n 3, 1) := dk_29 (dk_at dksJ10_mismatch_1 20 rfl rfl)
theorem dJ10_mismatch_45 : decode cJ10_mismatch 45 = .ok (.iconst (-1), 1) := dk_2 (dk_at dksJ10_mismatch_1 21 rfl rfl)
theorem dJ10_mismatch_46 : decode cJ10_mismatch 46 = .ok (.ixor, 1) := dk_130 (dk_at dksJ10_mismatch_1 22 rfl rfl)
theorem dJ10_mismatch_47 : decode cJ10_mismatch 47 = .ok (.isub, 1) := dk_100 (dk_at dksJ10_mismatch_1 23 rfl rfl)
theorem dJ10_mismatch_48 : decode cJ10_mismatch 48 = .ok (.istore_n 3, 1) := dk_62 (dk_at dksJ10_mismatch_2 0 rfl rfl)
theorem dJ10_mismatch_49 : decode cJ10_mismatch 49 = .ok (.iload_n 3, 1) := dk_29 (dk_at dksJ10_mismatch_2 1 rfl rfl)
theorem dJ10_mismatch_50 : decode cJ10_mismatch 50 = .ok (.iload_n 2, 1) := dk_28 (dk_at dksJ10_mismatch_2 2 rfl rfl)
theorem dJ10_mismatch_51 : decode cJ10_mismatch 51 = .ok (.if_icmp .ge 20, 3) := dk_162 0 20 (dk_at dksJ10_mismatch_2 3 rfl rfl)
theorem dJ10_mismatch_54 : decode cJ10_mismatch 54 = .ok (.aload_n 0, 1) := dk_42 (dk_at dksJ10_mismatch_2 6 rfl rfl)
theorem dJ10_mismatch_55 : decode cJ10_mismatch 55 = .ok (.iload_n 3, 1) := dk_29 (dk_at dksJ10_mismatch_2 7 rfl rfl)
theorem dJ10_mismatch_56 : decode cJ10_mismatch 56 = .ok (.baload, 1) := dk_51 (dk_at dksJ10_mismatch_2 8 rfl rfl)
theorem dJ10_mismatch_57 : decode cJ10_mismatch 57 = .ok (.aload_n 1, 1) := dk_43 (dk_at dksJ10_mismatch_2 9 rfl rfl)
theorem dJ10_mismatch_58 : decode cJ10_mismatch 58 = .ok (.iload_n 3, 1) := dk_29 (dk_at dksJ10_mismatch_2 10 rfl rfl)
theorem dJ10_mismatch_59 : decode cJ10_mismatch 59 = .ok (.baload, 1) := dk_51 (dk_at dksJ10_mismatch_2 11 rfl rfl)
theorem dJ10_mismatch_60 : decode cJ10_mismatch 60 = .ok (.if_icmp .eq 5, 3) := dk_159 0 5 (dk_at dksJ10_mismatch_2 12 rfl rfl)
theorem dJ10_mismatch_63 : decode cJ10_mismatch 63 = .ok (.iload_n 3, 1) := dk_29 (dk_at dksJ10_mismatch_2 15 rfl rfl)
theorem dJ10_mismatch_64 : decode cJ10_mismatch 64 = .ok (.ireturn, 1) := dk_172 (dk_at dksJ10_mismatch_2 16 rfl rfl)
theorem dJ10_mismatch_65 : decode cJ10_mismatch 65 = .ok (.iinc 3 1, 3) := dk_132 3 1 (dk_at dksJ10_mismatch_2 17 rfl rfl)
theorem dJ10_mismatch_68 : decode cJ10_mismatch 68 = .ok (.goto (-19), 3) := dk_167 255 237 (dk_at dksJ10_mismatch_2 20 rfl rfl)
theorem dJ10_mismatch_71 : decode cJ10_mismatch 71 = .ok (.iconst (-1), 1) := dk_2 (dk_at dksJ10_mismatch_2 23 rfl rfl)
theorem dJ10_mismatch_72 : decode cJ10_mismatch 72 = .ok (.ireturn, 1) := dk_172 (dk_at dksJ10_mismatch_3 0 rfl rfl)
abbrev cJ10_vectorizedMismatch : ByteArray := prog_57_method_3_code
def yJ10_vectorizedMismatch : MethodName := ⟨RJ10, "vectorizedMismatch", "(Ljava/lang/Object;JLjava/lang/Object;JII)I"⟩
def dkwJ10_vectorizedMismatch_11 : List UInt8 := [54, 10, 21, 10, 2, 130, 172, 21, 10, 2, 130, 172]
abbrev dktJ10_vectorizedMismatch_11 : List UInt8 := dkwJ10_vectorizedMismatch_11 ++ []
def dkwJ10_vectorizedMismatch_10 : List UInt8 := [178, 0, 46, 21, 7, 96, 122, 54, 17, 21, 9, 21, 8, 120, 21, 17, 96, 172, 21, 10, 21, 11, 100]
abbrev dktJ10_vectorizedMismatch_10 : List UInt8 := dkwJ10_vectorizedMismatch_10 ++ dktJ10_vectorizedMismatch_11
def dkwJ10_vectorizedMismatch_9 : List UInt8 := [153, 0, 18, 21, 16, 184, 0, 58, 178, 0, 46, 21, 7, 96, 122, 167, 0, 15, 21, 16, 184, 0, 11]
abbrev dktJ10_vectorizedMismatch_9 : List UInt8 := dkwJ10_vectorizedMismatch_9 ++ dktJ10_vectorizedMismatch_10
def dkwJ10_vectorizedMismatch_8 : List UInt8 := [182, 0, 54, 54, 15, 21, 14, 21, 15, 159, 0, 54, 21, 14, 21, 15, 130, 54, 16, 178, 0, 36]
abbrev dktJ10_vectorizedMismatch_8 : List UInt8 := dkwJ10_vectorizedMismatch_8 ++ dktJ10_vectorizedMismatch_9
def dkwJ10_vectorizedMismatch_7 : List UInt8 := [55, 12, 178, 0, 26, 42, 31, 22, 12, 97, 182, 0, 54, 54, 14, 178, 0, 26, 45, 22, 4, 22, 12, 97]
abbrev dktJ10_vectorizedMismatch_7 : List UInt8 := dkwJ10_vectorizedMismatch_7 ++ dktJ10_vectorizedMismatch_8
def dkwJ10_vectorizedMismatch_6 : List UInt8 := [4, 178, 0, 51, 21, 7, 100, 120, 54, 11, 21, 10, 21, 11, 161, 0, 104, 21, 9, 133, 178, 0, 20, 121]
abbrev dktJ10_vectorizedMismatch_6 : List UInt8 := dkwJ10_vectorizedMismatch_6 ++ dktJ10_vectorizedMismatch_7
def dkwJ10_vectorizedMismatch_5 : List UInt8 := [132, 9, 1, 167, 255, 148, 21, 6, 21, 9, 21, 8, 120, 100, 54, 10, 21, 7, 178, 0, 51, 162, 0, 126]
abbrev dktJ10_vectorizedMismatch_5 : List UInt8 := dkwJ10_vectorizedMismatch_5 ++ dktJ10_vectorizedMismatch_6
def dkwJ10_vectorizedMismatch_4 : List UInt8 := [22, 16, 184, 0, 49, 178, 0, 46, 21, 7, 96, 122, 54, 18, 21, 9, 21, 8, 120, 21, 18, 96, 172]
abbrev dktJ10_vectorizedMismatch_4 : List UInt8 := dkwJ10_vectorizedMismatch_4 ++ dktJ10_vectorizedMismatch_5
def dkwJ10_vectorizedMismatch_3 : List UInt8 := [55, 16, 178, 0, 36, 153, 0, 18, 22, 16, 184, 0, 40, 178, 0, 46, 21, 7, 96, 122, 167, 0, 15]
abbrev dktJ10_vectorizedMismatch_3 : List UInt8 := dkwJ10_vectorizedMismatch_3 ++ dktJ10_vectorizedMismatch_4
def dkwJ10_vectorizedMismatch_2 : List UInt8 := [22, 4, 22, 10, 97, 182, 0, 30, 55, 14, 22, 12, 22, 14, 148, 153, 0, 54, 22, 12, 22, 14, 131]
abbrev dktJ10_vectorizedMismatch_2 : List UInt8 := dkwJ10_vectorizedMismatch_2 ++ dktJ10_vectorizedMismatch_3
def dkwJ10_vectorizedMismatch_1 : List UInt8 := [178, 0, 20, 121, 55, 10, 178, 0, 26, 42, 31, 22, 10, 97, 182, 0, 30, 55, 12, 178, 0, 26, 45]
abbrev dktJ10_vectorizedMismatch_1 : List UInt8 := dkwJ10_vectorizedMismatch_1 ++ dktJ10_vectorizedMismatch_2
def dkwJ10_vectorizedMismatch_0 : List UInt8 := [178, 0, 20, 21, 7, 100, 54, 8, 3, 54, 9, 21, 9, 21, 6, 21, 8, 122, 162, 0, 104, 21, 9, 133]
abbrev dktJ10_vectorizedMismatch_0 : List UInt8 := dkwJ10_vectorizedMismatch_0 ++ dktJ10_vectorizedMismatch_1
theorem dksJ10_vectorizedMismatch_0 : cJ10_vectorizedMismatch.data.toList.drop 0 = dktJ10_vectorizedMismatch_0 := by decide +kernel
theorem dksJ10_vectorizedMismatch_1 : cJ10_vectorizedMismatch.data.toList.drop 24 = dktJ10_vectorizedMismatch_1 := dk_seg dksJ10_vectorizedMismatch_0 24 rfl rfl
theorem dksJ10_vectorizedMismatch_2 : cJ10_vectorizedMismatch.data.toList.drop 47 = dktJ10_vectorizedMismatch_2 := dk_seg dksJ10_vectorizedMismatch_1 23 rfl rfl
theorem dksJ10_vectorizedMismatch_3 : cJ10_vectorizedMismatch.data.toList.drop 70 = dktJ10_vectorizedMismatch_3 := dk_seg dksJ10_vectorizedMismatch_2 23 rfl rfl
theorem dksJ10_vectorizedMismatch_4 : cJ10_vectorizedMismatch.data.toList.drop 93 = dktJ10_vectorizedMismatch_4 := dk_seg dksJ10_vectorizedMismatch_3 23 rfl rfl
theorem dksJ10_vectorizedMismatch_5 : cJ10_vectorizedMismatch.data.toList.drop 116 = dktJ10_vectorizedMismatch_5 := dk_seg dksJ10_vectorizedMismatch_4 23 rfl rfl
theorem dksJ10_vectorizedMismatch_6 : cJ10_vectorizedMismatch.data.toList.drop 140 = dktJ10_vectorizedMismatch_6 := dk_seg dksJ10_vectorizedMismatch_5 24 rfl rfl
theorem dksJ10_vectorizedMismatch_7 : cJ10_vectorizedMismatch.data.toList.drop 164 = dktJ10_vectorizedMismatch_7 := dk_seg dksJ10_vectorizedMismatch_6 24 rfl rfl
theorem dksJ10_vectorizedMismatch_8 : cJ10_vectorizedMismatch.data.toList.drop 188 = dktJ10_vectorizedMismatch_8 := dk_seg dksJ10_vectorizedMismatch_7 24 rfl rfl
theorem dksJ10_vectorizedMismatch_9 : cJ10_vectorizedMismatch.data.toList.drop 210 = dktJ10_vectorizedMismatch_9 := dk_seg dksJ10_vectorizedMismatch_8 22 rfl rfl
theorem dksJ10_vectorizedMismatch_10 : cJ10_vectorizedMismatch.data.toList.drop 233 = dktJ10_vectorizedMismatch_10 := dk_seg dksJ10_vectorizedMismatch_9 23 rfl rfl
theorem dksJ10_vectorizedMismatch_11 : cJ10_vectorizedMismatch.data.toList.drop 256 = dktJ10_vectorizedMismatch_11 := dk_seg dksJ10_vectorizedMismatch_10 23 rfl rfl
theorem dJ10_vectorizedMismatch_0 : decode cJ10_vectorizedMismatch 0 = .ok (.getstatic 20, 3) := dk_178 0 20 (dk_at dksJ10_vectorizedMismatch_0 0 rfl rfl)
theorem dJ10_vectorizedMismatch_3 : decode cJ10_vectorizedMismatch 3 = .ok (.iload 7, 2) := dk_21 7 (dk_at dksJ10_vectorizedMismatch_0 3 rfl rfl)
theorem dJ10_vectorizedMismatch_5 : decode cJ10_vectorizedMismatch 5 = .ok (.isub, 1) := dk_100 (dk_at dksJ10_vectorizedMismatch_0 5 rfl rfl)
theorem dJ10_vectorizedMismatch_6 : decode cJ10_vectorizedMismatch 6 = .ok (.istore 8, 2) := dk_54 8 (dk_at dksJ10_vectorizedMismatch_0 6 rfl rfl)
theorem dJ10_vectorizedMismatch_8 : decode cJ10_vectorizedMismatch 8 = .ok (.iconst 0, 1) := dk_3 (dk_at dksJ10_vectorizedMismatch_0 8 rfl rfl)
theorem dJ10_vectorizedMismatch_9 : decode cJ10_vectorizedMismatch 9 = .ok (.istore 9, 2) := dk_54 9 (dk_at dksJ10_vectorizedMismatch_0 9 rfl rfl)
theorem dJ10_vectorizedMismatch_11 : decode cJ10_vectorizedMismatch 11 = .ok (.iload 9, 2) := dk_21 9 (dk_at dksJ10_vectorizedMismatch_0 11 rfl rfl)
theorem dJ10_vectorizedMismatch_13 : decode cJ10_vectorizedMismatch 13 = .ok (.iload 6, 2) := dk_21 6 (dk_at dksJ10_vectorizedMismatch_0 13 rfl rfl)
theorem dJ10_vectorizedMismatch_15 : decode cJ10_vectorizedMismatch 15 = .ok (.iload 8, 2) := dk_21 8 (dk_at dksJ10_vectorizedMismatch_0 15 rfl rfl)
theorem dJ10_vectorizedMismatch_17 : decode cJ10_vectorizedMismatch 17 = .ok (.ishr, 1) := dk_122 (dk_at dksJ10_vectorizedMismatch_0 17 rfl rfl)
theorem dJ10_vectorizedMismatch_18 : decode cJ10_vectorizedMismatch 18 = .ok (.if_icmp .ge 104, 3) := dk_162 0 104 (dk_at dksJ10_vectorizedMismatch_0 18 rfl rfl)
theorem dJ10_vectorizedMismatch_21 : decode cJ10_vectorizedMismatch 21 = .ok (.iload 9, 2) := dk_21 9 (dk_at dksJ10_vectorizedMismatch_0 21 rfl rfl)
theorem dJ10_vectorizedMismatch_23 : decode cJ10_vectorizedMismatch 23 = .ok (.i2l, 1) := dk_133 (dk_at dksJ10_vectorizedMismatch_0 23 rfl rfl)
theorem dJ10_vectorizedMismatch_24 : decode cJ10_vectorizedMismatch 24 = .ok (.getstatic 20, 3) := dk_178 0 20 (dk_at dksJ10_vectorizedMismatch_1 0 rfl rfl)
theorem dJ10_vectorizedMismatch_27 : decode cJ10_vectorizedMismatch 27 = .ok (.lshl, 1) := dk_121 (dk_at dksJ10_vectorizedMismatch_1 3 rfl rfl)
theorem dJ10_vectorizedMismatch_28 : decode cJ10_vectorizedMismatch 28 = .ok (.lstore 10, 2) := dk_55 10 (dk_at dksJ10_vectorizedMismatch_1 4 rfl rfl)
theorem dJ10_vectorizedMismatch_30 : decode cJ10_vectorizedMismatch 30 = .ok (.getstatic 26, 3) := dk_178 0 26 (dk_at dksJ10_vectorizedMismatch_1 6 rfl rfl)
theorem dJ10_vectorizedMismatch_33 : decode cJ10_vectorizedMismatch 33 = .ok (.aload_n 0, 1) := dk_42 (dk_at dksJ10_vectorizedMismatch_1 9 rfl rfl)
theorem dJ10_vectorizedMismatch_34 : decode cJ10_vectorizedMismatch 34 = .ok (.lload_n 1, 1) := dk_31 (dk_at dksJ10_vectorizedMismatch_1 10 rfl rfl)
theorem dJ10_vectorizedMismatch_35 : decode cJ10_vectorizedMismatch 35 = .ok (.lload 10, 2) := dk_22 10 (dk_at dksJ10_vectorizedMismatch_1 11 rfl rfl)
theorem dJ10_vectorizedMismatch_37 : decode cJ10_vectorizedMismatch 37 = .ok (.ladd, 1) := dk_97 (dk_at dksJ10_vectorizedMismatch_1 13 rfl rfl)
theorem dJ10_vectorizedMismatch_38 : decode cJ10_vectorizedMismatch 38 = .ok (.invokevirtual 30, 3) := dk_182 0 30 (dk_at dksJ10_vectorizedMismatch_1 14 rfl rfl)
theorem dJ10_vectorizedMismatch_41 : decode cJ10_vectorizedMismatch 41 = .ok (.lstore 12, 2) := dk_55 12 (dk_at dksJ10_vectorizedMismatch_1 17 rfl rfl)
theorem dJ10_vectorizedMismatch_43 : decode cJ10_vectorizedMismatch 43 = .ok (.getstatic 26, 3) := dk_178 0 26 (dk_at dksJ10_vectorizedMismatch_1 19 rfl rfl)
theorem dJ10_vectorizedMismatch_46 : decode cJ10_vectorizedMismatch 46 = .ok (.aload_n 3, 1) := dk_45 (dk_at dksJ10_vectorizedMismatch_1 22 rfl rfl)
theorem dJ10_vectorizedMismatch_47 : decode cJ10_vectorizedMismatch 47 = .ok (.lload 4, 2) := dk_22 4 (dk_at dksJ10_vectorizedMismatch_2 0 rfl rfl)
theorem dJ10_vectorizedMismatch_49 : decode cJ10_vectorizedMismatch 49 = .ok (.lload 10, 2) := dk_22 10 (dk_at dksJ10_vectorizedMismatch_2 2 rfl rfl)
theorem dJ10_vectorizedMismatch_51 : decode cJ10_vectorizedMismatch 51 = .ok (.ladd, 1) := dk_97 (dk_at dksJ10_vectorizedMismatch_2 4 rfl rfl)
theorem dJ10_vectorizedMismatch_52 : decode cJ10_vectorizedMismatch 52 = .ok (.invokevirtual 30, 3) := dk_182 0 30 (dk_at dksJ10_vectorizedMismatch_2 5 rfl rfl)
theorem dJ10_vectorizedMismatch_55 : decode cJ10_vectorizedMismatch 55 = .ok (.lstore 14, 2) := dk_55 14 (dk_at dksJ10_vectorizedMismatch_2 8 rfl rfl)
theorem dJ10_vectorizedMismatch_57 : decode cJ10_vectorizedMismatch 57 = .ok (.lload 12, 2) := dk_22 12 (dk_at dksJ10_vectorizedMismatch_2 10 rfl rfl)
theorem dJ10_vectorizedMismatch_59 : decode cJ10_vectorizedMismatch 59 = .ok (.lload 14, 2) := dk_22 14 (dk_at dksJ10_vectorizedMismatch_2 12 rfl rfl)
theorem dJ10_vectorizedMismatch_61 : decode cJ10_vectorizedMismatch 61 = .ok (.lcmp, 1) := dk_148 (dk_at dksJ10_vectorizedMismatch_2 14 rfl rfl)
theorem dJ10_vectorizedMismatch_62 : decode cJ10_vectorizedMismatch 62 = .ok (.ifCond .eq 54, 3) := dk_153 0 54 (dk_at dksJ10_vectorizedMismatch_2 15 rfl rfl)
theorem dJ10_vectorizedMismatch_65 : decode cJ10_vectorizedMismatch 65 = .ok (.lload 12, 2) := dk_22 12 (dk_at dksJ10_vectorizedMismatch_2 18 rfl rfl)
theorem dJ10_vectorizedMismatch_67 : decode cJ10_vectorizedMismatch 67 = .ok (.lload 14, 2) := dk_22 14 (dk_at dksJ10_vectorizedMismatch_2 20 rfl rfl)
theorem dJ10_vectorizedMismatch_69 : decode cJ10_vectorizedMismatch 69 = .ok (.lxor, 1) := dk_131 (dk_at dksJ10_vectorizedMismatch_2 22 rfl rfl)
theorem dJ10_vectorizedMismatch_70 : decode cJ10_vectorizedMismatch 70 = .ok (.lstore 16, 2) := dk_55 16 (dk_at dksJ10_vectorizedMismatch_3 0 rfl rfl)
theorem dJ10_vectorizedMismatch_72 : decode cJ10_vectorizedMismatch 72 = .ok (.getstatic 36, 3) := dk_178 0 36 (dk_at dksJ10_vectorizedMismatch_3 2 rfl rfl)
theorem dJ10_vectorizedMismatch_75 : decode cJ10_vectorizedMismatch 75 = .ok (.ifCond .eq 18, 3) := dk_153 0 18 (dk_at dksJ10_vectorizedMismatch_3 5 rfl rfl)
theorem dJ10_vectorizedMismatch_78 : decode cJ10_vectorizedMismatch 78 = .ok (.lload 16, 2) := dk_22 16 (dk_at dksJ10_vectorizedMismatch_3 8 rfl rfl)
theorem dJ10_vectorizedMismatch_80 : decode cJ10_vectorizedMismatch 80 = .ok (.invokestatic 40, 3) := dk_184 0 40 (dk_at dksJ10_vectorizedMismatch_3 10 rfl rfl)
theorem dJ10_vectorizedMismatch_83 : decode cJ10_vectorizedMismatch 83 = .ok (.getstatic 46, 3) := dk_178 0 46 (dk_at dksJ10_vectorizedMismatch_3 13 rfl rfl)
theorem dJ10_vectorizedMismatch_86 : decode cJ10_vectorizedMismatch 86 = .ok (.iload 7, 2) := dk_21 7 (dk_at dksJ10_vectorizedMismatch_3 16 rfl rfl)
theorem dJ10_vectorizedMismatch_88 : decode cJ10_vectorizedMismatch 88 = .ok (.iadd, 1) := dk_96 (dk_at dksJ10_vectorizedMismatch_3 18 rfl rfl)
theorem dJ10_vectorizedMismatch_89 : decode cJ10_vectorizedMismatch 89 = .ok (.ishr, 1) := dk_122 (dk_at dksJ10_vectorizedMismatch_3 19 rfl rfl)
theorem dJ10_vectorizedMismatch_90 : decode cJ10_vectorizedMismatch 90 = .ok (.goto 15, 3) := dk_167 0 15 (dk_at dksJ10_vectorizedMismatch_3 20 rfl rfl)
theorem dJ10_vectorizedMismatch_93 : decode cJ10_vectorizedMismatch 93 = .ok (.lload 16, 2) := dk_22 16 (dk_at dksJ10_vectorizedMismatch_4 0 rfl rfl)
theorem dJ10_vectorizedMismatch_95 : decode cJ10_vectorizedMismatch 95 = .ok (.invokestatic 49, 3) := dk_184 0 49 (dk_at dksJ10_vectorizedMismatch_4 2 rfl rfl)
theorem dJ10_vectorizedMismatch_98 : decode cJ10_vectorizedMismatch 98 = .ok (.getstatic 46, 3) := dk_178 0 46 (dk_at dksJ10_vectorizedMismatch_4 5 rfl rfl)
theorem dJ10_vectorizedMismatch_101 : decode cJ10_vectorizedMismatch 101 = .ok (.iload 7, 2) := dk_21 7 (dk_at dksJ10_vectorizedMismatch_4 8 rfl rfl)
theorem dJ10_vectorizedMismatch_103 : decode cJ10_vectorizedMismatch 103 = .ok (.iadd, 1) := dk_96 (dk_at dksJ10_vectorizedMismatch_4 10 rfl rfl)
theorem dJ10_vectorizedMismatch_104 : decode cJ10_vectorizedMismatch 104 = .ok (.ishr, 1) := dk_122 (dk_at dksJ10_vectorizedMismatch_4 11 rfl rfl)
theorem dJ10_vectorizedMismatch_105 : decode cJ10_vectorizedMismatch 105 = .ok (.istore 18, 2) := dk_54 18 (dk_at dksJ10_vectorizedMismatch_4 12 rfl rfl)
theorem dJ10_vectorizedMismatch_107 : decode cJ10_vectorizedMismatch 107 = .ok (.iload 9, 2) := dk_21 9 (dk_at dksJ10_vectorizedMismatch_4 14 rfl rfl)
theorem dJ10_vectorizedMismatch_109 : decode cJ10_vectorizedMismatch 109 = .ok (.iload 8, 2) := dk_21 8 (dk_at dksJ10_vectorizedMismatch_4 16 rfl rfl)
theorem dJ10_vectorizedMismatch_111 : decode cJ10_vectorizedMismatch 111 = .ok (.ishl, 1) := dk_120 (dk_at dksJ10_vectorizedMismatch_4 18 rfl rfl)
theorem dJ10_vectorizedMismatch_112 : decode cJ10_vectorizedMismatch 112 = .ok (.iload 18, 2) := dk_21 18 (dk_at dksJ10_vectorizedMismatch_4 19 rfl rfl)
theorem dJ10_vectorizedMismatch_114 : decode cJ10_vectorizedMismatch 114 = .ok (.iadd, 1) := dk_96 (dk_at dksJ10_vectorizedMismatch_4 21 rfl rfl)
theorem dJ10_vectorizedMismatch_115 : decode cJ10_vectorizedMismatch 115 = .ok (.ireturn, 1) := dk_172 (dk_at dksJ10_vectorizedMismatch_4 22 rfl rfl)
theorem dJ10_vectorizedMismatch_116 : decode cJ10_vectorizedMismatch 116 = .ok (.iinc 9 1, 3) := dk_132 9 1 (dk_at dksJ10_vectorizedMismatch_5 0 rfl rfl)
theorem dJ10_vectorizedMismatch_119 : decode cJ10_vectorizedMismatch 119 = .ok (.goto (-108), 3) := dk_167 255 148 (dk_at dksJ10_vectorizedMismatch_5 3 rfl rfl)
theorem dJ10_vectorizedMismatch_122 : decode cJ10_vectorizedMismatch 122 = .ok (.iload 6, 2) := dk_21 6 (dk_at dksJ10_vectorizedMismatch_5 6 rfl rfl)
theorem dJ10_vectorizedMismatch_124 : decode cJ10_vectorizedMismatch 124 = .ok (.iload 9, 2) := dk_21 9 (dk_at dksJ10_vectorizedMismatch_5 8 rfl rfl)
theorem dJ10_vectorizedMismatch_126 : decode cJ10_vectorizedMismatch 126 = .ok (.iload 8, 2) := dk_21 8 (dk_at dksJ10_vectorizedMismatch_5 10 rfl rfl)
theorem dJ10_vectorizedMismatch_128 : decode cJ10_vectorizedMismatch 128 = .ok (.ishl, 1) := dk_120 (dk_at dksJ10_vectorizedMismatch_5 12 rfl rfl)
theorem dJ10_vectorizedMismatch_129 : decode cJ10_vectorizedMismatch 129 = .ok (.isub, 1) := dk_100 (dk_at dksJ10_vectorizedMismatch_5 13 rfl rfl)
theorem dJ10_vectorizedMismatch_130 : decode cJ10_vectorizedMismatch 130 = .ok (.istore 10, 2) := dk_54 10 (dk_at dksJ10_vectorizedMismatch_5 14 rfl rfl)
theorem dJ10_vectorizedMismatch_132 : decode cJ10_vectorizedMismatch 132 = .ok (.iload 7, 2) := dk_21 7 (dk_at dksJ10_vectorizedMismatch_5 16 rfl rfl)
theorem dJ10_vectorizedMismatch_134 : decode cJ10_vectorizedMismatch 134 = .ok (.getstatic 51, 3) := dk_178 0 51 (dk_at dksJ10_vectorizedMismatch_5 18 rfl rfl)
theorem dJ10_vectorizedMismatch_137 : decode cJ10_vectorizedMismatch 137 = .ok (.if_icmp .ge 126, 3) := dk_162 0 126 (dk_at dksJ10_vectorizedMismatch_5 21 rfl rfl)
theorem dJ10_vectorizedMismatch_140 : decode cJ10_vectorizedMismatch 140 = .ok (.iconst 1, 1) := dk_4 (dk_at dksJ10_vectorizedMismatch_6 0 rfl rfl)
theorem dJ10_vectorizedMismatch_141 : decode cJ10_vectorizedMismatch 141 = .ok (.getstatic 51, 3) := dk_178 0 51 (dk_at dksJ10_vectorizedMismatch_6 1 rfl rfl)
theorem dJ10_vectorizedMismatch_144 : decode cJ10_vectorizedMismatch 144 = .ok (.iload 7, 2) := dk_21 7 (dk_at dksJ10_vectorizedMismatch_6 4 rfl rfl)
theorem dJ10_vectorizedMismatch_146 : decode cJ10_vectorizedMismatch 146 = .ok (.isub, 1) := dk_100 (dk_at dksJ10_vectorizedMismatch_6 6 rfl rfl)
theorem dJ10_vectorizedMismatch_147 : decode cJ10_vectorizedMismatch 147 = .ok (.ishl, 1) := dk_120 (dk_at dksJ10_vectorizedMismatch_6 7 rfl rfl)
theorem dJ10_vectorizedMismatch_148 : decode cJ10_vectorizedMismatch 148 = .ok (.istore 11, 2) := dk_54 11 (dk_at dksJ10_vectorizedMismatch_6 8 rfl rfl)
theorem dJ10_vectorizedMismatch_150 : decode cJ10_vectorizedMismatch 150 = .ok (.iload 10, 2) := dk_21 10 (dk_at dksJ10_vectorizedMismatch_6 10 rfl rfl)
theorem dJ10_vectorizedMismatch_152 : decode cJ10_vectorizedMismatch 152 = .ok (.iload 11, 2) := dk_21 11 (dk_at dksJ10_vectorizedMismatch_6 12 rfl rfl)
theorem dJ10_vectorizedMismatch_154 : decode cJ10_vectorizedMismatch 154 = .ok (.if_icmp .lt 104, 3) := dk_161 0 104 (dk_at dksJ10_vectorizedMismatch_6 14 rfl rfl)
theorem dJ10_vectorizedMismatch_157 : decode cJ10_vectorizedMismatch 157 = .ok (.iload 9, 2) := dk_21 9 (dk_at dksJ10_vectorizedMismatch_6 17 rfl rfl)
theorem dJ10_vectorizedMismatch_159 : decode cJ10_vectorizedMismatch 159 = .ok (.i2l, 1) := dk_133 (dk_at dksJ10_vectorizedMismatch_6 19 rfl rfl)
theorem dJ10_vectorizedMismatch_160 : decode cJ10_vectorizedMismatch 160 = .ok (.getstatic 20, 3) := dk_178 0 20 (dk_at dksJ10_vectorizedMismatch_6 20 rfl rfl)
theorem dJ10_vectorizedMismatch_163 : decode cJ10_vectorizedMismatch 163 = .ok (.lshl, 1) := dk_121 (dk_at dksJ10_vectorizedMismatch_6 23 rfl rfl)
theorem dJ10_vectorizedMismatch_164 : decode cJ10_vectorizedMismatch 164 = .ok (.lstore 12, 2) := dk_55 12 (dk_at dksJ10_vectorizedMismatch_7 0 rfl rfl)
theorem dJ10_vectorizedMismatch_166 : decode cJ10_vectorizedMismatch 166 = .ok (.getstatic 26, 3) := dk_178 0 26 (dk_at dksJ10_vectorizedMismatch_7 2 rfl rfl)
theorem dJ10_vectorizedMismatch_169 : decode cJ10_vectorizedMismatch 169 = .ok (.aload_n 0, 1) := dk_42 (dk_at dksJ10_vectorizedMismatch_7 5 rfl rfl)
theorem dJ10_vectorizedMismatch_170 : decode cJ10_vectorizedMismatch 170 = .ok (.lload_n 1, 1) := dk_31 (dk_at dksJ10_vectorizedMismatch_7 6 rfl rfl)
theorem dJ10_vectorizedMismatch_171 : decode cJ10_vectorizedMismatch 171 = .ok (.lload 12, 2) := dk_22 12 (dk_at dksJ10_vectorizedMismatch_7 7 rfl rfl)
theorem dJ10_vectorizedMismatch_173 : decode cJ10_vectorizedMismatch 173 = .ok (.ladd, 1) := dk_97 (dk_at dksJ10_vectorizedMismatch_7 9 rfl rfl)
theorem dJ10_vectorizedMismatch_174 : decode cJ10_vectorizedMismatch 174 = .ok (.invokevirtual 54, 3) := dk_182 0 54 (dk_at dksJ10_vectorizedMismatch_7 10 rfl rfl)
theorem dJ10_vectorizedMismatch_177 : decode cJ10_vectorizedMismatch 177 = .ok (.istore 14, 2) := dk_54 14 (dk_at dksJ10_vectorizedMismatch_7 13 rfl rfl)
theorem dJ10_vectorizedMismatch_179 : decode cJ10_vectorizedMismatch 179 = .ok (.getstatic 26, 3) := dk_178 0 26 (dk_at dksJ10_vectorizedMismatch_7 15 rfl rfl)
theorem dJ10_vectorizedMismatch_182 : decode cJ10_vectorizedMismatch 182 = .ok (.aload_n 3, 1) := dk_45 (dk_at dksJ10_vectorizedMismatch_7 18 rfl rfl)
theorem dJ10_vectorizedMismatch_183 : decode cJ10_vectorizedMismatch 183 = .ok (.lload 4, 2) := dk_22 4 (dk_at dksJ10_vectorizedMismatch_7 19 rfl rfl)
theorem dJ10_vectorizedMismatch_185 : decode cJ10_vectorizedMismatch 185 = .ok (.lload 12, 2) := dk_22 12 (dk_at dksJ10_vectorizedMismatch_7 21 rfl rfl)
theorem dJ10_vectorizedMismatch_187 : decode cJ10_vectorizedMismatch 187 = .ok (.ladd, 1) := dk_97 (dk_at dksJ10_vectorizedMismatch_7 23 rfl rfl)
theorem dJ10_vectorizedMismatch_188 : decode cJ10_vectorizedMismatch 188 = .ok (.invokevirtual 54, 3) := dk_182 0 54 (dk_at dksJ10_vectorizedMismatch_8 0 rfl rfl)
theorem dJ10_vectorizedMismatch_191 : decode cJ10_vectorizedMismatch 191 = .ok (.istore 15, 2) := dk_54 15 (dk_at dksJ10_vectorizedMismatch_8 3 rfl rfl)
theorem dJ10_vectorizedMismatch_193 : decode cJ10_vectorizedMismatch 193 = .ok (.iload 14, 2) := dk_21 14 (dk_at dksJ10_vectorizedMismatch_8 5 rfl rfl)
theorem dJ10_vectorizedMismatch_195 : decode cJ10_vectorizedMismatch 195 = .ok (.iload 15, 2) := dk_21 15 (dk_at dksJ10_vectorizedMismatch_8 7 rfl rfl)
theorem dJ10_vectorizedMismatch_197 : decode cJ10_vectorizedMismatch 197 = .ok (.if_icmp .eq 54, 3) := dk_159 0 54 (dk_at dksJ10_vectorizedMismatch_8 9 rfl rfl)
theorem dJ10_vectorizedMismatch_200 : decode cJ10_vectorizedMismatch 200 = .ok (.iload 14, 2) := dk_21 14 (dk_at dksJ10_vectorizedMismatch_8 12 rfl rfl)
theorem dJ10_vectorizedMismatch_202 : decode cJ10_vectorizedMismatch 202 = .ok (.iload 15, 2) := dk_21 15 (dk_at dksJ10_vectorizedMismatch_8 14 rfl rfl)
theorem dJ10_vectorizedMismatch_204 : decode cJ10_vectorizedMismatch 204 = .ok (.ixor, 1) := dk_130 (dk_at dksJ10_vectorizedMismatch_8 16 rfl rfl)
theorem dJ10_vectorizedMismatch_205 : decode cJ10_vectorizedMismatch 205 = .ok (.istore 16, 2) := dk_54 16 (dk_at dksJ10_vectorizedMismatch_8 17 rfl rfl)
theorem dJ10_vectorizedMismatch_207 : decode cJ10_vectorizedMismatch 207 = .ok (.getstatic 36, 3) := dk_178 0 36 (dk_at dksJ10_vectorizedMismatch_8 19 rfl rfl)
theorem dJ10_vectorizedMismatch_210 : decode cJ10_vectorizedMismatch 210 = .ok (.ifCond .eq 18, 3) := dk_153 0 18 (dk_at dksJ10_vectorizedMismatch_9 0 rfl rfl)
theorem dJ10_vectorizedMismatch_213 : decode cJ10_vectorizedMismatch 213 = .ok (.iload 16, 2) := dk_21 16 (dk_at dksJ10_vectorizedMismatch_9 3 rfl rfl)
theorem dJ10_vectorizedMismatch_215 : decode cJ10_vectorizedMismatch 215 = .ok (.invokestatic 58, 3) := dk_184 0 58 (dk_at dksJ10_vectorizedMismatch_9 5 rfl rfl)
theorem dJ10_vectorizedMismatch_218 : decode cJ10_vectorizedMismatch 218 = .ok (.getstatic 46, 3) := dk_178 0 46 (dk_at dksJ10_vectorizedMismatch_9 8 rfl rfl)
theorem dJ10_vectorizedMismatch_221 : decode cJ10_vectorizedMismatch 221 = .ok (.iload 7, 2) := dk_21 7 (dk_at dksJ10_vectorizedMismatch_9 11 rfl rfl)
theorem dJ10_vectorizedMismatch_223 : decode cJ10_vectorizedMismatch 223 = .ok (.iadd, 1) := dk_96 (dk_at dksJ10_vectorizedMismatch_9 13 rfl rfl)
theorem dJ10_vectorizedMismatch_224 : decode cJ10_vectorizedMismatch 224 = .ok (.ishr, 1) := dk_122 (dk_at dksJ10_vectorizedMismatch_9 14 rfl rfl)
theorem dJ10_vectorizedMismatch_225 : decode cJ10_vectorizedMismatch 225 = .ok (.goto 15, 3) := dk_167 0 15 (dk_at dksJ10_vectorizedMismatch_9 15 rfl rfl)
theorem dJ10_vectorizedMismatch_228 : decode cJ10_vectorizedMismatch 228 = .ok (.iload 16, 2) := dk_21 16 (dk_at dksJ10_vectorizedMismatch_9 18 rfl rfl)
theorem dJ10_vectorizedMismatch_230 : decode cJ10_vectorizedMismatch 230 = .ok (.invokestatic 11, 3) := dk_184 0 11 (dk_at dksJ10_vectorizedMismatch_9 20 rfl rfl)
theorem dJ10_vectorizedMismatch_233 : decode cJ10_vectorizedMismatch 233 = .ok (.getstatic 46, 3) := dk_178 0 46 (dk_at dksJ10_vectorizedMismatch_10 0 rfl rfl)
theorem dJ10_vectorizedMismatch_236 : decode cJ10_vectorizedMismatch 236 = .ok (.iload 7, 2) := dk_21 7 (dk_at dksJ10_vectorizedMismatch_10 3 rfl rfl)
theorem dJ10_vectorizedMismatch_238 : decode cJ10_vectorizedMismatch 238 = .ok (.iadd, 1) := dk_96 (dk_at dksJ10_vectorizedMismatch_10 5 rfl rfl)
theorem dJ10_vectorizedMismatch_239 : decode cJ10_vectorizedMismatch 239 = .ok (.ishr, 1) := dk_122 (dk_at dksJ10_vectorizedMismatch_10 6 rfl rfl)
theorem dJ10_vectorizedMismatch_240 : decode cJ10_vectorizedMismatch 240 = .ok (.istore 17, 2) := dk_54 17 (dk_at dksJ10_vectorizedMismatch_10 7 rfl rfl)
theorem dJ10_vectorizedMismatch_242 : decode cJ10_vectorizedMismatch 242 = .ok (.iload 9, 2) := dk_21 9 (dk_at dksJ10_vectorizedMismatch_10 9 rfl rfl)
theorem dJ10_vectorizedMismatch_244 : decode cJ10_vectorizedMismatch 244 = .ok (.iload 8, 2) := dk_21 8 (dk_at dksJ10_vectorizedMismatch_10 11 rfl rfl)
theorem dJ10_vectorizedMismatch_246 : decode cJ10_vectorizedMismatch 246 = .ok (.ishl, 1) := dk_120 (dk_at dksJ10_vectorizedMismatch_10 13 rfl rfl)
theorem dJ10_vectorizedMismatch_247 : decode cJ10_vectorizedMismatch 247 = .ok (.iload 17, 2) := dk_21 17 (dk_at dksJ10_vectorizedMismatch_10 14 rfl rfl)
theorem dJ10_vectorizedMismatch_249 : decode cJ10_vectorizedMismatch 249 = .ok (.iadd, 1) := dk_96 (dk_at dksJ10_vectorizedMismatch_10 16 rfl rfl)
theorem dJ10_vectorizedMismatch_250 : decode cJ10_vectorizedMismatch 250 = .ok (.ireturn, 1) := dk_172 (dk_at dksJ10_vectorizedMismatch_10 17 rfl rfl)
theorem dJ10_vectorizedMismatch_251 : decode cJ10_vectorizedMismatch 251 = .ok (.iload 10, 2) := dk_21 10 (dk_at dksJ10_vectorizedMismatch_10 18 rfl rfl)
theorem dJ10_vectorizedMismatch_253 : decode cJ10_vectorizedMismatch 253 = .ok (.iload 11, 2) := dk_21 11 (dk_at dksJ10_vectorizedMismatch_10 20 rfl rfl)
theorem dJ10_vectorizedMismatch_255 : decode cJ10_vectorizedMismatch 255 = .ok (.isub, 1) := dk_100 (dk_at dksJ10_vectorizedMismatch_10 22 rfl rfl)
theorem dJ10_vectorizedMismatch_256 : decode cJ10_vectorizedMismatch 256 = .ok (.istore 10, 2) := dk_54 10 (dk_at dksJ10_vectorizedMismatch_11 0 rfl rfl)
theorem dJ10_vectorizedMismatch_258 : decode cJ10_vectorizedMismatch 258 = .ok (.iload 10, 2) := dk_21 10 (dk_at dksJ10_vectorizedMismatch_11 2 rfl rfl)
theorem dJ10_vectorizedMismatch_260 : decode cJ10_vectorizedMismatch 260 = .ok (.iconst (-1), 1) := dk_2 (dk_at dksJ10_vectorizedMismatch_11 4 rfl rfl)
theorem dJ10_vectorizedMismatch_261 : decode cJ10_vectorizedMismatch 261 = .ok (.ixor, 1) := dk_130 (dk_at dksJ10_vectorizedMismatch_11 5 rfl rfl)
theorem dJ10_vectorizedMismatch_262 : decode cJ10_vectorizedMismatch 262 = .ok (.ireturn, 1) := dk_172 (dk_at dksJ10_vectorizedMismatch_11 6 rfl rfl)
theorem dJ10_vectorizedMismatch_263 : decode cJ10_vectorizedMismatch 263 = .ok (.iload 10, 2) := dk_21 10 (dk_at dksJ10_vectorizedMismatch_11 7 rfl rfl)
theorem dJ10_vectorizedMismatch_265 : decode cJ10_vectorizedMismatch 265 = .ok (.iconst (-1), 1) := dk_2 (dk_at dksJ10_vectorizedMismatch_11 9 rfl rfl)
theorem dJ10_vectorizedMismatch_266 : decode cJ10_vectorizedMismatch 266 = .ok (.ixor, 1) := dk_130 (dk_at dksJ10_vectorizedMismatch_11 10 rfl rfl)
theorem dJ10_vectorizedMismatch_267 : decode cJ10_vectorizedMismatch 267 = .ok (.ireturn, 1) := dk_172 (dk_at dksJ10_vectorizedMismatch_11 11 rfl rfl)
theorem q102 : (Jvm.Cond.initialized "jdk/internal/util/ArraysSupport") ∈ lw_all := lw_g (lw_at lw_m1 17 rfl) rfl
theorem q346 : (Jvm.Cond.static ({ cls := "jdk/internal/util/ArraysSupport", name := "newLength", desc := "(III)I" } : Jvm.MethodName)) ∈ lw_all := lw_g (lw_at lw_m2 21 rfl) rfl
theorem q347 : (Jvm.Cond.code ({ cls := "jdk/internal/util/ArraysSupport", name := "newLength", desc := "(III)I" } : Jvm.MethodName) prog_57_method_27_code (4 : Nat) (Option.some Jvm.ClassFile.FieldType.int)) ∈ lw_all := lw_g (lw_at lw_m2 22 rfl) rfl
theorem q348 : (Jvm.Cond.methodLink "jdk/internal/util/ArraysSupport" (194 : Nat) ({ cls := "java/lang/Math", name := "max", desc := "(II)I" } : Jvm.MethodName)) ∈ lw_all := lw_g (lw_at lw_m2 23 rfl) rfl
theorem q351 : (Jvm.Cond.constant "jdk/internal/util/ArraysSupport" (200 : Nat) (2147483639 : Int32)) ∈ lw_all := lw_g (lw_at lw_m2 26 rfl) rfl
theorem q352 : (Jvm.Cond.methodLink "jdk/internal/util/ArraysSupport" (201 : Nat) ({ cls := "jdk/internal/util/ArraysSupport", name := "hugeLength", desc := "(II)I" } : Jvm.MethodName)) ∈ lw_all := lw_g (lw_at lw_m2 27 rfl) rfl
theorem q353 : (Jvm.Cond.static ({ cls := "jdk/internal/util/ArraysSupport", name := "hugeLength", desc := "(II)I" } : Jvm.MethodName)) ∈ lw_all := lw_g (lw_at lw_m2 28 rfl) rfl
theorem q354 : (Jvm.Cond.code ({ cls := "jdk/internal/util/ArraysSupport", name := "hugeLength", desc := "(II)I" } : Jvm.MethodName) prog_57_method_28_code (3 : Nat) (Option.some Jvm.ClassFile.FieldType.int)) ∈ lw_all := lw_g (lw_at lw_m2 29 rfl) rfl
theorem q670 : (Jvm.Cond.static ({ cls := "jdk/internal/util/ArraysSupport", name := "mismatch", desc := "([B[BI)I" } : Jvm.MethodName)) ∈ lw_all := lw_g (lw_at lw_m3 105 rfl) rfl
theorem q671 : (Jvm.Cond.code ({ cls := "jdk/internal/util/ArraysSupport", name := "mismatch", desc := "([B[BI)I" } : Jvm.MethodName) prog_57_method_13_code (4 : Nat) (Option.some Jvm.ClassFile.FieldType.int)) ∈ lw_all := lw_g (lw_at lw_m3 106 rfl) rfl
theorem q672 : (Jvm.Cond.fieldLink "jdk/internal/util/ArraysSupport" (126 : Nat) "jdk/internal/misc/Unsafe" "ARRAY_BYTE_BASE_OFFSET" "I") ∈ lw_all := lw_g (lw_at lw_m3 107 rfl) rfl
theorem q674 : (Jvm.Cond.fieldLink "jdk/internal/util/ArraysSupport" (129 : Nat) "jdk/internal/util/ArraysSupport" "LOG2_ARRAY_BYTE_INDEX_SCALE" "I") ∈ lw_all := lw_g (lw_at lw_m3 109 rfl) rfl
theorem q675 : (Jvm.Cond.laysStatic "jdk/internal/util/ArraysSupport" "LOG2_ARRAY_BYTE_INDEX_SCALE" "I") ∈ lw_tbl := lw_at lw_m3 110 rfl
theorem q676 : (Jvm.Cond.methodLink "jdk/internal/util/ArraysSupport" (122 : Nat) ({ cls := "jdk/internal/util/ArraysSupport", name := "vectorizedMismatch", desc := "(Ljava/lang/Object;JLjava/lang/Object;JII)I" } : Jvm.MethodName)) ∈ lw_all := lw_g (lw_at lw_m3 111 rfl) rfl
theorem q677 : (Jvm.Cond.static ({ cls := "jdk/internal/util/ArraysSupport", name := "vectorizedMismatch", desc := "(Ljava/lang/Object;JLjava/lang/Object;JII)I" } : Jvm.MethodName)) ∈ lw_all := lw_g (lw_at lw_m3 112 rfl) rfl
theorem q678 : (Jvm.Cond.code ({ cls := "jdk/internal/util/ArraysSupport", name := "vectorizedMismatch", desc := "(Ljava/lang/Object;JLjava/lang/Object;JII)I" } : Jvm.MethodName) prog_57_method_3_code (19 : Nat) (Option.some Jvm.ClassFile.FieldType.int)) ∈ lw_all := lw_g (lw_at lw_m3 113 rfl) rfl
theorem q679 : (Jvm.Cond.fieldLink "jdk/internal/util/ArraysSupport" (20 : Nat) "jdk/internal/util/ArraysSupport" "LOG2_ARRAY_LONG_INDEX_SCALE" "I") ∈ lw_all := lw_g (lw_at lw_m3 114 rfl) rfl
theorem q680 : (Jvm.Cond.laysStatic "jdk/internal/util/ArraysSupport" "LOG2_ARRAY_LONG_INDEX_SCALE" "I") ∈ lw_tbl := lw_at lw_m3 115 rfl
theorem q681 : (Jvm.Cond.fieldLink "jdk/internal/util/ArraysSupport" (26 : Nat) "jdk/internal/util/ArraysSupport" "U" "Ljdk/internal/misc/Unsafe;") ∈ lw_all := lw_g (lw_at lw_m3 116 rfl) rfl
theorem q682 : (Jvm.Cond.laysStatic "jdk/internal/util/ArraysSupport" "U" "Ljdk/internal/misc/Unsafe;") ∈ lw_tbl := lw_at lw_m3 117 rfl
theorem q683 : (Jvm.Cond.methodLink "jdk/internal/util/ArraysSupport" (30 : Nat) ({ cls := "jdk/internal/misc/Unsafe", name := "getLongUnaligned", desc := "(Ljava/lang/Object;J)J" } : Jvm.MethodName)) ∈ lw_all := lw_g (lw_at lw_m3 118 rfl) rfl
theorem q735 : (Jvm.Cond.fieldLink "jdk/internal/util/ArraysSupport" (36 : Nat) "jdk/internal/util/ArraysSupport" "BIG_ENDIAN" "Z") ∈ lw_all := lw_g (lw_at lw_m3 170 rfl) rfl
theorem q736 : (Jvm.Cond.laysStatic "jdk/internal/util/ArraysSupport" "BIG_ENDIAN" "Z") ∈ lw_tbl := lw_at lw_m3 171 rfl
theorem q737 : (Jvm.Cond.methodLink "jdk/internal/util/ArraysSupport" (40 : Nat) ({ cls := "java/lang/Long", name := "numberOfLeadingZeros", desc := "(J)I" } : Jvm.MethodName)) ∈ lw_all := lw_g (lw_at lw_m3 172 rfl) rfl
theorem q744 : (Jvm.Cond.fieldLink "jdk/internal/util/ArraysSupport" (46 : Nat) "jdk/internal/util/ArraysSupport" "LOG2_BYTE_BIT_SIZE" "I") ∈ lw_all := lw_g (lw_at lw_m3 179 rfl) rfl
theorem q745 : (Jvm.Cond.laysStatic "jdk/internal/util/ArraysSupport" "LOG2_BYTE_BIT_SIZE" "I") ∈ lw_tbl := lw_at lw_m3 180 rfl
theorem q746 : (Jvm.Cond.methodLink "jdk/internal/util/ArraysSupport" (49 : Nat) ({ cls := "java/lang/Long", name := "numberOfTrailingZeros", desc := "(J)I" } : Jvm.MethodName)) ∈ lw_all := lw_g (lw_at lw_m3 181 rfl) rfl
theorem q752 : (Jvm.Cond.fieldLink "jdk/internal/util/ArraysSupport" (51 : Nat) "jdk/internal/util/ArraysSupport" "LOG2_ARRAY_INT_INDEX_SCALE" "I") ∈ lw_all := lw_g (lw_at lw_m3 187 rfl) rfl
theorem q753 : (Jvm.Cond.laysStatic "jdk/internal/util/ArraysSupport" "LOG2_ARRAY_INT_INDEX_SCALE" "I") ∈ lw_tbl := lw_at lw_m3 188 rfl
theorem q754 : (Jvm.Cond.methodLink "jdk/internal/util/ArraysSupport" (54 : Nat) ({ cls := "jdk/internal/misc/Unsafe", name := "getIntUnaligned", desc := "(Ljava/lang/Object;J)I" } : Jvm.MethodName)) ∈ lw_all := lw_g (lw_at lw_m3 189 rfl) rfl
theorem q771 : (Jvm.Cond.methodLink "jdk/internal/util/ArraysSupport" (58 : Nat) ({ cls := "java/lang/Integer", name := "numberOfLeadingZeros", desc := "(I)I" } : Jvm.MethodName)) ∈ lw_all := lw_g (lw_at lw_m3 206 rfl) rfl
theorem q772 : (Jvm.Cond.methodLink "jdk/internal/util/ArraysSupport" (11 : Nat) ({ cls := "java/lang/Integer", name := "numberOfTrailingZeros", desc := "(I)I" } : Jvm.MethodName)) ∈ lw_all := lw_g (lw_at lw_m3 207 rfl) rfl
/-! java/lang/StringLatin1 -/
set_option maxRecDepth 100000
def RJ20 : String := "java/lang/StringLatin1"
abbrev cJ20_compareTo : ByteArray := prog_37_method_14_code
def yJ20_compareTo : MethodName := ⟨RJ20, "compareTo", "([B[B)I"⟩
def dkwJ20_compareTo_0 : List UInt8 := [42, 190, 61, 43, 190, 62, 42, 43, 28, 29, 184, 0, 34, 172]
abbrev dktJ20_compareTo_0 : List UInt8 := dkwJ20_compareTo_0 ++ []
theorem dksJ20_compareTo_0 : cJ20_compareTo.data.toList.drop 0 = dktJ20_compareTo_0 := by decide +kernel
theorem dJ20_compareTo_0 : decode cJ20_compareTo 0 = .ok (.aload_n 0, 1) := dk_42 (dk_at dksJ20_compareTo_0 0 rfl rfl)
theorem dJ20_compareTo_1 : decode cJ20_compareTo 1 = .ok (.arraylength, 1) := dk_190 (dk_at dksJ20_compareTo_0 1 rfl rfl)
theorem dJ20_compareTo_2 : decode cJ20_compareTo 2 = .ok (.istore_n 2, 1) := dk_61 (dk_at dksJ20_compareTo_0 2 rfl rfl)
theorem dJ20_compareTo_3 : decode cJ20_compareTo 3 = .ok (.aload_n 1, 1) := dk_43 (dk_at dksJ20_compareTo_0 3 rfl rfl)
theorem dJ20_compareTo_4 : decode cJ20_compareTo 4 = .ok (.arraylength, 1) := dk_190 (dk_at dksJ20_compareTo_0 4 rfl rfl)
theorem dJ20_compareTo_5 : decode cJ20_compareTo 5 = .ok (.istore_n 3, 1) := dk_62 (dk_at dksJ20_compareTo_0 5 rfl rfl)
theorem dJ20_compareTo_6 : decode cJ20_compareTo 6 = .ok (.aload_n 0, 1) := dk_42 (dk_at dksJ20_compareTo_0 6 rfl rfl)
theorem dJ20_compareTo_7 : decode cJ20_compareTo 7 = .ok (.aload_n 1, 1) := dk_43 (dk_at dksJ20_compareTo_0 7 rfl rfl)
theorem dJ20_compareTo_8 : decode cJ20_compareTo 8 = .ok (.iload_n 2, 1) := dk_28 (dk_at dksJ20_compareTo_0 8 rfl rfl)
theorem dJ20_compareTo_9 : decode cJ20_compareTo 9 = .ok (.iload_n 3, 1) := dk_29 (dk_at dksJ20_compareTo_0 9 rfl rfl)
theorem dJ20_compareTo_10 : decode cJ20_compareTo 10 = .ok (.invokestatic 34, 3) := dk_184 0 34 (dk_at dksJ20_compareTo_0 10 rfl rfl)
theorem dJ20_compareTo_13 : decode cJ20_compareTo 13 = .ok (.ireturn, 1) := dk_172 (dk_at dksJ20_compareTo_0 13 rfl rfl)
abbrev cJ20_compareTo_2 : ByteArray := prog_37_method_15_code
def yJ20_compareTo_2 : MethodName := ⟨RJ20, "compareTo", "([B[BII)I"⟩
def dkwJ20_compareTo_2_1 : List UInt8 := [167, 0, 16, 42, 21, 5, 184, 0, 50, 43, 21, 5, 184, 0, 50, 100, 172]
abbrev dktJ20_compareTo_2_1 : List UInt8 := dkwJ20_compareTo_2_1 ++ []
def dkwJ20_compareTo_2_0 : List UInt8 := [28, 29, 184, 0, 38, 54, 4, 42, 43, 21, 4, 184, 0, 44, 54, 5, 21, 5, 156, 0, 9, 28, 29, 100]
abbrev dktJ20_compareTo_2_0 : List UInt8 := dkwJ20_compareTo_2_0 ++ dktJ20_compareTo_2_1
theorem dksJ20_compareTo_2_0 : cJ20_compareTo_2.data.toList.drop 0 = dktJ20_compareTo_2_0 := by decide +kernel
theorem dksJ20_compareTo_2_1 : cJ20_compareTo_2.data.toList.drop 24 = dktJ20_compareTo_2_1 := dk_seg dksJ20_compareTo_2_0 24 rfl rfl
theorem dJ20_compareTo_2_0 : decode cJ20_compareTo_2 0 = .ok (.iload_n 2, 1) := dk_28 (dk_at dksJ20_compareTo_2_0 0 rfl rfl)
theorem dJ20_compareTo_2_1 : decode cJ20_compareTo_2 1 = .ok (.iload_n 3, 1) := dk_29 (dk_at dksJ20_compareTo_2_0 1 rfl rfl)
theorem dJ20_compareTo_2_2 : decode cJ20_compareTo_2 2 = .ok (.invokestatic 38, 3) := dk_184 0 38 (dk_at dksJ20_compareTo_2_0 2 rfl rfl)
theorem dJ20_compareTo_2_5 : decode cJ20_compareTo_2 5 = .ok (.istore 4, 2) := dk_54 4 (dk_at dksJ20_compareTo_2_0 5 rfl rfl)
theorem dJ20_compareTo_2_7 : decode cJ20_compareTo_2 7 = .ok (.aload_n 0, 1) := dk_42 (dk_at dksJ20_compareTo_2_0 7 rfl rfl)
theorem dJ20_compareTo_2_8 : decode cJ20_compareTo_2 8 = .ok (.aload_n 1, 1) := dk_43 (dk_at dksJ20_compareTo_2_0 8 rfl rfl)
theorem dJ20_compareTo_2_9 : decode cJ20_compareTo_2 9 = .ok (.iload 4, 2) := dk_21 4 (dk_at dksJ20_compareTo_2_0 9 rfl rfl)
theorem dJ20_compareTo_2_11 : decode cJ20_compareTo_2 11 = .ok (.invokestatic 44, 3) := dk_184 0 44 (dk_at dksJ20_compareTo_2_0 11 rfl rfl)
theorem dJ20_compareTo_2_14 : decode cJ20_compareTo_2 14 = .ok (.istore 5, 2) := dk_54 5 (dk_at dksJ20_compareTo_2_0 14 rfl rfl)
theorem dJ20_compareTo_2_16 : decode cJ20_compareTo_2 16 = .ok (.iload 5, 2) := dk_21 5 (dk_at dksJ20_compareTo_2_0 16 rfl rfl)
theorem dJ20_compareTo_2_18 : decode cJ20_compareTo_2 18 = .ok (.ifCond .ge 9, 3) := dk_156 0 9 (dk_at dksJ20_compareTo_2_0 18 rfl rfl)
theorem dJ20_compareTo_2_21 : decode cJ20_compareTo_2 21 = .ok (.iload_n 2, 1) := dk_28 (dk_at dksJ20_compareTo_2_0 21 rfl rfl)
theorem dJ20_compareTo_2_22 : decode cJ20_compareTo_2 22 = .ok (.iload_n 3, 1) := dk_29 (dk_at dksJ20_compareTo_2_0 22 rfl rfl)
theorem dJ20_compareTo_2_23 : decode cJ20_compareTo_2 23 = .ok (.isub, 1) := dk_100 (dk_at dksJ20_compareTo_2_0 23 rfl rfl)
theorem dJ20_compareTo_2_24 : decode cJ20_compareTo_2 24 = .ok (.goto 16, 3) := dk_167 0 16 (dk_at dksJ20_compareTo_2_1 0 rfl rfl)
theorem dJ20_compareTo_2_27 : decode cJ20_compareTo_2 27 = .ok (.aload_n 0, 1) := dk_42 (dk_at dksJ20_compareTo_2_1 3 rfl rfl)
theorem dJ20_compareTo_2_28 : decode cJ20_compareTo_2 28 = .ok (.iload 5, 2) := dk_21 5 (dk_at dksJ20_compareTo_2_1 4 rfl rfl)
theorem dJ20_compareTo_2_30 : decode cJ20_compareTo_2 30 = .ok (.invokestatic 50, 3) := dk_184 0 50 (dk_at dksJ20_compareTo_2_1 6 rfl rfl)
theorem dJ20_compareTo_2_33 : decode cJ20_compareTo_2 33 = .ok (.aload_n 1, 1) := dk_43 (dk_at dksJ20_compareTo_2_1 9 rfl rfl)
theorem dJ20_compareTo_2_34 : decode cJ20_compareTo_2 34 = .ok (.iload 5, 2) := dk_21 5 (dk_at dksJ20_compareTo_2_1 10 rfl rfl)
theorem dJ20_compareTo_2_36 : decode cJ20_compareTo_2 36 = .ok (.invokestatic 50, 3) := dk_184 0 50 (dk_at dksJ20_compareTo_2_1 12 rfl rfl)
theorem dJ20_compareTo_2_39 : decode cJ20_compareTo_2 39 = .ok (.isub, 1) := dk_100 (dk_at dksJ20_compareTo_2_1 15 rfl rfl)
theorem dJ20_compareTo_2_40 : decode cJ20_compareTo_2 40 = .ok (.ireturn, 1) := dk_172 (dk_at dksJ20_compareTo_2_1 16 rfl rfl)
abbrev cJ20_getChar : ByteArray := prog_37_method_44_code
def yJ20_getChar : MethodName := ⟨RJ20, "getChar", "([BI)C"⟩
def dkwJ20_getChar_0 : List UInt8 := [42, 27, 51, 17, 0, 255, 126, 146, 172]
abbrev dktJ20_getChar_0 : List UInt8 := dkwJ20_getChar_0 ++ []
theorem dksJ20_getChar_0 : cJ20_getChar.data.toList.drop 0 = dktJ20_getChar_0 := by decide +kernel
theorem dJ20_getChar_0 : decode cJ20_getChar 0 = .ok (.aload_n 0, 1) := dk_42 (dk_at dksJ20_getChar_0 0 rfl rfl)
theorem dJ20_getChar_1 : decode cJ20_getChar 1 = .ok (.iload_n 1, 1) := dk_27 (dk_at dksJ20_getChar_0 1 rfl rfl)
theorem dJ20_getChar_2 : decode cJ20_getChar 2 = .ok (.baload, 1) := dk_51 (dk_at dksJ20_getChar_0 2 rfl rfl)
theorem dJ20_getChar_3 : decode cJ20_getChar 3 = .ok (.sipush 255, 3) := dk_17 0 255 (dk_at dksJ20_getChar_0 3 rfl rfl)
theorem dJ20_getChar_6 : decode cJ20_getChar 6 = .ok (.iand, 1) := dk_126 (dk_at dksJ20_getChar_0 6 rfl rfl)
theorem dJ20_getChar_7 : decode cJ20_getChar 7 = .ok (.i2c, 1) := dk_146 (dk_at dksJ20_getChar_0 7 rfl rfl)
theorem dJ20_getChar_8 : decode cJ20_getChar 8 = .ok (.ireturn, 1) := dk_172 (dk_at dksJ20_getChar_0 8 rfl rfl)
abbrev cJ20_compareToUTF16 : ByteArray := prog_37_method_16_code
def yJ20_compareToUTF16 : MethodName := ⟨RJ20, "compareToUTF16", "([B[B)I"⟩
def dkwJ20_compareToUTF16_0 : List UInt8 := [42, 184, 0, 54, 61, 43, 184, 0, 58, 62, 42, 43, 28, 29, 184, 0, 59, 172]
abbrev dktJ20_compareToUTF16_0 : List UInt8 := dkwJ20_compareToUTF16_0 ++ []
theorem dksJ20_compareToUTF16_0 : cJ20_compareToUTF16.data.toList.drop 0 = dktJ20_compareToUTF16_0 := by decide +kernel
theorem dJ20_compareToUTF16_0 : decode cJ20_compareToUTF16 0 = .ok (.aload_n 0, 1) := dk_42 (dk_at dksJ20_compareToUTF16_0 0 rfl rfl)
theorem dJ20_compareToUTF16_1 : decode cJ20_compareToUTF16 1 = .ok (.invokestatic 54, 3) := dk_184 0 54 (dk_at dksJ20_compareToUTF16_0 1 rfl rfl)
theorem dJ20_compareToUTF16_4 : decode cJ20_compareToUTF16 4 = .ok (.istore_n 2, 1) := dk_61 (dk_at dksJ20_compareToUTF16_0 4 rfl rfl)
theorem dJ20_compareToUTF16_5 : decode cJ20_compareToUTF16 5 = .ok (.aload_n 1, 1) := dk_43 (dk_at dksJ20_compareToUTF16_0 5 rfl rfl)
theorem dJ20_compareToUTF16_6 : decode cJ20_compareToUTF16 6 = .ok (.invokestatic 58, 3) := dk_184 0 58 (dk_at dksJ20_compareToUTF16_0 6 rfl rfl)
theorem dJ20_compareToUTF16_9 : decode cJ20_compareToUTF16 9 = .ok (.istore_n 3, 1) := dk_62 (dk_at dksJ20_compareToUTF16_0 9 rfl rfl)
theorem dJ20_compareToUTF16_10 : decode cJ20_compareToUTF16 10 = .ok (.aload_n 0, 1) := dk_42 (dk_at dksJ20_compareToUTF16_0 10 rfl rfl)
theorem dJ20_compareToUTF16_11 : decode cJ20_compareToUTF16 11 = .ok (.aload_n 1, 1) := dk_43 (dk_at dksJ20_compareToUTF16_0 11 rfl rfl)
theorem dJ20_compareToUTF16_12 : decode cJ20_compareToUTF16 12 = .ok (.iload_n 2, 1) := dk_28 (dk_at dksJ20_compareToUTF16_0 12 rfl rfl)
theorem dJ20_compareToUTF16_13 : decode cJ20_compareToUTF16 13 = .ok (.iload_n 3, 1) := dk_29 (dk_at dksJ20_compareToUTF16_0 13 rfl rfl)
theorem dJ20_compareToUTF16_14 : decode cJ20_compareToUTF16 14 = .ok (.invokestatic 59, 3) := dk_184 0 59 (dk_at dksJ20_compareToUTF16_0 14 rfl rfl)
theorem dJ20_compareToUTF16_17 : decode cJ20_compareToUTF16 17 = .ok (.ireturn, 1) := dk_172 (dk_at dksJ20_compareToUTF16_0 17 rfl rfl)
abbrev cJ20_length : ByteArray := prog_37_method_5_code
def yJ20_length : MethodName := ⟨RJ20, "length", "([B)I"⟩
theorem dJ20_length_0 : decode cJ20_length 0 = .ok (.aload_n 0, 1) := by decide +kernel
theorem dJ20_length_1 : decode cJ20_length 1 = .ok (.arraylength, 1) := by decide +kernel
theorem dJ20_length_2 : decode cJ20_length 2 = .ok (.ireturn, 1) := by decide +kernel
abbrev cJ20_compareToUTF16Values : ByteArray := prog_37_method_18_code
def yJ20_compareToUTF16Values : MethodName := ⟨RJ20, "compareToUTF16Values", "([B[BII)I"⟩
def dkwJ20_compareToUTF16Values_2 : List UInt8 := [132, 5, 1, 167, 255, 217, 28, 29, 100, 172]
abbrev dktJ20_compareToUTF16Values_2 : List UInt8 := dkwJ20_compareToUTF16Values_2 ++ []
def dkwJ20_compareToUTF16Values_1 : List UInt8 := [54, 6, 43, 21, 5, 184, 0, 65, 54, 7, 21, 6, 21, 7, 159, 0, 9, 21, 6, 21, 7, 100, 172]
abbrev dktJ20_compareToUTF16Values_1 : List UInt8 := dkwJ20_compareToUTF16Values_1 ++ dktJ20_compareToUTF16Values_2
def dkwJ20_compareToUTF16Values_0 : List UInt8 := [28, 29, 184, 0, 38, 54, 4, 3, 54, 5, 21, 5, 21, 4, 162, 0, 38, 42, 21, 5, 184, 0, 50]
abbrev dktJ20_compareToUTF16Values_0 : List UInt8 := dkwJ20_compareToUTF16Values_0 ++ dktJ20_compareToUTF16Values_1
theorem dksJ20_compareToUTF16Values_0 : cJ20_compareToUTF16Values.data.toList.drop 0 = dktJ20_compareToUTF16Values_0 := by decide +kernel
theorem dksJ20_compareToUTF16Values_1 : cJ20_compareToUTF16Values.data.toList.drop 23 = dktJ20_compareToUTF16Values_1 := dk_seg dksJ20_compareToUTF16Values_0 23 rfl rfl
theorem dksJ20_compareToUTF16Values_2 : cJ20_compareToUTF16Values.data.toList.drop 46 = dktJ20_compareToUTF16Values_2 := dk_seg dksJ20_compareToUTF16Values_1 23 rfl rfl
theorem dJ20_compareToUTF16Values_0 : decode cJ20_compareToUTF16Values 0 = .ok (.iload_n 2, 1) := dk_28 (dk_at dksJ20_compareToUTF16Values_0 0 rfl rfl)
theorem dJ20_compareToUTF16Values_1 : decode cJ20_compareToUTF16Values 1 = .ok (.iload_n 3, 1) := dk_29 (dk_at dksJ20_compareToUTF16Values_0 1 rfl rfl)
theorem dJ20_compareToUTF16Values_2 : decode cJ20_compareToUTF16Values 2 = .ok (.invokestatic 38, 3) := dk_184 0 38 (dk_at dksJ20_compareToUTF16Values_0 2 rfl rfl)
theorem dJ20_compareToUTF16Values_5 : decode cJ20_compareToUTF16Values 5 = .ok (.istore 4, 2) := dk_54 4 (dk_at dksJ20_compareToUTF16Values_0 5 rfl rfl)
theorem dJ20_compareToUTF16Values_7 : decode cJ20_compareToUTF16Values 7 = .ok (.iconst 0, 1) := dk_3 (dk_at dksJ20_compareToUTF16Values_0 7 rfl rfl)
theorem dJ20_compareToUTF16Values_8 : decode cJ20_compareToUTF16Values 8 = .ok (.istore 5, 2) := dk_54 5 (dk_at dksJ20_compareToUTF16Values_0 8 rfl rfl)
theorem dJ20_compareToUTF16Values_10 : decode cJ20_compareToUTF16Values 10 = .ok (.iload 5, 2) := dk_21 5 (dk_at dksJ20_compareToUTF16Values_0 10 rfl rfl)
theorem dJ20_compareToUTF16Values_12 : decode cJ20_compareToUTF16Values 12 = .ok (.iload 4, 2) := dk_21 4 (dk_at dksJ20_compareToUTF16Values_0 12 rfl rfl)
theorem dJ20_compareToUTF16Values_14 : decode cJ20_compareToUTF16Values 14 = .ok (.if_icmp .ge 38, 3) := dk_162 0 38 (dk_at dksJ20_compareToUTF16Values_0 14 rfl rfl)
theorem dJ20_compareToUTF16Values_17 : decode cJ20_compareToUTF16Values 17 = .ok (.aload_n 0, 1) := dk_42 (dk_at dksJ20_compareToUTF16Values_0 17 rfl rfl)
theorem dJ20_compareToUTF16Values_18 : decode cJ20_compareToUTF16Values 18 = .ok (.iload 5, 2) := dk_21 5 (dk_at dksJ20_compareToUTF16Values_0 18 rfl rfl)
theorem dJ20_compareToUTF16Values_20 : decode cJ20_compareToUTF16Values 20 = .ok (.invokestatic 50, 3) := dk_184 0 50 (dk_at dksJ20_compareToUTF16Values_0 20 rfl rfl)
theorem dJ20_compareToUTF16Values_23 : decode cJ20_compareToUTF16Values 23 = .ok (.istore 6, 2) := dk_54 6 (dk_at dksJ20_compareToUTF16Values_1 0 rfl rfl)
theorem dJ20_compareToUTF16Values_25 : decode cJ20_compareToUTF16Values 25 = .ok (.aload_n 1, 1) := dk_43 (dk_at dksJ20_compareToUTF16Values_1 2 rfl rfl)
theorem dJ20_compareToUTF16Values_26 : decode cJ20_compareToUTF16Values 26 = .ok (.iload 5, 2) := dk_21 5 (dk_at dksJ20_compareToUTF16Values_1 3 rfl rfl)
theorem dJ20_compareToUTF16Values_28 : decode cJ20_compareToUTF16Values 28 = .ok (.invokestatic 65, 3) := dk_184 0 65 (dk_at dksJ20_compareToUTF16Values_1 5 rfl rfl)
theorem dJ20_compareToUTF16Values_31 : decode cJ20_compareToUTF16Values 31 = .ok (.istore 7, 2) := dk_54 7 (dk_at dksJ20_compareToUTF16Values_1 8 rfl rfl)
theorem dJ20_compareToUTF16Values_33 : decode cJ20_compareToUTF16Values 33 = .ok (.iload 6, 2) := dk_21 6 (dk_at dksJ20_compareToUTF16Values_1 10 rfl rfl)
theorem dJ20_compareToUTF16Values_35 : decode cJ20_compareToUTF16Values 35 = .ok (.iload 7, 2) := dk_21 7 (dk_at dksJ20_compareToUTF16Values_1 12 rfl rfl)
theorem dJ20_compareToUTF16Values_37 : decode cJ20_compareToUTF16Values 37 = .ok (.if_icmp .eq 9, 3) := dk_159 0 9 (dk_at dksJ20_compareToUTF16Values_1 14 rfl rfl)
theorem dJ20_compareToUTF16Values_40 : decode cJ20_compareToUTF16Values 40 = .ok (.iload 6, 2) := dk_21 6 (dk_at dksJ20_compareToUTF16Values_1 17 rfl rfl)
theorem dJ20_compareToUTF16Values_42 : decode cJ20_compareToUTF16Values 42 = .ok (.iload 7, 2) := dk_21 7 (dk_at dksJ20_compareToUTF16Values_1 19 rfl rfl)
theorem dJ20_compareToUTF16Values_44 : decode cJ20_compareToUTF16Values 44 = .ok (.isub, 1) := dk_100 (dk_at dksJ20_compareToUTF16Values_1 21 rfl rfl)
theorem dJ20_compareToUTF16Values_45 : decode cJ20_compareToUTF16Values 45 = .ok (.ireturn, 1) := dk_172 (dk_at dksJ20_compareToUTF16Values_1 22 rfl rfl)
theorem dJ20_compareToUTF16Values_46 : decode cJ20_compareToUTF16Values 46 = .ok (.iinc 5 1, 3) := dk_132 5 1 (dk_at dksJ20_compareToUTF16Values_2 0 rfl rfl)
theorem dJ20_compareToUTF16Values_49 : decode cJ20_compareToUTF16Values 49 = .ok (.goto (-39), 3) := dk_167 255 217 (dk_at dksJ20_compareToUTF16Values_2 3 rfl rfl)
theorem dJ20_compareToUTF16Values_52 : decode cJ20_compareToUTF16Values 52 = .ok (.iload_n 2, 1) := dk_28 (dk_at dksJ20_compareToUTF16Values_2 6 rfl rfl)
theorem dJ20_compareToUTF16Values_53 : decode cJ20_compareToUTF16Values 53 = .ok (.iload_n 3, 1) := dk_29 (dk_at dksJ20_compareToUTF16Values_2 7 rfl rfl)
theorem dJ20_compareToUTF16Values_54 : decode cJ20_compareToUTF16Values 54 = .ok (.isub, 1) := dk_100 (dk_at dksJ20_compareToUTF16Values_2 8 rfl rfl)
theorem dJ20_compareToUTF16Values_55 : decode cJ20_compareToUTF16Values 55 = .ok (.ireturn, 1) := dk_172 (dk_at dksJ20_compareToUTF16Values_2 9 rfl rfl)
abbrev cJ20_compareToUTF16_2 : ByteArray := prog_37_method_17_code
def yJ20_compareToUTF16_2 : MethodName := ⟨RJ20, "compareToUTF16", "([B[BII)I"⟩
def dkwJ20_compareToUTF16_2_0 : List UInt8 := [28, 42, 184, 0, 54, 184, 0, 62, 29, 43, 184, 0, 58, 184, 0, 62, 42, 43, 28, 29, 184, 0, 59, 172]
abbrev dktJ20_compareToUTF16_2_0 : List UInt8 := dkwJ20_compareToUTF16_2_0 ++ []
theorem dksJ20_compareToUTF16_2_0 : cJ20_compareToUTF16_2.data.toList.drop 0 = dktJ20_compareToUTF16_2_0 := by decide +kernel
theorem dJ20_compareToUTF16_2_0 : decode cJ20_compareToUTF16_2 0 = .ok (.iload_n 2, 1) := dk_28 (dk_at dksJ20_compareToUTF16_2_0 0 rfl rfl)
theorem dJ20_compareToUTF16_2_1 : decode cJ20_compareToUTF16_2 1 = .ok (.aload_n 0, 1) := dk_42 (dk_at dksJ20_compareToUTF16_2_0 1 rfl rfl)
theorem dJ20_compareToUTF16_2_2 : decode cJ20_compareToUTF16_2 2 = .ok (.invokestatic 54, 3) := dk_184 0 54 (dk_at dksJ20_compareToUTF16_2_0 2 rfl rfl)
theorem dJ20_compareToUTF16_2_5 : decode cJ20_compareToUTF16_2 5 = .ok (.invokestatic 62, 3) := dk_184 0 62 (dk_at dksJ20_compareToUTF16_2_0 5 rfl rfl)
theorem dJ20_compareToUTF16_2_8 : decode cJ20_compareToUTF16_2 8 = .ok (.iload_n 3, 1) := dk_29 (dk_at dksJ20_compareToUTF16_2_0 8 rfl rfl)
theorem dJ20_compareToUTF16_2_9 : decode cJ20_compareToUTF16_2 9 = .ok (.aload_n 1, 1) := dk_43 (dk_at dksJ20_compareToUTF16_2_0 9 rfl rfl)
theorem dJ20_compareToUTF16_2_10 : decode cJ20_compareToUTF16_2 10 = .ok (.invokestatic 58, 3) := dk_184 0 58 (dk_at dksJ20_compareToUTF16_2_0 10 rfl rfl)
theorem dJ20_compareToUTF16_2_13 : decode cJ20_compareToUTF16_2 13 = .ok (.invokestatic 62, 3) := dk_184 0 62 (dk_at dksJ20_compareToUTF16_2_0 13 rfl rfl)
theorem dJ20_compareToUTF16_2_16 : decode cJ20_compareToUTF16_2 16 = .ok (.aload_n 0, 1) := dk_42 (dk_at dksJ20_compareToUTF16_2_0 16 rfl rfl)
theorem dJ20_compareToUTF16_2_17 : decode cJ20_compareToUTF16_2 17 = .ok (.aload_n 1, 1) := dk_43 (dk_at dksJ20_compareToUTF16_2_0 17 rfl rfl)
theorem dJ20_compareToUTF16_2_18 : decode cJ20_compareToUTF16_2 18 = .ok (.iload_n 2, 1) := dk_28 (dk_at dksJ20_compareToUTF16_2_0 18 rfl rfl)
theorem dJ20_compareToUTF16_2_19 : decode cJ20_compareToUTF16_2 19 = .ok (.iload_n 3, 1) := dk_29 (dk_at dksJ20_compareToUTF16_2_0 19 rfl rfl)
theorem dJ20_compareToUTF16_2_20 : decode cJ20_compareToUTF16_2 20 = .ok (.invokestatic 59, 3) := dk_184 0 59 (dk_at dksJ20_compareToUTF16_2_0 20 rfl rfl)
theorem dJ20_compareToUTF16_2_23 : decode cJ20_compareToUTF16_2 23 = .ok (.ireturn, 1) := dk_172 (dk_at dksJ20_compareToUTF16_2_0 23 rfl rfl)
abbrev cJ20_inflate : ByteArray := prog_37_method_50_code
def yJ20_inflate : MethodName := ⟨RJ20, "inflate", "([BI[BII)V"⟩
def dkwJ20_inflate_0 : List UInt8 := [42, 27, 44, 29, 21, 4, 184, 0, 240, 177]
abbrev dktJ20_inflate_0 : List UInt8 := dkwJ20_inflate_0 ++ []
theorem dksJ20_inflate_0 : cJ20_inflate.data.toList.drop 0 = dktJ20_inflate_0 := by decide +kernel
theorem dJ20_inflate_0 : decode cJ20_inflate 0 = .ok (.aload_n 0, 1) := dk_42 (dk_at dksJ20_inflate_0 0 rfl rfl)
theorem dJ20_inflate_1 : decode cJ20_inflate 1 = .ok (.iload_n 1, 1) := dk_27 (dk_at dksJ20_inflate_0 1 rfl rfl)
theorem dJ20_inflate_2 : decode cJ20_inflate 2 = .ok (.aload_n 2, 1) := dk_44 (dk_at dksJ20_inflate_0 2 rfl rfl)
theorem dJ20_inflate_3 : decode cJ20_inflate 3 = .ok (.iload_n 3, 1) := dk_29 (dk_at dksJ20_inflate_0 3 rfl rfl)
theorem dJ20_inflate_4 : decode cJ20_inflate 4 = .ok (.iload 4, 2) := dk_21 4 (dk_at dksJ20_inflate_0 4 rfl rfl)
theorem dJ20_inflate_6 : decode cJ20_inflate 6 = .ok (.invokestatic 240, 3) := dk_184 0 240 (dk_at dksJ20_inflate_0 6 rfl rfl)
theorem dJ20_inflate_9 : decode cJ20_inflate 9 = .ok (.return_, 1) := dk_177 (dk_at dksJ20_inflate_0 9 rfl rfl)
abbrev cJ20_fillNull : ByteArray := prog_37_method_48_code
def yJ20_fillNull : MethodName := ⟨RJ20, "fillNull", "([BII)V"⟩
def dkwJ20_fillNull_0 : List UInt8 := [42, 27, 28, 3, 184, 0, 236, 177]
abbrev dktJ20_fillNull_0 : List UInt8 := dkwJ20_fillNull_0 ++ []
theorem dksJ20_fillNull_0 : cJ20_fillNull.data.toList.drop 0 = dktJ20_fillNull_0 := by decide +kernel
theorem dJ20_fillNull_0 : decode cJ20_fillNull 0 = .ok (.aload_n 0, 1) := dk_42 (dk_at dksJ20_fillNull_0 0 rfl rfl)
theorem dJ20_fillNull_1 : decode cJ20_fillNull 1 = .ok (.iload_n 1, 1) := dk_27 (dk_at dksJ20_fillNull_0 1 rfl rfl)
theorem dJ20_fillNull_2 : decode cJ20_fillNull 2 = .ok (.iload_n 2, 1) := dk_28 (dk_at dksJ20_fillNull_0 2 rfl rfl)
theorem dJ20_fillNull_3 : decode cJ20_fillNull 3 = .ok (.iconst 0, 1) := dk_3 (dk_at dksJ20_fillNull_0 3 rfl rfl)
theorem dJ20_fillNull_4 : decode cJ20_fillNull 4 = .ok (.invokestatic 236, 3) := dk_184 0 236 (dk_at dksJ20_fillNull_0 4 rfl rfl)
theorem dJ20_fillNull_7 : decode cJ20_fillNull 7 = .ok (.return_, 1) := dk_177 (dk_at dksJ20_fillNull_0 7 rfl rfl)
abbrev cJ20_charAt : ByteArray := prog_37_method_2_code
def yJ20_charAt : MethodName := ⟨RJ20, "charAt", "([BI)C"⟩
def dkwJ20_charAt_0 : List UInt8 := [27, 42, 190, 184, 0, 9, 42, 27, 51, 17, 0, 255, 126, 146, 172]
abbrev dktJ20_charAt_0 : List UInt8 := dkwJ20_charAt_0 ++ []
theorem dksJ20_charAt_0 : cJ20_charAt.data.toList.drop 0 = dktJ20_charAt_0 := by decide +kernel
theorem dJ20_charAt_0 : decode cJ20_charAt 0 = .ok (.iload_n 1, 1) := dk_27 (dk_at dksJ20_charAt_0 0 rfl rfl)
theorem dJ20_charAt_1 : decode cJ20_charAt 1 = .ok (.aload_n 0, 1) := dk_42 (dk_at dksJ20_charAt_0 1 rfl rfl)
theorem dJ20_charAt_2 : decode cJ20_charAt 2 = .ok (.arraylength, 1) := dk_190 (dk_at dksJ20_charAt_0 2 rfl rfl)
theorem dJ20_charAt_3 : decode cJ20_charAt 3 = .ok (.invokestatic 9, 3) := dk_184 0 9 (dk_at dksJ20_charAt_0 3 rfl rfl)
theorem dJ20_charAt_6 : decode cJ20_charAt 6 = .ok (.aload_n 0, 1) := dk_42 (dk_at dksJ20_charAt_0 6 rfl rfl)
theorem dJ20_charAt_7 : decode cJ20_charAt 7 = .ok (.iload_n 1, 1) := dk_27 (dk_at dksJ20_charAt_0 7 rfl rfl)
theorem dJ20_charAt_8 : decode cJ20_charAt 8 = .ok (.baload, 1) := dk_51 (dk_at dksJ20_charAt_0 8 rfl rfl)
theorem dJ20_charAt_9 : decode cJ20_charAt 9 = .ok (.sipush 255, 3) := dk_17 0 255 (dk_at dksJ20_charAt_0 9 rfl rfl)
theorem dJ20_charAt_12 : decode cJ20_charAt 12 = .ok (.iand, 1) := dk_126 (dk_at dksJ20_charAt_0 12 rfl rfl)
theorem dJ20_charAt_13 : decode cJ20_charAt 13 = .ok (.i2c, 1) := dk_146 (dk_at dksJ20_charAt_0 13 rfl rfl)
theorem dJ20_charAt_14 : decode cJ20_charAt 14 = .ok (.ireturn, 1) := dk_172 (dk_at dksJ20_charAt_0 14 rfl rfl)
abbrev cJ20_canEncode : ByteArray := prog_37_method_3_code
def yJ20_canEncode : MethodName := ⟨RJ20, "canEncode", "(C)Z"⟩
def dkwJ20_canEncode_0 : List UInt8 := [26, 17, 0, 255, 163, 0, 7, 4, 167, 0, 4, 3, 172]
abbrev dktJ20_canEncode_0 : List UInt8 := dkwJ20_canEncode_0 ++ []
theorem dksJ20_canEncode_0 : cJ20_canEncode.data.toList.drop 0 = dktJ20_canEncode_0 := by decide +kernel
theorem dJ20_canEncode_0 : decode cJ20_canEncode 0 = .ok (.iload_n 0, 1) := dk_26 (dk_at dksJ20_canEncode_0 0 rfl rfl)
theorem dJ20_canEncode_1 : decode cJ20_canEncode 1 = .ok (.sipush 255, 3) := dk_17 0 255 (dk_at dksJ20_canEncode_0 1 rfl rfl)
theorem dJ20_canEncode_4 : decode cJ20_canEncode 4 = .ok (.if_icmp .gt 7, 3) := dk_163 0 7 (dk_at dksJ20_canEncode_0 4 rfl rfl)
theorem dJ20_canEncode_7 : decode cJ20_canEncode 7 = .ok (.iconst 1, 1) := dk_4 (dk_at dksJ20_canEncode_0 7 rfl rfl)
theorem dJ20_canEncode_8 : decode cJ20_canEncode 8 = .ok (.goto 4, 3) := dk_167 0 4 (dk_at dksJ20_canEncode_0 8 rfl rfl)
theorem dJ20_canEncode_11 : decode cJ20_canEncode 11 = .ok (.iconst 0, 1) := dk_3 (dk_at dksJ20_canEncode_0 11 rfl rfl)
theorem dJ20_canEncode_12 : decode cJ20_canEncode 12 = .ok (.ireturn, 1) := dk_172 (dk_at dksJ20_canEncode_0 12 rfl rfl)
theorem q114 : (Jvm.Cond.initialized "java/lang/StringLatin1") ∈ lw_all := lw_g (lw_at lw_m1 29 rfl) rfl
theorem q663 : (Jvm.Cond.static ({ cls := "java/lang/StringLatin1", name := "compareTo", desc := "([B[B)I" } : Jvm.MethodName)) ∈ lw_all := lw_g (lw_at lw_m3 98 rfl) rfl
theorem q664 : (Jvm.Cond.code ({ cls := "java/lang/StringLatin1", name := "compareTo", desc := "([B[B)I" } : Jvm.MethodName) prog_37_method_14_code (4 : Nat) (Option.some Jvm.ClassFile.FieldType.int)) ∈ lw_all := lw_g (lw_at lw_m3 99 rfl) rfl
theorem q665 : (Jvm.Cond.methodLink "java/lang/StringLatin1" (34 : Nat) ({ cls := "java/lang/StringLatin1", name := "compareTo", desc := "([B[BII)I" } : Jvm.MethodName)) ∈ lw_all := lw_g (lw_at lw_m3 100 rfl) rfl
theorem q666 : (Jvm.Cond.static ({ cls := "java/lang/StringLatin1", name := "compareTo", desc := "([B[BII)I" } : Jvm.MethodName)) ∈ lw_all := lw_g (lw_at lw_m3 101 rfl) rfl
theorem q667 : (Jvm.Cond.code ({ cls := "java/lang/StringLatin1", name := "compareTo", desc := "([B[BII)I" } : Jvm.MethodName) prog_37_method_15_code (6 : Nat) (Option.some Jvm.ClassFile.FieldType.int)) ∈ lw_all := lw_g (lw_at lw_m3 102 rfl) rfl
theorem q668 : (Jvm.Cond.methodLink "java/lang/StringLatin1" (38 : Nat) ({ cls := "java/lang/Math", name := "min", desc := "(II)I" } : Jvm.MethodName)) ∈ lw_all := lw_g (lw_at lw_m3 103 rfl) rfl
theorem q669 : (Jvm.Cond.methodLink "java/lang/StringLatin1" (44 : Nat) ({ cls := "jdk/internal/util/ArraysSupport", name := "mismatch", desc := "([B[BI)I" } : Jvm.MethodName)) ∈ lw_all := lw_g (lw_at lw_m3 104 rfl) rfl
theorem q773 : (Jvm.Cond.methodLink "java/lang/StringLatin1" (50 : Nat) ({ cls := "java/lang/StringLatin1", name := "getChar", desc := "([BI)C" } : Jvm.MethodName)) ∈ lw_all := lw_g (lw_at lw_m3 208 rfl) rfl
theorem q774 : (Jvm.Cond.static ({ cls := "java/lang/StringLatin1", name := "getChar", desc := "([BI)C" } : Jvm.MethodName)) ∈ lw_all := lw_g (lw_at lw_m3 209 rfl) rfl
theorem q775 : (Jvm.Cond.code ({ cls := "java/lang/StringLatin1", name := "getChar", desc := "([BI)C" } : Jvm.MethodName) prog_37_method_44_code (2 : Nat) (Option.some Jvm.ClassFile.FieldType.char)) ∈ lw_all := lw_g (lw_at lw_m3 210 rfl) rfl
theorem q796 : (Jvm.Cond.static ({ cls := "java/lang/StringLatin1", name := "compareToUTF16", desc := "([B[B)I" } : Jvm.MethodName)) ∈ lw_all := lw_g (lw_at lw_m3 231 rfl) rfl
theorem q797 : (Jvm.Cond.code ({ cls := "java/lang/StringLatin1", name := "compareToUTF16", desc := "([B[B)I" } : Jvm.MethodName) prog_37_method_16_code (4 : Nat) (Option.some Jvm.ClassFile.FieldType.int)) ∈ lw_all := lw_g (lw_at lw_m3 232 rfl) rfl
theorem q798 : (Jvm.Cond.methodLink "java/lang/StringLatin1" (54 : Nat) ({ cls := "java/lang/StringLatin1", name := "length", desc := "([B)I" } : Jvm.MethodName)) ∈ lw_all := lw_g (lw_at lw_m3 233 rfl) rfl
theorem q799 : (Jvm.Cond.static ({ cls := "java/lang/StringLatin1", name := "length", desc := "([B)I" } : Jvm.MethodName)) ∈ lw_all := lw_g (lw_at lw_m3 234 rfl) rfl
theorem q800 : (Jvm.Cond.code ({ cls := "java/lang/StringLatin1", name := "length", desc := "([B)I" } : Jvm.MethodName) prog_37_method_5_code (1 : Nat) (Option.some Jvm.ClassFile.FieldType.int)) ∈ lw_all := lw_g (lw_at lw_m3 235 rfl) rfl
theorem q801 : (Jvm.Cond.methodLink "java/lang/StringLatin1" (58 : Nat) ({ cls := "java/lang/StringUTF16", name := "length", desc := "([B)I" } : Jvm.MethodName)) ∈ lw_all := lw_g (lw_at lw_m3 236 rfl) rfl
theorem q802 : (Jvm.Cond.methodLink "java/lang/StringLatin1" (59 : Nat) ({ cls := "java/lang/StringLatin1", name := "compareToUTF16Values", desc := "([B[BII)I" } : Jvm.MethodName)) ∈ lw_all := lw_g (lw_at lw_m3 237 rfl) rfl
theorem q803 : (Jvm.Cond.static ({ cls := "java/lang/StringLatin1", name := "compareToUTF16Values", desc := "([B[BII)I" } : Jvm.MethodName)) ∈ lw_all := lw_g (lw_at lw_m3 238 rfl) rfl
theorem q804 : (Jvm.Cond.code ({ cls := "java/lang/StringLatin1", name := "compareToUTF16Values", desc := "([B[BII)I" } : Jvm.MethodName) prog_37_method_18_code (8 : Nat) (Option.some Jvm.ClassFile.FieldType.int)) ∈ lw_all := lw_g (lw_at lw_m3 239 rfl) rfl
theorem q805 : (Jvm.Cond.methodLink "java/lang/StringLatin1" (65 : Nat) ({ cls := "java/lang/StringUTF16", name := "getChar", desc := "([BI)C" } : Jvm.MethodName)) ∈ lw_all := lw_g (lw_at lw_m4 0 rfl) rfl
theorem q845 : (Jvm.Cond.static ({ cls := "java/lang/StringLatin1", name := "compareToUTF16", desc := "([B[BII)I" } : Jvm.MethodName)) ∈ lw_all := lw_g (lw_at lw_m4 40 rfl) rfl
theorem q846 : (Jvm.Cond.code ({ cls := "java/lang/StringLatin1", name := "compareToUTF16", desc := "([B[BII)I" } : Jvm.MethodName) prog_37_method_17_code (4 : Nat) (Option.some Jvm.ClassFile.FieldType.int)) ∈ lw_all := lw_g (lw_at lw_m4 41 rfl) rfl
theorem q847 : (Jvm.Cond.methodLink "java/lang/StringLatin1" (62 : Nat) ({ cls := "java/lang/String", name := "checkOffset", desc := "(II)V" } : Jvm.MethodName)) ∈ lw_all := lw_g (lw_at lw_m4 42 rfl) rfl
theorem q943 : (Jvm.Cond.static ({ cls := "java/lang/StringLatin1", name := "inflate", desc := "([BI[BII)V" } : Jvm.MethodName)) ∈ lw_all := lw_g (lw_at lw_m4 138 rfl) rfl
theorem q944 : (Jvm.Cond.code ({ cls := "java/lang/StringLatin1", name := "inflate", desc := "([BI[BII)V" } : Jvm.MethodName) prog_37_method_50_code (5 : Nat) (Option.none : Option Jvm.ClassFile.FieldType)) ∈ lw_all := lw_g (lw_at lw_m4 139 rfl) rfl
theorem q945 : (Jvm.Cond.methodLink "java/lang/StringLatin1" (240 : Nat) ({ cls := "java/lang/StringUTF16", name := "inflate", desc := "([BI[BII)V" } : Jvm.MethodName)) ∈ lw_all := lw_g (lw_at lw_m4 140 rfl) rfl
theorem q1071 : (Jvm.Cond.static ({ cls := "java/lang/StringLatin1", name := "fillNull", desc := "([BII)V" } : Jvm.MethodName)) ∈ lw_all := lw_g (lw_at lw_m5 26 rfl) rfl
theorem q1072 : (Jvm.Cond.code ({ cls := "java/lang/StringLatin1", name := "fillNull", desc := "([BII)V" } : Jvm.MethodName) prog_37_method_48_code (3 : Nat) (Option.none : Option Jvm.ClassFile.FieldType)) ∈ lw_all := lw_g (lw_at lw_m5 27 rfl) rfl
theorem q1073 : (Jvm.Cond.methodLink "java/lang/StringLatin1" (236 : Nat) ({ cls := "java/util/Arrays", name := "fill", desc := "([BIIB)V" } : Jvm.MethodName)) ∈ lw_all := lw_g (lw_at lw_m5 28 rfl) rfl
theorem q1687 : (Jvm.Cond.static ({ cls := "java/lang/StringLatin1", name := "charAt", desc := "([BI)C" } : Jvm.MethodName)) ∈ lw_all := lw_g (lw_at lw_m7 162 rfl) rfl
theorem q1688 : (Jvm.Cond.code ({ cls := "java/lang/StringLatin1", name := "charAt", desc := "([BI)C" } : Jvm.MethodName) prog_37_method_2_code (2 : Nat) (Option.some Jvm.ClassFile.FieldType.char)) ∈ lw_all := lw_g (lw_at lw_m7 163 rfl) rfl
theorem q1689 : (Jvm.Cond.methodLink "java/lang/StringLatin1" (9 : Nat) ({ cls := "java/lang/String", name := "checkIndex", desc := "(II)V" } : Jvm.MethodName)) ∈ lw_all := lw_g (lw_at lw_m7 164 rfl) rfl
theorem q1818 : (Jvm.Cond.static ({ cls := "java/lang/StringLatin1", name := "canEncode", desc := "(C)Z" } : Jvm.MethodName)) ∈ lw_all := lw_g (lw_at lw_m8 53 rfl) rfl
theorem q1819 : (Jvm.Cond.code ({ cls := "java/lang/StringLatin1", name := "canEncode", desc := "(C)Z" } : Jvm.MethodName) prog_37_method_3_code (1 : Nat) (Option.some Jvm.ClassFile.FieldType.boolean)) ∈ lw_all := lw_g (lw_at lw_m8 54 rfl) rfl
/-! java/lang/String -/
set_option maxRecDepth 100000
def RJ4 : String := "java/lang/String"
def TJ4 : u_T := fun k => match k with
  | 0 => ("java/lang/String", "value", "[B", true)
  | 1 => ("java/lang/String", "coder", "B", true)
  | 2 => ("java/lang/String", "hash", "I", false)
  | _ => ("java/lang/String", "hashIsZero", "Z", false)
def tyJ4 : Nat → FieldType := fun k => match k with
  | 0 => .array .byte
  | 1 => .byte
  | 2 => .int
  | _ => .boolean
abbrev wsJ40 : List Cond := u_ws RJ4 TJ4 4
theorem nmJ4 : ∀ a, a < 4 → ∀ b, b < 4 → a ≠ b → (TJ4 a).2.1 ≠ (TJ4 b).2.1 := by decide +kernel
theorem tyJ4_ok : ∀ k, k < 4 → parseFieldDescriptor (TJ4 k).2.2.1 = some (tyJ4 k) := by decide +kernel
abbrev cJ4_compareTo : ByteArray := prog_34_method_162_code
def yJ4_compareTo : MethodName := ⟨RJ4, "compareTo", "(Ljava/lang/Object;)I"⟩
def dkwJ4_compareTo_0 : List UInt8 := [42, 43, 192, 0, 10, 182, 4, 60, 172]
abbrev dktJ4_compareTo_0 : List UInt8 := dkwJ4_compareTo_0 ++ []
theorem dksJ4_compareTo_0 : cJ4_compareTo.data.toList.drop 0 = dktJ4_compareTo_0 := by decide +kernel
theorem dJ4_compareTo_0 : decode cJ4_compareTo 0 = .ok (.aload_n 0, 1) := dk_42 (dk_at dksJ4_compareTo_0 0 rfl rfl)
theorem dJ4_compareTo_1 : decode cJ4_compareTo 1 = .ok (.aload_n 1, 1) := dk_43 (dk_at dksJ4_compareTo_0 1 rfl rfl)
theorem dJ4_compareTo_2 : decode cJ4_compareTo 2 = .ok (.checkcast 10, 3) := dk_192 0 10 (dk_at dksJ4_compareTo_0 2 rfl rfl)
theorem dJ4_compareTo_5 : decode cJ4_compareTo 5 = .ok (.invokevirtual 1084, 3) := dk_182 4 60 (dk_at dksJ4_compareTo_0 5 rfl rfl)
theorem dJ4_compareTo_8 : decode cJ4_compareTo 8 = .ok (.ireturn, 1) := dk_172 (dk_at dksJ4_compareTo_0 8 rfl rfl)
abbrev cJ4_compareTo_2 : ByteArray := prog_34_method_71_code
def yJ4_compareTo_2 : MethodName := ⟨RJ4, "compareTo", "(Ljava/lang/String;)I"⟩
def dkwJ4_compareTo_2_2 : List UInt8 := [154, 0, 11, 44, 45, 184, 2, 79, 167, 0, 8, 44, 45, 184, 2, 82, 172]
abbrev dktJ4_compareTo_2_2 : List UInt8 := dkwJ4_compareTo_2_2 ++ []
def dkwJ4_compareTo_2_1 : List UInt8 := [160, 0, 22, 21, 4, 154, 0, 11, 44, 45, 184, 2, 74, 167, 0, 8, 44, 45, 184, 2, 78, 172, 21, 4]
abbrev dktJ4_compareTo_2_1 : List UInt8 := dkwJ4_compareTo_2_1 ++ dktJ4_compareTo_2_2
def dkwJ4_compareTo_2_0 : List UInt8 := [42, 180, 0, 9, 77, 43, 180, 0, 9, 78, 42, 182, 1, 79, 54, 4, 21, 4, 43, 182, 1, 79]
abbrev dktJ4_compareTo_2_0 : List UInt8 := dkwJ4_compareTo_2_0 ++ dktJ4_compareTo_2_1
theorem dksJ4_compareTo_2_0 : cJ4_compareTo_2.data.toList.drop 0 = dktJ4_compareTo_2_0 := by decide +kernel
theorem dksJ4_compareTo_2_1 : cJ4_compareTo_2.data.toList.drop 22 = dktJ4_compareTo_2_1 := dk_seg dksJ4_compareTo_2_0 22 rfl rfl
theorem dksJ4_compareTo_2_2 : cJ4_compareTo_2.data.toList.drop 46 = dktJ4_compareTo_2_2 := dk_seg dksJ4_compareTo_2_1 24 rfl rfl
theorem dJ4_compareTo_2_0 : decode cJ4_compareTo_2 0 = .ok (.aload_n 0, 1) := dk_42 (dk_at dksJ4_compareTo_2_0 0 rfl rfl)
theorem dJ4_compareTo_2_1 : decode cJ4_compareTo_2 1 = .ok (.getfield 9, 3) := dk_180 0 9 (dk_at dksJ4_compareTo_2_0 1 rfl rfl)
theorem dJ4_compareTo_2_4 : decode cJ4_compareTo_2 4 = .ok (.astore_n 2, 1) := dk_77 (dk_at dksJ4_compareTo_2_0 4 rfl rfl)
theorem dJ4_compareTo_2_5 : decode cJ4_compareTo_2 5 = .ok (.aload_n 1, 1) := dk_43 (dk_at dksJ4_compareTo_2_0 5 rfl rfl)
theorem dJ4_compareTo_2_6 : decode cJ4_compareTo_2 6 = .ok (.getfield 9, 3) := dk_180 0 9 (dk_at dksJ4_compareTo_2_0 6 rfl rfl)
theorem dJ4_compareTo_2_9 : decode cJ4_compareTo_2 9 = .ok (.astore_n 3, 1) := dk_78 (dk_at dksJ4_compareTo_2_0 9 rfl rfl)
theorem dJ4_compareTo_2_10 : decode cJ4_compareTo_2 10 = .ok (.aload_n 0, 1) := dk_42 (dk_at dksJ4_compareTo_2_0 10 rfl rfl)
theorem dJ4_compareTo_2_11 : decode cJ4_compareTo_2 11 = .ok (.invokevirtual 335, 3) := dk_182 1 79 (dk_at dksJ4_compareTo_2_0 11 rfl rfl)
theorem dJ4_compareTo_2_14 : decode cJ4_compareTo_2 14 = .ok (.istore 4, 2) := dk_54 4 (dk_at dksJ4_compareTo_2_0 14 rfl rfl)
theorem dJ4_compareTo_2_16 : decode cJ4_compareTo_2 16 = .ok (.iload 4, 2) := dk_21 4 (dk_at dksJ4_compareTo_2_0 16 rfl rfl)
theorem dJ4_compareTo_2_18 : decode cJ4_compareTo_2 18 = .ok (.aload_n 1, 1) := dk_43 (dk_at dksJ4_compareTo_2_0 18 rfl rfl)
theorem dJ4_compareTo_2_19 : decode cJ4_compareTo_2 19 = .ok (.invokevirtual 335, 3) := dk_182 1 79 (dk_at dksJ4_compareTo_2_0 19 rfl rfl)
theorem dJ4_compareTo_2_22 : decode cJ4_compareTo_2 22 = .ok (.if_icmp .ne 22, 3) := dk_160 0 22 (dk_at dksJ4_compareTo_2_1 0 rfl rfl)
theorem dJ4_compareTo_2_25 : decode cJ4_compareTo_2 25 = .ok (.iload 4, 2) := dk_21 4 (dk_at dksJ4_compareTo_2_1 3 rfl rfl)
theorem dJ4_compareTo_2_27 : decode cJ4_compareTo_2 27 = .ok (.ifCond .ne 11, 3) := dk_154 0 11 (dk_at dksJ4_compareTo_2_1 5 rfl rfl)
theorem dJ4_compareTo_2_30 : decode cJ4_compareTo_2 30 = .ok (.aload_n 2, 1) := dk_44 (dk_at dksJ4_compareTo_2_1 8 rfl rfl)
theorem dJ4_compareTo_2_31 : decode cJ4_compareTo_2 31 = .ok (.aload_n 3, 1) := dk_45 (dk_at dksJ4_compareTo_2_1 9 rfl rfl)
theorem dJ4_compareTo_2_32 : decode cJ4_compareTo_2 32 = .ok (.invokestatic 586, 3) := dk_184 2 74 (dk_at dksJ4_compareTo_2_1 10 rfl rfl)
theorem dJ4_compareTo_2_35 : decode cJ4_compareTo_2 35 = .ok (.goto 8, 3) := dk_167 0 8 (dk_at dksJ4_compareTo_2_1 13 rfl rfl)
theorem dJ4_compareTo_2_38 : decode cJ4_compareTo_2 38 = .ok (.aload_n 2, 1) := dk_44 (dk_at dksJ4_compareTo_2_1 16 rfl rfl)
theorem dJ4_compareTo_2_39 : decode cJ4_compareTo_2 39 = .ok (.aload_n 3, 1) := dk_45 (dk_at dksJ4_compareTo_2_1 17 rfl rfl)
theorem dJ4_compareTo_2_40 : decode cJ4_compareTo_2 40 = .ok (.invokestatic 590, 3) := dk_184 2 78 (dk_at dksJ4_compareTo_2_1 18 rfl rfl)
theorem dJ4_compareTo_2_43 : decode cJ4_compareTo_2 43 = .ok (.ireturn, 1) := dk_172 (dk_at dksJ4_compareTo_2_1 21 rfl rfl)
theorem dJ4_compareTo_2_44 : decode cJ4_compareTo_2 44 = .ok (.iload 4, 2) := dk_21 4 (dk_at dksJ4_compareTo_2_1 22 rfl rfl)
theorem dJ4_compareTo_2_46 : decode cJ4_compareTo_2 46 = .ok (.ifCond .ne 11, 3) := dk_154 0 11 (dk_at dksJ4_compareTo_2_2 0 rfl rfl)
theorem dJ4_compareTo_2_49 : decode cJ4_compareTo_2 49 = .ok (.aload_n 2, 1) := dk_44 (dk_at dksJ4_compareTo_2_2 3 rfl rfl)
theorem dJ4_compareTo_2_50 : decode cJ4_compareTo_2 50 = .ok (.aload_n 3, 1) := dk_45 (dk_at dksJ4_compareTo_2_2 4 rfl rfl)
theorem dJ4_compareTo_2_51 : decode cJ4_compareTo_2 51 = .ok (.invokestatic 591, 3) := dk_184 2 79 (dk_at dksJ4_compareTo_2_2 5 rfl rfl)
theorem dJ4_compareTo_2_54 : decode cJ4_compareTo_2 54 = .ok (.goto 8, 3) := dk_167 0 8 (dk_at dksJ4_compareTo_2_2 8 rfl rfl)
theorem dJ4_compareTo_2_57 : decode cJ4_compareTo_2 57 = .ok (.aload_n 2, 1) := dk_44 (dk_at dksJ4_compareTo_2_2 11 rfl rfl)
theorem dJ4_compareTo_2_58 : decode cJ4_compareTo_2 58 = .ok (.aload_n 3, 1) := dk_45 (dk_at dksJ4_compareTo_2_2 12 rfl rfl)
theorem dJ4_compareTo_2_59 : decode cJ4_compareTo_2 59 = .ok (.invokestatic 594, 3) := dk_184 2 82 (dk_at dksJ4_compareTo_2_2 13 rfl rfl)
theorem dJ4_compareTo_2_62 : decode cJ4_compareTo_2 62 = .ok (.ireturn, 1) := dk_172 (dk_at dksJ4_compareTo_2_2 16 rfl rfl)
abbrev cJ4_coder : ByteArray := prog_34_method_152_code
def yJ4_coder : MethodName := ⟨RJ4, "coder", "()B"⟩
def dkwJ4_coder_0 : List UInt8 := [178, 0, 38, 153, 0, 10, 42, 180, 0, 15, 167, 0, 4, 4, 172]
abbrev dktJ4_coder_0 : List UInt8 := dkwJ4_coder_0 ++ []
theorem dksJ4_coder_0 : cJ4_coder.data.toList.drop 0 = dktJ4_coder_0 := by decide +kernel
theorem dJ4_coder_0 : decode cJ4_coder 0 = .ok (.getstatic 38, 3) := dk_178 0 38 (dk_at dksJ4_coder_0 0 rfl rfl)
theorem dJ4_coder_3 : decode cJ4_coder 3 = .ok (.ifCond .eq 10, 3) := dk_153 0 10 (dk_at dksJ4_coder_0 3 rfl rfl)
theorem dJ4_coder_6 : decode cJ4_coder 6 = .ok (.aload_n 0, 1) := dk_42 (dk_at dksJ4_coder_0 6 rfl rfl)
theorem dJ4_coder_7 : decode cJ4_coder 7 = .ok (.getfield 15, 3) := dk_180 0 15 (dk_at dksJ4_coder_0 7 rfl rfl)
theorem dJ4_coder_10 : decode cJ4_coder 10 = .ok (.goto 4, 3) := dk_167 0 4 (dk_at dksJ4_coder_0 10 rfl rfl)
theorem dJ4_coder_13 : decode cJ4_coder 13 = .ok (.iconst 1, 1) := dk_4 (dk_at dksJ4_coder_0 13 rfl rfl)
theorem dJ4_coder_14 : decode cJ4_coder 14 = .ok (.ireturn, 1) := dk_172 (dk_at dksJ4_coder_0 14 rfl rfl)
abbrev cJ4_checkOffset : ByteArray := prog_34_method_156_code
def yJ4_checkOffset : MethodName := ⟨RJ4, "checkOffset", "(II)V"⟩
def dkwJ4_checkOffset_0 : List UInt8 := [26, 27, 27, 178, 4, 29, 184, 4, 38, 87, 177]
abbrev dktJ4_checkOffset_0 : List UInt8 := dkwJ4_checkOffset_0 ++ []
theorem dksJ4_checkOffset_0 : cJ4_checkOffset.data.toList.drop 0 = dktJ4_checkOffset_0 := by decide +kernel
theorem dJ4_checkOffset_0 : decode cJ4_checkOffset 0 = .ok (.iload_n 0, 1) := dk_26 (dk_at dksJ4_checkOffset_0 0 rfl rfl)
theorem dJ4_checkOffset_1 : decode cJ4_checkOffset 1 = .ok (.iload_n 1, 1) := dk_27 (dk_at dksJ4_checkOffset_0 1 rfl rfl)
theorem dJ4_checkOffset_2 : decode cJ4_checkOffset 2 = .ok (.iload_n 1, 1) := dk_27 (dk_at dksJ4_checkOffset_0 2 rfl rfl)
theorem dJ4_checkOffset_3 : decode cJ4_checkOffset 3 = .ok (.getstatic 1053, 3) := dk_178 4 29 (dk_at dksJ4_checkOffset_0 3 rfl rfl)
theorem dJ4_checkOffset_6 : decode cJ4_checkOffset 6 = .ok (.invokestatic 1062, 3) := dk_184 4 38 (dk_at dksJ4_checkOffset_0 6 rfl rfl)
theorem dJ4_checkOffset_9 : decode cJ4_checkOffset 9 = .ok (.pop, 1) := dk_87 (dk_at dksJ4_checkOffset_0 9 rfl rfl)
theorem dJ4_checkOffset_10 : decode cJ4_checkOffset 10 = .ok (.return_, 1) := dk_177 (dk_at dksJ4_checkOffset_0 10 rfl rfl)
abbrev cJ4_checkBoundsBeginEnd : ByteArray := prog_34_method_158_code
def yJ4_checkBoundsBeginEnd : MethodName := ⟨RJ4, "checkBoundsBeginEnd", "(III)V"⟩
def dkwJ4_checkBoundsBeginEnd_0 : List UInt8 := [26, 27, 28, 178, 4, 29, 184, 4, 38, 87, 177]
abbrev dktJ4_checkBoundsBeginEnd_0 : List UInt8 := dkwJ4_checkBoundsBeginEnd_0 ++ []
theorem dksJ4_checkBoundsBeginEnd_0 : cJ4_checkBoundsBeginEnd.data.toList.drop 0 = dktJ4_checkBoundsBeginEnd_0 := by decide +kernel
theorem dJ4_checkBoundsBeginEnd_0 : decode cJ4_checkBoundsBeginEnd 0 = .ok (.iload_n 0, 1) := dk_26 (dk_at dksJ4_checkBoundsBeginEnd_0 0 rfl rfl)
theorem dJ4_checkBoundsBeginEnd_1 : decode cJ4_checkBoundsBeginEnd 1 = .ok (.iload_n 1, 1) := dk_27 (dk_at dksJ4_checkBoundsBeginEnd_0 1 rfl rfl)
theorem dJ4_checkBoundsBeginEnd_2 : decode cJ4_checkBoundsBeginEnd 2 = .ok (.iload_n 2, 1) := dk_28 (dk_at dksJ4_checkBoundsBeginEnd_0 2 rfl rfl)
theorem dJ4_checkBoundsBeginEnd_3 : decode cJ4_checkBoundsBeginEnd 3 = .ok (.getstatic 1053, 3) := dk_178 4 29 (dk_at dksJ4_checkBoundsBeginEnd_0 3 rfl rfl)
theorem dJ4_checkBoundsBeginEnd_6 : decode cJ4_checkBoundsBeginEnd 6 = .ok (.invokestatic 1062, 3) := dk_184 4 38 (dk_at dksJ4_checkBoundsBeginEnd_0 6 rfl rfl)
theorem dJ4_checkBoundsBeginEnd_9 : decode cJ4_checkBoundsBeginEnd 9 = .ok (.pop, 1) := dk_87 (dk_at dksJ4_checkBoundsBeginEnd_0 9 rfl rfl)
theorem dJ4_checkBoundsBeginEnd_10 : decode cJ4_checkBoundsBeginEnd 10 = .ok (.return_, 1) := dk_177 (dk_at dksJ4_checkBoundsBeginEnd_0 10 rfl rfl)
abbrev cJ4_length : ByteArray := prog_34_method_54_code
def yJ4_length : MethodName := ⟨RJ4, "length", "()I"⟩
def dkwJ4_length_0 : List UInt8 := [42, 180, 0, 9, 190, 42, 182, 1, 79, 122, 172]
abbrev dktJ4_length_0 : List UInt8 := dkwJ4_length_0 ++ []
theorem dksJ4_length_0 : cJ4_length.data.toList.drop 0 = dktJ4_length_0 := by decide +kernel
theorem dJ4_length_0 : decode cJ4_length 0 = .ok (.aload_n 0, 1) := dk_42 (dk_at dksJ4_length_0 0 rfl rfl)
theorem dJ4_length_1 : decode cJ4_length 1 = .ok (.getfield 9, 3) := dk_180 0 9 (dk_at dksJ4_length_0 1 rfl rfl)
theorem dJ4_length_4 : decode cJ4_length 4 = .ok (.arraylength, 1) := dk_190 (dk_at dksJ4_length_0 4 rfl rfl)
theorem dJ4_length_5 : decode cJ4_length 5 = .ok (.aload_n 0, 1) := dk_42 (dk_at dksJ4_length_0 5 rfl rfl)
theorem dJ4_length_6 : decode cJ4_length 6 = .ok (.invokevirtual 335, 3) := dk_182 1 79 (dk_at dksJ4_length_0 6 rfl rfl)
theorem dJ4_length_9 : decode cJ4_length 9 = .ok (.ishr, 1) := dk_122 (dk_at dksJ4_length_0 9 rfl rfl)
theorem dJ4_length_10 : decode cJ4_length 10 = .ok (.ireturn, 1) := dk_172 (dk_at dksJ4_length_0 10 rfl rfl)
abbrev cJ4_checkBoundsOffCount : ByteArray := prog_34_method_157_code
def yJ4_checkBoundsOffCount : MethodName := ⟨RJ4, "checkBoundsOffCount", "(III)I"⟩
def dkwJ4_checkBoundsOffCount_0 : List UInt8 := [26, 27, 28, 178, 4, 29, 184, 4, 41, 172]
abbrev dktJ4_checkBoundsOffCount_0 : List UInt8 := dkwJ4_checkBoundsOffCount_0 ++ []
theorem dksJ4_checkBoundsOffCount_0 : cJ4_checkBoundsOffCount.data.toList.drop 0 = dktJ4_checkBoundsOffCount_0 := by decide +kernel
theorem dJ4_checkBoundsOffCount_0 : decode cJ4_checkBoundsOffCount 0 = .ok (.iload_n 0, 1) := dk_26 (dk_at dksJ4_checkBoundsOffCount_0 0 rfl rfl)
theorem dJ4_checkBoundsOffCount_1 : decode cJ4_checkBoundsOffCount 1 = .ok (.iload_n 1, 1) := dk_27 (dk_at dksJ4_checkBoundsOffCount_0 1 rfl rfl)
theorem dJ4_checkBoundsOffCount_2 : decode cJ4_checkBoundsOffCount 2 = .ok (.iload_n 2, 1) := dk_28 (dk_at dksJ4_checkBoundsOffCount_0 2 rfl rfl)
theorem dJ4_checkBoundsOffCount_3 : decode cJ4_checkBoundsOffCount 3 = .ok (.getstatic 1053, 3) := dk_178 4 29 (dk_at dksJ4_checkBoundsOffCount_0 3 rfl rfl)
theorem dJ4_checkBoundsOffCount_6 : decode cJ4_checkBoundsOffCount 6 = .ok (.invokestatic 1065, 3) := dk_184 4 41 (dk_at dksJ4_checkBoundsOffCount_0 6 rfl rfl)
theorem dJ4_checkBoundsOffCount_9 : decode cJ4_checkBoundsOffCount 9 = .ok (.ireturn, 1) := dk_172 (dk_at dksJ4_checkBoundsOffCount_0 9 rfl rfl)
abbrev cJ4_getBytes : ByteArray := prog_34_method_147_code
def yJ4_getBytes : MethodName := ⟨RJ4, "getBytes", "([BIB)V"⟩
def dkwJ4_getBytes_1 : List UInt8 := [184, 0, 212, 167, 0, 18, 42, 180, 0, 9, 3, 43, 28, 42, 180, 0, 9, 190, 184, 0, 106, 177]
abbrev dktJ4_getBytes_1 : List UInt8 := dkwJ4_getBytes_1 ++ []
def dkwJ4_getBytes_0 : List UInt8 := [42, 182, 1, 79, 29, 160, 0, 23, 42, 180, 0, 9, 3, 43, 28, 29, 120, 42, 180, 0, 9, 190]
abbrev dktJ4_getBytes_0 : List UInt8 := dkwJ4_getBytes_0 ++ dktJ4_getBytes_1
theorem dksJ4_getBytes_0 : cJ4_getBytes.data.toList.drop 0 = dktJ4_getBytes_0 := by decide +kernel
theorem dksJ4_getBytes_1 : cJ4_getBytes.data.toList.drop 22 = dktJ4_getBytes_1 := dk_seg dksJ4_getBytes_0 22 rfl rfl
theorem dJ4_getBytes_0 : decode cJ4_getBytes 0 = .ok (.aload_n 0, 1) := dk_42 (dk_at dksJ4_getBytes_0 0 rfl rfl)
theorem dJ4_getBytes_1 : decode cJ4_getBytes 1 = .ok (.invokevirtual 335, 3) := dk_182 1 79 (dk_at dksJ4_getBytes_0 1 rfl rfl)
theorem dJ4_getBytes_4 : decode cJ4_getBytes 4 = .ok (.iload_n 3, 1) := dk_29 (dk_at dksJ4_getBytes_0 4 rfl rfl)
theorem dJ4_getBytes_5 : decode cJ4_getBytes 5 = .ok (.if_icmp .ne 23, 3) := dk_160 0 23 (dk_at dksJ4_getBytes_0 5 rfl rfl)
theorem dJ4_getBytes_8 : decode cJ4_getBytes 8 = .ok (.aload_n 0, 1) := dk_42 (dk_at dksJ4_getBytes_0 8 rfl rfl)
theorem dJ4_getBytes_9 : decode cJ4_getBytes 9 = .ok (.getfield 9, 3) := dk_180 0 9 (dk_at dksJ4_getBytes_0 9 rfl rfl)
theorem dJ4_getBytes_12 : decode cJ4_getBytes 12 = .ok (.iconst 0, 1) := dk_3 (dk_at dksJ4_getBytes_0 12 rfl rfl)
theorem dJ4_getBytes_13 : decode cJ4_getBytes 13 = .ok (.aload_n 1, 1) := dk_43 (dk_at dksJ4_getBytes_0 13 rfl rfl)
theorem dJ4_getBytes_14 : decode cJ4_getBytes 14 = .ok (.iload_n 2, 1) := dk_28 (dk_at dksJ4_getBytes_0 14 rfl rfl)
theorem dJ4_getBytes_15 : decode cJ4_getBytes 15 = .ok (.iload_n 3, 1) := dk_29 (dk_at dksJ4_getBytes_0 15 rfl rfl)
theorem dJ4_getBytes_16 : decode cJ4_getBytes 16 = .ok (.ishl, 1) := dk_120 (dk_at dksJ4_getBytes_0 16 rfl rfl)
theorem dJ4_getBytes_17 : decode cJ4_getBytes 17 = .ok (.aload_n 0, 1) := dk_42 (dk_at dksJ4_getBytes_0 17 rfl rfl)
theorem dJ4_getBytes_18 : decode cJ4_getBytes 18 = .ok (.getfield 9, 3) := dk_180 0 9 (dk_at dksJ4_getBytes_0 18 rfl rfl)
theorem dJ4_getBytes_21 : decode cJ4_getBytes 21 = .ok (.arraylength, 1) := dk_190 (dk_at dksJ4_getBytes_0 21 rfl rfl)
theorem dJ4_getBytes_22 : decode cJ4_getBytes 22 = .ok (.invokestatic 212, 3) := dk_184 0 212 (dk_at dksJ4_getBytes_1 0 rfl rfl)
theorem dJ4_getBytes_25 : decode cJ4_getBytes 25 = .ok (.goto 18, 3) := dk_167 0 18 (dk_at dksJ4_getBytes_1 3 rfl rfl)
theorem dJ4_getBytes_28 : decode cJ4_getBytes 28 = .ok (.aload_n 0, 1) := dk_42 (dk_at dksJ4_getBytes_1 6 rfl rfl)
theorem dJ4_getBytes_29 : decode cJ4_getBytes 29 = .ok (.getfield 9, 3) := dk_180 0 9 (dk_at dksJ4_getBytes_1 7 rfl rfl)
theorem dJ4_getBytes_32 : decode cJ4_getBytes 32 = .ok (.iconst 0, 1) := dk_3 (dk_at dksJ4_getBytes_1 10 rfl rfl)
theorem dJ4_getBytes_33 : decode cJ4_getBytes 33 = .ok (.aload_n 1, 1) := dk_43 (dk_at dksJ4_getBytes_1 11 rfl rfl)
theorem dJ4_getBytes_34 : decode cJ4_getBytes 34 = .ok (.iload_n 2, 1) := dk_28 (dk_at dksJ4_getBytes_1 12 rfl rfl)
theorem dJ4_getBytes_35 : decode cJ4_getBytes 35 = .ok (.aload_n 0, 1) := dk_42 (dk_at dksJ4_getBytes_1 13 rfl rfl)
theorem dJ4_getBytes_36 : decode cJ4_getBytes 36 = .ok (.getfield 9, 3) := dk_180 0 9 (dk_at dksJ4_getBytes_1 14 rfl rfl)
theorem dJ4_getBytes_39 : decode cJ4_getBytes 39 = .ok (.arraylength, 1) := dk_190 (dk_at dksJ4_getBytes_1 17 rfl rfl)
theorem dJ4_getBytes_40 : decode cJ4_getBytes 40 = .ok (.invokestatic 106, 3) := dk_184 0 106 (dk_at dksJ4_getBytes_1 18 rfl rfl)
theorem dJ4_getBytes_43 : decode cJ4_getBytes 43 = .ok (.return_, 1) := dk_177 (dk_at dksJ4_getBytes_1 21 rfl rfl)
abbrev cJ4_init : ByteArray := prog_34_method_53_code
def yJ4_init : MethodName := ⟨RJ4, "<init>", "(Ljava/lang/StringBuilder;)V"⟩
def dkwJ4_init_0 : List UInt8 := [42, 43, 1, 183, 1, 233, 177]
abbrev dktJ4_init_0 : List UInt8 := dkwJ4_init_0 ++ []
theorem dksJ4_init_0 : cJ4_init.data.toList.drop 0 = dktJ4_init_0 := by decide +kernel
theorem dJ4_init_0 : decode cJ4_init 0 = .ok (.aload_n 0, 1) := dk_42 (dk_at dksJ4_init_0 0 rfl rfl)
theorem dJ4_init_1 : decode cJ4_init 1 = .ok (.aload_n 1, 1) := dk_43 (dk_at dksJ4_init_0 1 rfl rfl)
theorem dJ4_init_2 : decode cJ4_init 2 = .ok (.aconst_null, 1) := dk_1 (dk_at dksJ4_init_0 2 rfl rfl)
theorem dJ4_init_3 : decode cJ4_init 3 = .ok (.invokespecial 489, 3) := dk_183 1 233 (dk_at dksJ4_init_0 3 rfl rfl)
theorem dJ4_init_6 : decode cJ4_init 6 = .ok (.return_, 1) := dk_177 (dk_at dksJ4_init_0 6 rfl rfl)
abbrev cJ4_init_2 : ByteArray := prog_34_method_150_code
def yJ4_init_2 : MethodName := ⟨RJ4, "<init>", "(Ljava/lang/AbstractStringBuilder;Ljava/lang/Void;)V"⟩
def dkwJ4_init_2_4 : List UInt8 := [181, 0, 9, 177]
abbrev dktJ4_init_2_4 : List UInt8 := dkwJ4_init_2_4 ++ []
def dkwJ4_init_2_3 : List UInt8 := [184, 0, 47, 181, 0, 15, 177, 42, 4, 181, 0, 15, 42, 45, 3, 21, 4, 4, 120, 184, 0, 54]
abbrev dktJ4_init_2_3 : List UInt8 := dkwJ4_init_2_3 ++ dktJ4_init_2_4
def dkwJ4_init_2_2 : List UInt8 := [180, 4, 24, 153, 0, 28, 42, 45, 3, 21, 4, 184, 4, 27, 181, 0, 9, 42, 42, 180, 0, 9, 21, 4]
abbrev dktJ4_init_2_2 : List UInt8 := dkwJ4_init_2_2 ++ dktJ4_init_2_3
def dkwJ4_init_2_1 : List UInt8 := [181, 0, 15, 42, 45, 3, 21, 4, 184, 0, 54, 181, 0, 9, 167, 0, 59, 178, 0, 38, 153, 0, 35, 43]
abbrev dktJ4_init_2_1 : List UInt8 := dkwJ4_init_2_1 ++ dktJ4_init_2_2
def dkwJ4_init_2_0 : List UInt8 := [42, 183, 0, 1, 43, 182, 2, 40, 78, 43, 182, 2, 37, 54, 4, 43, 182, 4, 23, 153, 0, 22, 42, 3]
abbrev dktJ4_init_2_0 : List UInt8 := dkwJ4_init_2_0 ++ dktJ4_init_2_1
theorem dksJ4_init_2_0 : cJ4_init_2.data.toList.drop 0 = dktJ4_init_2_0 := by decide +kernel
theorem dksJ4_init_2_1 : cJ4_init_2.data.toList.drop 24 = dktJ4_init_2_1 := dk_seg dksJ4_init_2_0 24 rfl rfl
theorem dksJ4_init_2_2 : cJ4_init_2.data.toList.drop 48 = dktJ4_init_2_2 := dk_seg dksJ4_init_2_1 24 rfl rfl
theorem dksJ4_init_2_3 : cJ4_init_2.data.toList.drop 72 = dktJ4_init_2_3 := dk_seg dksJ4_init_2_2 24 rfl rfl
theorem dksJ4_init_2_4 : cJ4_init_2.data.toList.drop 94 = dktJ4_init_2_4 := dk_seg dksJ4_init_2_3 22 rfl rfl
theorem dJ4_init_2_0 : decode cJ4_init_2 0 = .ok (.aload_n 0, 1) := dk_42 (dk_at dksJ4_init_2_0 0 rfl rfl)
theorem dJ4_init_2_1 : decode cJ4_init_2 1 = .ok (.invokespecial 1, 3) := dk_183 0 1 (dk_at dksJ4_init_2_0 1 rfl rfl)
theorem dJ4_init_2_4 : decode cJ4_init_2 4 = .ok (.aload_n 1, 1) := dk_43 (dk_at dksJ4_init_2_0 4 rfl rfl)
theorem dJ4_init_2_5 : decode cJ4_init_2 5 = .ok (.invokevirtual 552, 3) := dk_182 2 40 (dk_at dksJ4_init_2_0 5 rfl rfl)
theorem dJ4_init_2_8 : decode cJ4_init_2 8 = .ok (.astore_n 3, 1) := dk_78 (dk_at dksJ4_init_2_0 8 rfl rfl)
theorem dJ4_init_2_9 : decode cJ4_init_2 9 = .ok (.aload_n 1, 1) := dk_43 (dk_at dksJ4_init_2_0 9 rfl rfl)
theorem dJ4_init_2_10 : decode cJ4_init_2 10 = .ok (.invokevirtual 549, 3) := dk_182 2 37 (dk_at dksJ4_init_2_0 10 rfl rfl)
theorem dJ4_init_2_13 : decode cJ4_init_2 13 = .ok (.istore 4, 2) := dk_54 4 (dk_at dksJ4_init_2_0 13 rfl rfl)
theorem dJ4_init_2_15 : decode cJ4_init_2 15 = .ok (.aload_n 1, 1) := dk_43 (dk_at dksJ4_init_2_0 15 rfl rfl)
theorem dJ4_init_2_16 : decode cJ4_init_2 16 = .ok (.invokevirtual 1047, 3) := dk_182 4 23 (dk_at dksJ4_init_2_0 16 rfl rfl)
theorem dJ4_init_2_19 : decode cJ4_init_2 19 = .ok (.ifCond .eq 22, 3) := dk_153 0 22 (dk_at dksJ4_init_2_0 19 rfl rfl)
theorem dJ4_init_2_22 : decode cJ4_init_2 22 = .ok (.aload_n 0, 1) := dk_42 (dk_at dksJ4_init_2_0 22 rfl rfl)
theorem dJ4_init_2_23 : decode cJ4_init_2 23 = .ok (.iconst 0, 1) := dk_3 (dk_at dksJ4_init_2_0 23 rfl rfl)
theorem dJ4_init_2_24 : decode cJ4_init_2 24 = .ok (.putfield 15, 3) := dk_181 0 15 (dk_at dksJ4_init_2_1 0 rfl rfl)
theorem dJ4_init_2_27 : decode cJ4_init_2 27 = .ok (.aload_n 0, 1) := dk_42 (dk_at dksJ4_init_2_1 3 rfl rfl)
theorem dJ4_init_2_28 : decode cJ4_init_2 28 = .ok (.aload_n 3, 1) := dk_45 (dk_at dksJ4_init_2_1 4 rfl rfl)
theorem dJ4_init_2_29 : decode cJ4_init_2 29 = .ok (.iconst 0, 1) := dk_3 (dk_at dksJ4_init_2_1 5 rfl rfl)
theorem dJ4_init_2_30 : decode cJ4_init_2 30 = .ok (.iload 4, 2) := dk_21 4 (dk_at dksJ4_init_2_1 6 rfl rfl)
theorem dJ4_init_2_32 : decode cJ4_init_2 32 = .ok (.invokestatic 54, 3) := dk_184 0 54 (dk_at dksJ4_init_2_1 8 rfl rfl)
theorem dJ4_init_2_35 : decode cJ4_init_2 35 = .ok (.putfield 9, 3) := dk_181 0 9 (dk_at dksJ4_init_2_1 11 rfl rfl)
theorem dJ4_init_2_38 : decode cJ4_init_2 38 = .ok (.goto 59, 3) := dk_167 0 59 (dk_at dksJ4_init_2_1 14 rfl rfl)
theorem dJ4_init_2_41 : decode cJ4_init_2 41 = .ok (.getstatic 38, 3) := dk_178 0 38 (dk_at dksJ4_init_2_1 17 rfl rfl)
theorem dJ4_init_2_44 : decode cJ4_init_2 44 = .ok (.ifCond .eq 35, 3) := dk_153 0 35 (dk_at dksJ4_init_2_1 20 rfl rfl)
theorem dJ4_init_2_47 : decode cJ4_init_2 47 = .ok (.aload_n 1, 1) := dk_43 (dk_at dksJ4_init_2_1 23 rfl rfl)
theorem dJ4_init_2_48 : decode cJ4_init_2 48 = .ok (.getfield 1048, 3) := dk_180 4 24 (dk_at dksJ4_init_2_2 0 rfl rfl)
theorem dJ4_init_2_51 : decode cJ4_init_2 51 = .ok (.ifCond .eq 28, 3) := dk_153 0 28 (dk_at dksJ4_init_2_2 3 rfl rfl)
theorem dJ4_init_2_54 : decode cJ4_init_2 54 = .ok (.aload_n 0, 1) := dk_42 (dk_at dksJ4_init_2_2 6 rfl rfl)
theorem dJ4_init_2_55 : decode cJ4_init_2 55 = .ok (.aload_n 3, 1) := dk_45 (dk_at dksJ4_init_2_2 7 rfl rfl)
theorem dJ4_init_2_56 : decode cJ4_init_2 56 = .ok (.iconst 0, 1) := dk_3 (dk_at dksJ4_init_2_2 8 rfl rfl)
theorem dJ4_init_2_57 : decode cJ4_init_2 57 = .ok (.iload 4, 2) := dk_21 4 (dk_at dksJ4_init_2_2 9 rfl rfl)
theorem dJ4_init_2_59 : decode cJ4_init_2 59 = .ok (.invokestatic 1051, 3) := dk_184 4 27 (dk_at dksJ4_init_2_2 11 rfl rfl)
theorem dJ4_init_2_62 : decode cJ4_init_2 62 = .ok (.putfield 9, 3) := dk_181 0 9 (dk_at dksJ4_init_2_2 14 rfl rfl)
theorem dJ4_init_2_65 : decode cJ4_init_2 65 = .ok (.aload_n 0, 1) := dk_42 (dk_at dksJ4_init_2_2 17 rfl rfl)
theorem dJ4_init_2_66 : decode cJ4_init_2 66 = .ok (.aload_n 0, 1) := dk_42 (dk_at dksJ4_init_2_2 18 rfl rfl)
theorem dJ4_init_2_67 : decode cJ4_init_2 67 = .ok (.getfield 9, 3) := dk_180 0 9 (dk_at dksJ4_init_2_2 19 rfl rfl)
theorem dJ4_init_2_70 : decode cJ4_init_2 70 = .ok (.iload 4, 2) := dk_21 4 (dk_at dksJ4_init_2_2 22 rfl rfl)
theorem dJ4_init_2_72 : decode cJ4_init_2 72 = .ok (.invokestatic 47, 3) := dk_184 0 47 (dk_at dksJ4_init_2_3 0 rfl rfl)
theorem dJ4_init_2_75 : decode cJ4_init_2 75 = .ok (.putfield 15, 3) := dk_181 0 15 (dk_at dksJ4_init_2_3 3 rfl rfl)
theorem dJ4_init_2_78 : decode cJ4_init_2 78 = .ok (.return_, 1) := dk_177 (dk_at dksJ4_init_2_3 6 rfl rfl)
theorem dJ4_init_2_79 : decode cJ4_init_2 79 = .ok (.aload_n 0, 1) := dk_42 (dk_at dksJ4_init_2_3 7 rfl rfl)
theorem dJ4_init_2_80 : decode cJ4_init_2 80 = .ok (.iconst 1, 1) := dk_4 (dk_at dksJ4_init_2_3 8 rfl rfl)
theorem dJ4_init_2_81 : decode cJ4_init_2 81 = .ok (.putfield 15, 3) := dk_181 0 15 (dk_at dksJ4_init_2_3 9 rfl rfl)
theorem dJ4_init_2_84 : decode cJ4_init_2 84 = .ok (.aload_n 0, 1) := dk_42 (dk_at dksJ4_init_2_3 12 rfl rfl)
theorem dJ4_init_2_85 : decode cJ4_init_2 85 = .ok (.aload_n 3, 1) := dk_45 (dk_at dksJ4_init_2_3 13 rfl rfl)
theorem dJ4_init_2_86 : decode cJ4_init_2 86 = .ok (.iconst 0, 1) := dk_3 (dk_at dksJ4_init_2_3 14 rfl rfl)
theorem dJ4_init_2_87 : decode cJ4_init_2 87 = .ok (.iload 4, 2) := dk_21 4 (dk_at dksJ4_init_2_3 15 rfl rfl)
theorem dJ4_init_2_89 : decode cJ4_init_2 89 = .ok (.iconst 1, 1) := dk_4 (dk_at dksJ4_init_2_3 17 rfl rfl)
theorem dJ4_init_2_90 : decode cJ4_init_2 90 = .ok (.ishl, 1) := dk_120 (dk_at dksJ4_init_2_3 18 rfl rfl)
theorem dJ4_init_2_91 : decode cJ4_init_2 91 = .ok (.invokestatic 54, 3) := dk_184 0 54 (dk_at dksJ4_init_2_3 19 rfl rfl)
theorem dJ4_init_2_94 : decode cJ4_init_2 94 = .ok (.putfield 9, 3) := dk_181 0 9 (dk_at dksJ4_init_2_4 0 rfl rfl)
theorem dJ4_init_2_97 : decode cJ4_init_2 97 = .ok (.return_, 1) := dk_177 (dk_at dksJ4_init_2_4 3 rfl rfl)
abbrev cJ4_checkIndex : ByteArray := prog_34_method_155_code
def yJ4_checkIndex : MethodName := ⟨RJ4, "checkIndex", "(II)V"⟩
def dkwJ4_checkIndex_0 : List UInt8 := [26, 27, 178, 4, 29, 184, 4, 35, 87, 177]
abbrev dktJ4_checkIndex_0 : List UInt8 := dkwJ4_checkIndex_0 ++ []
theorem dksJ4_checkIndex_0 : cJ4_checkIndex.data.toList.drop 0 = dktJ4_checkIndex_0 := by decide +kernel
theorem dJ4_checkIndex_0 : decode cJ4_checkIndex 0 = .ok (.iload_n 0, 1) := dk_26 (dk_at dksJ4_checkIndex_0 0 rfl rfl)
theorem dJ4_checkIndex_1 : decode cJ4_checkIndex 1 = .ok (.iload_n 1, 1) := dk_27 (dk_at dksJ4_checkIndex_0 1 rfl rfl)
theorem dJ4_checkIndex_2 : decode cJ4_checkIndex 2 = .ok (.getstatic 1053, 3) := dk_178 4 29 (dk_at dksJ4_checkIndex_0 2 rfl rfl)
theorem dJ4_checkIndex_5 : decode cJ4_checkIndex 5 = .ok (.invokestatic 1059, 3) := dk_184 4 35 (dk_at dksJ4_checkIndex_0 5 rfl rfl)
theorem dJ4_checkIndex_8 : decode cJ4_checkIndex 8 = .ok (.pop, 1) := dk_87 (dk_at dksJ4_checkIndex_0 8 rfl rfl)
theorem dJ4_checkIndex_9 : decode cJ4_checkIndex 9 = .ok (.return_, 1) := dk_177 (dk_at dksJ4_checkIndex_0 9 rfl rfl)
abbrev cJ4_charAt : ByteArray := prog_34_method_56_code
def yJ4_charAt : MethodName := ⟨RJ4, "charAt", "(I)C"⟩
def dkwJ4_charAt_1 : List UInt8 := [172]
abbrev dktJ4_charAt_1 : List UInt8 := dkwJ4_charAt_1 ++ []
def dkwJ4_charAt_0 : List UInt8 := [42, 182, 1, 236, 153, 0, 12, 42, 180, 0, 9, 27, 184, 1, 239, 172, 42, 180, 0, 9, 27, 184, 1, 242]
abbrev dktJ4_charAt_0 : List UInt8 := dkwJ4_charAt_0 ++ dktJ4_charAt_1
theorem dksJ4_charAt_0 : cJ4_charAt.data.toList.drop 0 = dktJ4_charAt_0 := by decide +kernel
theorem dksJ4_charAt_1 : cJ4_charAt.data.toList.drop 24 = dktJ4_charAt_1 := dk_seg dksJ4_charAt_0 24 rfl rfl
theorem dJ4_charAt_0 : decode cJ4_charAt 0 = .ok (.aload_n 0, 1) := dk_42 (dk_at dksJ4_charAt_0 0 rfl rfl)
theorem dJ4_charAt_1 : decode cJ4_charAt 1 = .ok (.invokevirtual 492, 3) := dk_182 1 236 (dk_at dksJ4_charAt_0 1 rfl rfl)
theorem dJ4_charAt_4 : decode cJ4_charAt 4 = .ok (.ifCond .eq 12, 3) := dk_153 0 12 (dk_at dksJ4_charAt_0 4 rfl rfl)
theorem dJ4_charAt_7 : decode cJ4_charAt 7 = .ok (.aload_n 0, 1) := dk_42 (dk_at dksJ4_charAt_0 7 rfl rfl)
theorem dJ4_charAt_8 : decode cJ4_charAt 8 = .ok (.getfield 9, 3) := dk_180 0 9 (dk_at dksJ4_charAt_0 8 rfl rfl)
theorem dJ4_charAt_11 : decode cJ4_charAt 11 = .ok (.iload_n 1, 1) := dk_27 (dk_at dksJ4_charAt_0 11 rfl rfl)
theorem dJ4_charAt_12 : decode cJ4_charAt 12 = .ok (.invokestatic 495, 3) := dk_184 1 239 (dk_at dksJ4_charAt_0 12 rfl rfl)
theorem dJ4_charAt_15 : decode cJ4_charAt 15 = .ok (.ireturn, 1) := dk_172 (dk_at dksJ4_charAt_0 15 rfl rfl)
theorem dJ4_charAt_16 : decode cJ4_charAt 16 = .ok (.aload_n 0, 1) := dk_42 (dk_at dksJ4_charAt_0 16 rfl rfl)
theorem dJ4_charAt_17 : decode cJ4_charAt 17 = .ok (.getfield 9, 3) := dk_180 0 9 (dk_at dksJ4_charAt_0 17 rfl rfl)
theorem dJ4_charAt_20 : decode cJ4_charAt 20 = .ok (.iload_n 1, 1) := dk_27 (dk_at dksJ4_charAt_0 20 rfl rfl)
theorem dJ4_charAt_21 : decode cJ4_charAt 21 = .ok (.invokestatic 498, 3) := dk_184 1 242 (dk_at dksJ4_charAt_0 21 rfl rfl)
theorem dJ4_charAt_24 : decode cJ4_charAt 24 = .ok (.ireturn, 1) := dk_172 (dk_at dksJ4_charAt_1 0 rfl rfl)
abbrev cJ4_isLatin1 : ByteArray := prog_34_method_154_code
def yJ4_isLatin1 : MethodName := ⟨RJ4, "isLatin1", "()Z"⟩
def dkwJ4_isLatin1_0 : List UInt8 := [178, 0, 38, 153, 0, 14, 42, 180, 0, 15, 154, 0, 7, 4, 167, 0, 4, 3, 172]
abbrev dktJ4_isLatin1_0 : List UInt8 := dkwJ4_isLatin1_0 ++ []
theorem dksJ4_isLatin1_0 : cJ4_isLatin1.data.toList.drop 0 = dktJ4_isLatin1_0 := by decide +kernel
theorem dJ4_isLatin1_0 : decode cJ4_isLatin1 0 = .ok (.getstatic 38, 3) := dk_178 0 38 (dk_at dksJ4_isLatin1_0 0 rfl rfl)
theorem dJ4_isLatin1_3 : decode cJ4_isLatin1 3 = .ok (.ifCond .eq 14, 3) := dk_153 0 14 (dk_at dksJ4_isLatin1_0 3 rfl rfl)
theorem dJ4_isLatin1_6 : decode cJ4_isLatin1 6 = .ok (.aload_n 0, 1) := dk_42 (dk_at dksJ4_isLatin1_0 6 rfl rfl)
theorem dJ4_isLatin1_7 : decode cJ4_isLatin1 7 = .ok (.getfield 15, 3) := dk_180 0 15 (dk_at dksJ4_isLatin1_0 7 rfl rfl)
theorem dJ4_isLatin1_10 : decode cJ4_isLatin1 10 = .ok (.ifCond .ne 7, 3) := dk_154 0 7 (dk_at dksJ4_isLatin1_0 10 rfl rfl)
theorem dJ4_isLatin1_13 : decode cJ4_isLatin1 13 = .ok (.iconst 1, 1) := dk_4 (dk_at dksJ4_isLatin1_0 13 rfl rfl)
theorem dJ4_isLatin1_14 : decode cJ4_isLatin1 14 = .ok (.goto 4, 3) := dk_167 0 4 (dk_at dksJ4_isLatin1_0 14 rfl rfl)
theorem dJ4_isLatin1_17 : decode cJ4_isLatin1 17 = .ok (.iconst 0, 1) := dk_3 (dk_at dksJ4_isLatin1_0 17 rfl rfl)
theorem dJ4_isLatin1_18 : decode cJ4_isLatin1 18 = .ok (.ireturn, 1) := dk_172 (dk_at dksJ4_isLatin1_0 18 rfl rfl)
theorem q91 : (Jvm.Cond.initialized "java/lang/String") ∈ lw_all := lw_g (lw_at lw_m1 6 rfl) rfl
theorem q170 : (Jvm.Cond.laysStatic "java/lang/String" "COMPACT_STRINGS" "Z") ∈ lw_tbl := lw_at lw_m1 85 rfl
theorem q181 : (Jvm.Cond.fieldLink "java/lang/String" (1048 : Nat) "java/lang/AbstractStringBuilder" "maybeLatin1" "Z") ∈ lw_all := lw_g (lw_at lw_m1 96 rfl) rfl
theorem q380 : (Jvm.Cond.selects "java/lang/String" ({ cls := "java/lang/Object", name := "getClass", desc := "()Ljava/lang/Class;" } : Jvm.MethodName) ({ cls := "java/lang/Object", name := "getClass", desc := "()Ljava/lang/Class;" } : Jvm.MethodName)) ∈ lw_all := lw_g (lw_at lw_m2 55 rfl) rfl
theorem q646 : (Jvm.Cond.castable "java/lang/String" "java/lang/Comparable") ∈ lw_tbl := lw_at lw_m3 81 rfl
theorem q647 : (Jvm.Cond.selects "java/lang/String" ({ cls := "java/lang/Comparable", name := "compareTo", desc := "(Ljava/lang/Object;)I" } : Jvm.MethodName) ({ cls := "java/lang/String", name := "compareTo", desc := "(Ljava/lang/Object;)I" } : Jvm.MethodName)) ∈ lw_all := lw_g (lw_at lw_m3 82 rfl) rfl
theorem q648 : (Jvm.Cond.unhidden "java/lang/String" "compareTo" "(Ljava/lang/Object;)I") ∈ lw_tbl := lw_at lw_m3 83 rfl
theorem q649 : (Jvm.Cond.instanceMethod ({ cls := "java/lang/String", name := "compareTo", desc := "(Ljava/lang/Object;)I" } : Jvm.MethodName)) ∈ lw_all := lw_g (lw_at lw_m3 84 rfl) rfl
theorem q650 : (Jvm.Cond.publicMethod ({ cls := "java/lang/String", name := "compareTo", desc := "(Ljava/lang/Object;)I" } : Jvm.MethodName)) ∈ lw_tbl := lw_at lw_m3 85 rfl
theorem q651 : (Jvm.Cond.code ({ cls := "java/lang/String", name := "compareTo", desc := "(Ljava/lang/Object;)I" } : Jvm.MethodName) prog_34_method_162_code (2 : Nat) (Option.some Jvm.ClassFile.FieldType.int)) ∈ lw_all := lw_g (lw_at lw_m3 86 rfl) rfl
theorem q652 : (Jvm.Cond.classLink "java/lang/String" (10 : Nat) "java/lang/String") ∈ lw_all := lw_g (lw_at lw_m3 87 rfl) rfl
theorem q653 : (Jvm.Cond.methodLink "java/lang/String" (1084 : Nat) ({ cls := "java/lang/String", name := "compareTo", desc := "(Ljava/lang/String;)I" } : Jvm.MethodName)) ∈ lw_all := lw_g (lw_at lw_m3 88 rfl) rfl
theorem q654 : (Jvm.Cond.instanceMethod ({ cls := "java/lang/String", name := "compareTo", desc := "(Ljava/lang/String;)I" } : Jvm.MethodName)) ∈ lw_all := lw_g (lw_at lw_m3 89 rfl) rfl
theorem q655 : (Jvm.Cond.selects "java/lang/String" ({ cls := "java/lang/String", name := "compareTo", desc := "(Ljava/lang/String;)I" } : Jvm.MethodName) ({ cls := "java/lang/String", name := "compareTo", desc := "(Ljava/lang/String;)I" } : Jvm.MethodName)) ∈ lw_all := lw_g (lw_at lw_m3 90 rfl) rfl
theorem q656 : (Jvm.Cond.code ({ cls := "java/lang/String", name := "compareTo", desc := "(Ljava/lang/String;)I" } : Jvm.MethodName) prog_34_method_71_code (5 : Nat) (Option.some Jvm.ClassFile.FieldType.int)) ∈ lw_all := lw_g (lw_at lw_m3 91 rfl) rfl
theorem q657 : (Jvm.Cond.methodLink "java/lang/String" (335 : Nat) ({ cls := "java/lang/String", name := "coder", desc := "()B" } : Jvm.MethodName)) ∈ lw_all := lw_g (lw_at lw_m3 92 rfl) rfl
theorem q658 : (Jvm.Cond.instanceMethod ({ cls := "java/lang/String", name := "coder", desc := "()B" } : Jvm.MethodName)) ∈ lw_all := lw_g (lw_at lw_m3 93 rfl) rfl
theorem q659 : (Jvm.Cond.selects "java/lang/String" ({ cls := "java/lang/String", name := "coder", desc := "()B" } : Jvm.MethodName) ({ cls := "java/lang/String", name := "coder", desc := "()B" } : Jvm.MethodName)) ∈ lw_all := lw_g (lw_at lw_m3 94 rfl) rfl
theorem q660 : (Jvm.Cond.code ({ cls := "java/lang/String", name := "coder", desc := "()B" } : Jvm.MethodName) prog_34_method_152_code (1 : Nat) (Option.some Jvm.ClassFile.FieldType.byte)) ∈ lw_all := lw_g (lw_at lw_m3 95 rfl) rfl
theorem q661 : (Jvm.Cond.fieldLink "java/lang/String" (38 : Nat) "java/lang/String" "COMPACT_STRINGS" "Z") ∈ lw_all := lw_g (lw_at lw_m3 96 rfl) rfl
theorem q662 : (Jvm.Cond.methodLink "java/lang/String" (586 : Nat) ({ cls := "java/lang/StringLatin1", name := "compareTo", desc := "([B[B)I" } : Jvm.MethodName)) ∈ lw_all := lw_g (lw_at lw_m3 97 rfl) rfl
theorem q776 : (Jvm.Cond.methodLink "java/lang/String" (590 : Nat) ({ cls := "java/lang/StringUTF16", name := "compareTo", desc := "([B[B)I" } : Jvm.MethodName)) ∈ lw_all := lw_g (lw_at lw_m3 211 rfl) rfl
theorem q795 : (Jvm.Cond.methodLink "java/lang/String" (591 : Nat) ({ cls := "java/lang/StringLatin1", name := "compareToUTF16", desc := "([B[B)I" } : Jvm.MethodName)) ∈ lw_all := lw_g (lw_at lw_m3 230 rfl) rfl
theorem q806 : (Jvm.Cond.methodLink "java/lang/String" (594 : Nat) ({ cls := "java/lang/StringUTF16", name := "compareToLatin1", desc := "([B[B)I" } : Jvm.MethodName)) ∈ lw_all := lw_g (lw_at lw_m4 1 rfl) rfl
theorem q837 : (Jvm.Cond.static ({ cls := "java/lang/String", name := "checkOffset", desc := "(II)V" } : Jvm.MethodName)) ∈ lw_all := lw_g (lw_at lw_m4 32 rfl) rfl
theorem q838 : (Jvm.Cond.code ({ cls := "java/lang/String", name := "checkOffset", desc := "(II)V" } : Jvm.MethodName) prog_34_method_156_code (2 : Nat) (Option.none : Option Jvm.ClassFile.FieldType)) ∈ lw_all := lw_g (lw_at lw_m4 33 rfl) rfl
theorem q839 : (Jvm.Cond.fieldLink "java/lang/String" (1053 : Nat) "jdk/internal/util/Preconditions" "SIOOBE_FORMATTER" "Ljava/util/function/BiFunction;") ∈ lw_all := lw_g (lw_at lw_m4 34 rfl) rfl
theorem q841 : (Jvm.Cond.methodLink "java/lang/String" (1062 : Nat) ({ cls := "jdk/internal/util/Preconditions", name := "checkFromToIndex", desc := "(IIILjava/util/function/BiFunction;)I" } : Jvm.MethodName)) ∈ lw_all := lw_g (lw_at lw_m4 36 rfl) rfl
theorem q920 : (Jvm.Cond.static ({ cls := "java/lang/String", name := "checkBoundsBeginEnd", desc := "(III)V" } : Jvm.MethodName)) ∈ lw_all := lw_g (lw_at lw_m4 115 rfl) rfl
theorem q921 : (Jvm.Cond.code ({ cls := "java/lang/String", name := "checkBoundsBeginEnd", desc := "(III)V" } : Jvm.MethodName) prog_34_method_158_code (3 : Nat) (Option.none : Option Jvm.ClassFile.FieldType)) ∈ lw_all := lw_g (lw_at lw_m4 116 rfl) rfl
theorem q926 : (Jvm.Cond.instanceMethod ({ cls := "java/lang/String", name := "length", desc := "()I" } : Jvm.MethodName)) ∈ lw_all := lw_g (lw_at lw_m4 121 rfl) rfl
theorem q927 : (Jvm.Cond.selects "java/lang/String" ({ cls := "java/lang/String", name := "length", desc := "()I" } : Jvm.MethodName) ({ cls := "java/lang/String", name := "length", desc := "()I" } : Jvm.MethodName)) ∈ lw_all := lw_g (lw_at lw_m4 122 rfl) rfl
theorem q928 : (Jvm.Cond.code ({ cls := "java/lang/String", name := "length", desc := "()I" } : Jvm.MethodName) prog_34_method_54_code (1 : Nat) (Option.some Jvm.ClassFile.FieldType.int)) ∈ lw_all := lw_g (lw_at lw_m4 123 rfl) rfl
theorem q952 : (Jvm.Cond.static ({ cls := "java/lang/String", name := "checkBoundsOffCount", desc := "(III)I" } : Jvm.MethodName)) ∈ lw_all := lw_g (lw_at lw_m4 147 rfl) rfl
theorem q953 : (Jvm.Cond.code ({ cls := "java/lang/String", name := "checkBoundsOffCount", desc := "(III)I" } : Jvm.MethodName) prog_34_method_157_code (3 : Nat) (Option.some Jvm.ClassFile.FieldType.int)) ∈ lw_all := lw_g (lw_at lw_m4 148 rfl) rfl
theorem q954 : (Jvm.Cond.methodLink "java/lang/String" (1065 : Nat) ({ cls := "jdk/internal/util/Preconditions", name := "checkFromIndexSize", desc := "(IIILjava/util/function/BiFunction;)I" } : Jvm.MethodName)) ∈ lw_all := lw_g (lw_at lw_m4 149 rfl) rfl
theorem q958 : (Jvm.Cond.instanceMethod ({ cls := "java/lang/String", name := "getBytes", desc := "([BIB)V" } : Jvm.MethodName)) ∈ lw_all := lw_g (lw_at lw_m4 153 rfl) rfl
theorem q959 : (Jvm.Cond.selects "java/lang/String" ({ cls := "java/lang/String", name := "getBytes", desc := "([BIB)V" } : Jvm.MethodName) ({ cls := "java/lang/String", name := "getBytes", desc := "([BIB)V" } : Jvm.MethodName)) ∈ lw_all := lw_g (lw_at lw_m4 154 rfl) rfl
theorem q960 : (Jvm.Cond.code ({ cls := "java/lang/String", name := "getBytes", desc := "([BIB)V" } : Jvm.MethodName) prog_34_method_147_code (4 : Nat) (Option.none : Option Jvm.ClassFile.FieldType)) ∈ lw_all := lw_g (lw_at lw_m4 155 rfl) rfl
theorem q961 : (Jvm.Cond.methodLink "java/lang/String" (212 : Nat) ({ cls := "java/lang/System", name := "arraycopy", desc := "(Ljava/lang/Object;ILjava/lang/Object;II)V" } : Jvm.MethodName)) ∈ lw_all := lw_g (lw_at lw_m4 156 rfl) rfl
theorem q962 : (Jvm.Cond.methodLink "java/lang/String" (106 : Nat) ({ cls := "java/lang/StringLatin1", name := "inflate", desc := "([BI[BII)V" } : Jvm.MethodName)) ∈ lw_all := lw_g (lw_at lw_m4 157 rfl) rfl
theorem q993 : (Jvm.Cond.instantiable "java/lang/String" (4 : Nat)) ∈ lw_all := lw_g (lw_at lw_m4 188 rfl) rfl
theorem q995 : (Jvm.Cond.instanceMethod ({ cls := "java/lang/String", name := "<init>", desc := "(Ljava/lang/StringBuilder;)V" } : Jvm.MethodName)) ∈ lw_all := lw_g (lw_at lw_m4 190 rfl) rfl
theorem q996 : (Jvm.Cond.code ({ cls := "java/lang/String", name := "<init>", desc := "(Ljava/lang/StringBuilder;)V" } : Jvm.MethodName) prog_34_method_53_code (2 : Nat) (Option.none : Option Jvm.ClassFile.FieldType)) ∈ lw_all := lw_g (lw_at lw_m4 191 rfl) rfl
theorem q997 : (Jvm.Cond.methodLink "java/lang/String" (489 : Nat) ({ cls := "java/lang/String", name := "<init>", desc := "(Ljava/lang/AbstractStringBuilder;Ljava/lang/Void;)V" } : Jvm.MethodName)) ∈ lw_all := lw_g (lw_at lw_m4 192 rfl) rfl
theorem q998 : (Jvm.Cond.instanceMethod ({ cls := "java/lang/String", name := "<init>", desc := "(Ljava/lang/AbstractStringBuilder;Ljava/lang/Void;)V" } : Jvm.MethodName)) ∈ lw_all := lw_g (lw_at lw_m4 193 rfl) rfl
theorem q999 : (Jvm.Cond.code ({ cls := "java/lang/String", name := "<init>", desc := "(Ljava/lang/AbstractStringBuilder;Ljava/lang/Void;)V" } : Jvm.MethodName) prog_34_method_150_code (5 : Nat) (Option.none : Option Jvm.ClassFile.FieldType)) ∈ lw_all := lw_g (lw_at lw_m4 194 rfl) rfl
theorem q1000 : (Jvm.Cond.methodLink "java/lang/String" (1 : Nat) ({ cls := "java/lang/Object", name := "<init>", desc := "()V" } : Jvm.MethodName)) ∈ lw_all := lw_g (lw_at lw_m4 195 rfl) rfl
theorem q1001 : (Jvm.Cond.methodLink "java/lang/String" (552 : Nat) ({ cls := "java/lang/AbstractStringBuilder", name := "getValue", desc := "()[B" } : Jvm.MethodName)) ∈ lw_all := lw_g (lw_at lw_m4 196 rfl) rfl
theorem q1006 : (Jvm.Cond.methodLink "java/lang/String" (549 : Nat) ({ cls := "java/lang/AbstractStringBuilder", name := "length", desc := "()I" } : Jvm.MethodName)) ∈ lw_all := lw_g (lw_at lw_m4 201 rfl) rfl
theorem q1007 : (Jvm.Cond.methodLink "java/lang/String" (1047 : Nat) ({ cls := "java/lang/AbstractStringBuilder", name := "isLatin1", desc := "()Z" } : Jvm.MethodName)) ∈ lw_all := lw_g (lw_at lw_m4 202 rfl) rfl
theorem q1008 : (Jvm.Cond.methodLink "java/lang/String" (54 : Nat) ({ cls := "java/util/Arrays", name := "copyOfRange", desc := "([BII)[B" } : Jvm.MethodName)) ∈ lw_all := lw_g (lw_at lw_m4 203 rfl) rfl
theorem q1038 : (Jvm.Cond.methodLink "java/lang/String" (1051 : Nat) ({ cls := "java/lang/StringUTF16", name := "compress", desc := "([BII)[B" } : Jvm.MethodName)) ∈ lw_all := lw_g (lw_at lw_m4 233 rfl) rfl
theorem q1045 : (Jvm.Cond.methodLink "java/lang/String" (47 : Nat) ({ cls := "java/lang/StringUTF16", name := "coderFromArrayLen", desc := "([BI)B" } : Jvm.MethodName)) ∈ lw_all := lw_g (lw_at lw_m5 0 rfl) rfl
theorem q1048 : (Jvm.Cond.fieldLink "java/lang/String" (9 : Nat) "java/lang/String" "value" "[B") ∈ lw_all := lw_g (lw_at lw_m5 3 rfl) rfl
theorem q1049 : (Jvm.Cond.fieldLink "java/lang/String" (15 : Nat) "java/lang/String" "coder" "B") ∈ lw_all := lw_g (lw_at lw_m5 4 rfl) rfl
theorem q1050 : (Jvm.Cond.laysFinal "java/lang/String" "java/lang/String" "value" "[B") ∈ lw_all := lw_g (lw_at lw_m5 5 rfl) rfl
theorem q1051 : (Jvm.Cond.soleField "java/lang/String" "value") ∈ lw_all := lw_g (lw_at lw_m5 6 rfl) rfl
theorem q1052 : (Jvm.Cond.laysFinal "java/lang/String" "java/lang/String" "coder" "B") ∈ lw_all := lw_g (lw_at lw_m5 7 rfl) rfl
theorem q1053 : (Jvm.Cond.soleField "java/lang/String" "coder") ∈ lw_all := lw_g (lw_at lw_m5 8 rfl) rfl
theorem q1054 : (Jvm.Cond.lays "java/lang/String" "java/lang/String" "hash" "I") ∈ lw_all := lw_g (lw_at lw_m5 9 rfl) rfl
theorem q1055 : (Jvm.Cond.soleField "java/lang/String" "hash") ∈ lw_all := lw_g (lw_at lw_m5 10 rfl) rfl
theorem q1056 : (Jvm.Cond.lays "java/lang/String" "java/lang/String" "hashIsZero" "Z") ∈ lw_all := lw_g (lw_at lw_m5 11 rfl) rfl
theorem q1057 : (Jvm.Cond.soleField "java/lang/String" "hashIsZero") ∈ lw_all := lw_g (lw_at lw_m5 12 rfl) rfl
theorem q1058 : (Jvm.Cond.superclass "java/lang/String" "java/lang/Object") ∈ lw_all := lw_g (lw_at lw_m5 13 rfl) rfl
theorem q1125 : (Jvm.Cond.static ({ cls := "java/lang/String", name := "checkIndex", desc := "(II)V" } : Jvm.MethodName)) ∈ lw_all := lw_g (lw_at lw_m5 80 rfl) rfl
theorem q1126 : (Jvm.Cond.code ({ cls := "java/lang/String", name := "checkIndex", desc := "(II)V" } : Jvm.MethodName) prog_34_method_155_code (2 : Nat) (Option.none : Option Jvm.ClassFile.FieldType)) ∈ lw_all := lw_g (lw_at lw_m5 81 rfl) rfl
theorem q1127 : (Jvm.Cond.methodLink "java/lang/String" (1059 : Nat) ({ cls := "jdk/internal/util/Preconditions", name := "checkIndex", desc := "(IILjava/util/function/BiFunction;)I" } : Jvm.MethodName)) ∈ lw_all := lw_g (lw_at lw_m5 82 rfl) rfl
theorem q1665 : (Jvm.Cond.castable "java/lang/String" "java/lang/CharSequence") ∈ lw_tbl := lw_at lw_m7 140 rfl
theorem q1666 : (Jvm.Cond.selects "java/lang/String" ({ cls := "java/lang/CharSequence", name := "length", desc := "()I" } : Jvm.MethodName) ({ cls := "java/lang/String", name := "length", desc := "()I" } : Jvm.MethodName)) ∈ lw_all := lw_g (lw_at lw_m7 141 rfl) rfl
theorem q1667 : (Jvm.Cond.unhidden "java/lang/String" "length" "()I") ∈ lw_tbl := lw_at lw_m7 142 rfl
theorem q1668 : (Jvm.Cond.publicMethod ({ cls := "java/lang/String", name := "length", desc := "()I" } : Jvm.MethodName)) ∈ lw_tbl := lw_at lw_m7 143 rfl
theorem q1677 : (Jvm.Cond.selects "java/lang/String" ({ cls := "java/lang/CharSequence", name := "charAt", desc := "(I)C" } : Jvm.MethodName) ({ cls := "java/lang/String", name := "charAt", desc := "(I)C" } : Jvm.MethodName)) ∈ lw_all := lw_g (lw_at lw_m7 152 rfl) rfl
theorem q1678 : (Jvm.Cond.unhidden "java/lang/String" "charAt" "(I)C") ∈ lw_tbl := lw_at lw_m7 153 rfl
theorem q1679 : (Jvm.Cond.instanceMethod ({ cls := "java/lang/String", name := "charAt", desc := "(I)C" } : Jvm.MethodName)) ∈ lw_all := lw_g (lw_at lw_m7 154 rfl) rfl
theorem q1680 : (Jvm.Cond.publicMethod ({ cls := "java/lang/String", name := "charAt", desc := "(I)C" } : Jvm.MethodName)) ∈ lw_tbl := lw_at lw_m7 155 rfl
theorem q1681 : (Jvm.Cond.code ({ cls := "java/lang/String", name := "charAt", desc := "(I)C" } : Jvm.MethodName) prog_34_method_56_code (2 : Nat) (Option.some Jvm.ClassFile.FieldType.char)) ∈ lw_all := lw_g (lw_at lw_m7 156 rfl) rfl
theorem q1682 : (Jvm.Cond.methodLink "java/lang/String" (492 : Nat) ({ cls := "java/lang/String", name := "isLatin1", desc := "()Z" } : Jvm.MethodName)) ∈ lw_all := lw_g (lw_at lw_m7 157 rfl) rfl
theorem q1683 : (Jvm.Cond.instanceMethod ({ cls := "java/lang/String", name := "isLatin1", desc := "()Z" } : Jvm.MethodName)) ∈ lw_all := lw_g (lw_at lw_m7 158 rfl) rfl
theorem q1684 : (Jvm.Cond.selects "java/lang/String" ({ cls := "java/lang/String", name := "isLatin1", desc := "()Z" } : Jvm.MethodName) ({ cls := "java/lang/String", name := "isLatin1", desc := "()Z" } : Jvm.MethodName)) ∈ lw_all := lw_g (lw_at lw_m7 159 rfl) rfl
theorem q1685 : (Jvm.Cond.code ({ cls := "java/lang/String", name := "isLatin1", desc := "()Z" } : Jvm.MethodName) prog_34_method_154_code (1 : Nat) (Option.some Jvm.ClassFile.FieldType.boolean)) ∈ lw_all := lw_g (lw_at lw_m7 160 rfl) rfl
theorem q1686 : (Jvm.Cond.methodLink "java/lang/String" (495 : Nat) ({ cls := "java/lang/StringLatin1", name := "charAt", desc := "([BI)C" } : Jvm.MethodName)) ∈ lw_all := lw_g (lw_at lw_m7 161 rfl) rfl
theorem q1690 : (Jvm.Cond.methodLink "java/lang/String" (498 : Nat) ({ cls := "java/lang/StringUTF16", name := "charAt", desc := "([BI)C" } : Jvm.MethodName)) ∈ lw_all := lw_g (lw_at lw_m7 165 rfl) rfl
theorem q2410 : (Jvm.Cond.castable "java/lang/String" "java/lang/Object") ∈ lw_tbl := lw_at lw_m10 165 rfl
theorem in_J4 : ∀ w ∈ wsJ40, w ∈ lw_all := lw_in wsJ40 [1050, 1052, 1054, 1056] (by decide +kernel) (by decide +kernel)
